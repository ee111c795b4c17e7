/-! PURE SIDE: sums, hands, wishes of sets; best sets -/
set_option maxRecDepth 100000
section
variable {N : Nat} {h : Nat → Option Nat} {w d s : Nat → Nat} {f a : Nat} {σ τ : gw_S}
/-! worth -/
def sp_worth (w : Nat → Nat) (t : Nat) : Nat → Nat := sp_f (fun p n => n + (if t.testBit p then w p else 0)) 0
theorem sp_worth_lt {w : Nat → Nat} {t : Nat} : ∀ n, (∀ p, p < n → w p < 1000) → sp_worth w t n ≤ 1000 * n := by
  intro n
  induction n with
  | zero => intro _; exact Nat.le_refl _
  | succ n ih =>
    intro hw
    show sp_worth w t n + (if t.testBit n then w n else 0) ≤ 1000 * (n + 1)
    have h1 := ih (fun p hp => hw p (by omega))
    have h2 := hw n (by omega)
    split <;> omega
theorem vw.worth (V : vw N h w d s f a) (t : Nat) : sp_worth w t N < 8001 := by
  have h1 := sp_worth_lt (w := w) (t := t) N (fun p hp => V.wb hp)
  have h2 := V.1
  omega
theorem xe_worth (V : vw N h w d s f a) (X : vX N h w d s f a σ) {t : Nat} (ht : t < 256) : fx_X0_worthOf σ (nI t) = some (nI (sp_worth w t N)) := by
  have h8 := V.1
  unfold fx_X0_worthOf
  refine pq_fold (fun n (b : Nat) c => fx_X0_worthOf_L4 σ (nI t) n (nI b) c) (fun b => some (nI b)) N (fun p n => n + (if t.testBit p then w p else 0)) 0 (fun _ _ => True) trivial ?_ ?_ 1000 (by omega)
  · intro n b _
    show fx_X0_worthOf_L4 σ (nI t) (n + 1) (nI b) (nI N) = _
    rw [fx_X0_worthOf_L4, X.1, if_pos (nI_le (Nat.le_refl _) (by omega))]
  · intro n i b hi _
    refine ⟨trivial, ?_⟩
    show fx_X0_worthOf_L4 σ (nI t) (n + 1) (nI b) (nI i) = fx_X0_worthOf_L4 σ (nI t) n (nI (b + (if t.testBit i then w i else 0))) (nI i + 1)
    rw [fx_X0_worthOf_L4, X.1, if_neg (nI_ge hi (by omega)), pq_bit (by omega) (by omega), pq_ck (by omega) (by omega), nI_clamp (by omega), X.ww hi]
    by_cases e : t.testBit i = true
    · rw [if_pos e, if_pos e, nI_add]
    · rw [if_neg e, if_neg e, pq_add0, Nat.add_zero]
theorem me_worth (V : vw N h w d s f a) (M : vM N h w d s f a τ) {t : Nat} (ht : t < 256) : fx_X3_worthOf τ (nI t) = some (nI (sp_worth w t N)) := by
  have h8 := V.1
  unfold fx_X3_worthOf
  refine pq_fold (fun n (b : Nat) c => fx_X3_worthOf_L4 τ (nI t) n (nI b) c) (fun b => some (nI b)) N (fun p n => n + (if t.testBit p then w p else 0)) 0 (fun _ _ => True) trivial ?_ ?_ 1000 (by omega)
  · intro n b _
    show fx_X3_worthOf_L4 τ (nI t) (n + 1) (nI b) (nI N) = _
    rw [fx_X3_worthOf_L4, M.1, if_pos (nI_le (Nat.le_refl _) (by omega))]
  · intro n i b hi _
    refine ⟨trivial, ?_⟩
    show fx_X3_worthOf_L4 τ (nI t) (n + 1) (nI b) (nI i) = fx_X3_worthOf_L4 τ (nI t) n (nI (b + (if t.testBit i then w i else 0))) (nI i + 1)
    rw [fx_X3_worthOf_L4, M.1, if_neg (nI_ge hi (by omega)), pq_bitM (by omega) (by omega), M.o0 V hi, gw_b1_s]
    by_cases e : t.testBit i = true
    · rw [if_pos e, if_pos e, nI_add]
    · rw [if_neg e, if_neg e, pq_add0, Nat.add_zero]
/-! hands of a set -/
def sp_hand (h : Nat → Option Nat) (N p : Nat) : Nat := sp_set (fun c => decide (h c = some p)) N
def sp_hands (h : Nat → Option Nat) (N t : Nat) : Nat := sp_f (fun p b => b ||| (if t.testBit p then sp_hand h N p else 0)) 0 N
theorem sp_hands_lt {t : Nat} : sp_hands h N t < 2 ^ N := by
  have key : ∀ n, sp_f (fun p b => b ||| (if t.testBit p then sp_hand h N p else 0)) 0 n < 2 ^ N := by
    intro n
    induction n with
    | zero => exact Nat.two_pow_pos N
    | succ n ih =>
      refine Nat.or_lt_two_pow ih ?_
      split
      · exact sp_set_lt _ _
      · exact Nat.two_pow_pos N
  exact key N
theorem xe_handI (V : vw N h w d s f a) (X : vX N h w d s f a σ) {p : Nat} (hp : p < N) : fx_X0_handOf σ (nI p) = some (nI (sp_hand h N p)) := by
  have h8 := V.1
  exact xe_hand (v := some p) V X (fun k e => by cases e; omega)
theorem xe_hands (V : vw N h w d s f a) (X : vX N h w d s f a σ) {t : Nat} (ht : t < 256) : fx_X0_handsOf σ (nI t) = some (nI (sp_hands h N t)) := by
  have h8 := V.1
  unfold fx_X0_handsOf
  refine pq_fold (fun n (b : Nat) c => fx_X0_handsOf_L4 σ (nI t) n (nI b) c) (fun b => some (nI b)) N (fun p b => b ||| (if t.testBit p then sp_hand h N p else 0)) 0 (fun _ _ => True) trivial ?_ ?_ 1000 (by omega)
  · intro n b _
    show fx_X0_handsOf_L4 σ (nI t) (n + 1) (nI b) (nI N) = _
    rw [fx_X0_handsOf_L4, X.1, if_pos (nI_le (Nat.le_refl _) (by omega))]
  · intro n i b hi _
    refine ⟨trivial, ?_⟩
    show fx_X0_handsOf_L4 σ (nI t) (n + 1) (nI b) (nI i) = fx_X0_handsOf_L4 σ (nI t) n (nI (b ||| (if t.testBit i then sp_hand h N i else 0))) (nI i + 1)
    rw [fx_X0_handsOf_L4, X.1, if_neg (nI_ge hi (by omega)), pq_bit (by omega) (by omega), xe_handI V X hi, gw_b1_s]
    by_cases e : t.testBit i = true
    · rw [if_pos e, if_pos e, pq_or]
    · rw [if_neg e, if_neg e, pq_or0, Nat.or_zero]
theorem me_handI (V : vw N h w d s f a) (M : vM N h w d s f a τ) {p : Nat} (hp : p < N) : fx_X3_handOf τ (nI p) = some (nI (sp_hand h N p)) := by
  have h8 := V.1
  exact me_hand (v := some p) V M (fun k e => by cases e; omega)
theorem me_hands (V : vw N h w d s f a) (M : vM N h w d s f a τ) {t : Nat} (ht : t < 256) : fx_X3_handsOf τ (nI t) = some (nI (sp_hands h N t)) := by
  have h8 := V.1
  unfold fx_X3_handsOf
  refine pq_fold (fun n (b : Nat) c => fx_X3_handsOf_L4 τ (nI t) n (nI b) c) (fun b => some (nI b)) N (fun p b => b ||| (if t.testBit p then sp_hand h N p else 0)) 0 (fun _ _ => True) trivial ?_ ?_ 1000 (by omega)
  · intro n b _
    show fx_X3_handsOf_L4 τ (nI t) (n + 1) (nI b) (nI N) = _
    rw [fx_X3_handsOf_L4, M.1, if_pos (nI_le (Nat.le_refl _) (by omega))]
  · intro n i b hi _
    refine ⟨trivial, ?_⟩
    show fx_X3_handsOf_L4 τ (nI t) (n + 1) (nI b) (nI i) = fx_X3_handsOf_L4 τ (nI t) n (nI (b ||| (if t.testBit i then sp_hand h N i else 0))) (nI i + 1)
    rw [fx_X3_handsOf_L4, M.1, if_neg (nI_ge hi (by omega)), pq_bitM (by omega) (by omega), me_handI V M hi, gw_b1_s]
    by_cases e : t.testBit i = true
    · rw [if_pos e, if_pos e, pq_or]
    · rw [if_neg e, if_neg e, pq_or0, Nat.or_zero]
/-! who wishes all of some deeds -/
def sp_wish (s : Nat → Nat) (b : Nat) : Nat → Nat := sp_set (fun p => decide (nd b (s p) = 0))
theorem nd_lt {x y n : Nat} (hx : x < 2 ^ n) : nd x y < 2 ^ n := by
  apply Nat.lt_pow_two_of_testBit
  intro i hi
  rw [nd_bit, Nat.testBit_lt_two_pow (Nat.lt_of_lt_of_le hx (Nat.pow_le_pow_right (by decide) hi))]
  rfl
theorem nd_zero {x y n : Nat} (hx : x < 2 ^ n) (hn : n < 31) : (nI x &&& (nI y ^^^ (-1)) = 0) ↔ nd x y = 0 := by
  rw [pq_andn]
  have h1 := nd_lt (y := y) hx
  have h2 : 2 ^ n < 2 ^ 31 := Nat.pow_lt_pow_right (by decide) hn
  exact nI_eq (b := 0) (by omega) (by omega)
theorem xe_wish (V : vw N h w d s f a) (X : vX N h w d s f a σ) {b : Nat} (hb : b < 64) : fx_X0_wishing σ (nI b) = some (nI (sp_wish s b N)) := by
  have h8 := V.1
  unfold fx_X0_wishing
  refine pq_fold (fun n (t : Nat) c => fx_X0_wishing_L4 σ (nI b) n (nI t) c) (fun t => some (nI t)) N (fun p t => t ||| (if decide (nd b (s p) = 0) then 2 ^ p else 0)) 0 (fun _ _ => True) trivial ?_ ?_ 1000 (by omega)
  · intro n t _
    show fx_X0_wishing_L4 σ (nI b) (n + 1) (nI t) (nI N) = _
    rw [fx_X0_wishing_L4, X.1, if_pos (nI_le (Nat.le_refl _) (by omega))]
  · intro n i t hi _
    refine ⟨trivial, ?_⟩
    show fx_X0_wishing_L4 σ (nI b) (n + 1) (nI t) (nI i) = fx_X0_wishing_L4 σ (nI b) n (nI (t ||| (if decide (nd b (s i) = 0) then 2 ^ i else 0))) (nI i + 1)
    rw [fx_X0_wishing_L4, X.1, if_neg (nI_ge hi (by omega)), pq_ck (by omega) (by omega), nI_clamp (by omega), X.ss hi]
    have z := nd_zero (x := b) (y := s i) (n := 6) hb (by omega)
    by_cases e : nd b (s i) = 0
    · rw [if_pos (z.mpr e), pq_shl1 i (by omega), pq_or, if_pos (by simp [e])]
    · rw [if_neg (fun q => e (z.mp q)), pq_or0, if_neg (by simp [e]), Nat.or_zero]
theorem me_wish (V : vw N h w d s f a) (M : vM N h w d s f a τ) {b : Nat} (hb : b < 64) : fx_X3_wishing τ (nI b) = some (nI (sp_wish s b N)) := by
  have h8 := V.1
  unfold fx_X3_wishing
  refine pq_fold (fun n (t : Nat) c => fx_X3_wishing_L4 τ (nI b) n (nI t) c) (fun t => some (nI t)) N (fun p t => t ||| (if decide (nd b (s p) = 0) then 2 ^ p else 0)) 0 (fun _ _ => True) trivial ?_ ?_ 1000 (by omega)
  · intro n t _
    show fx_X3_wishing_L4 τ (nI b) (n + 1) (nI t) (nI N) = _
    rw [fx_X3_wishing_L4, M.1, if_pos (nI_le (Nat.le_refl _) (by omega))]
  · intro n i t hi _
    refine ⟨trivial, ?_⟩
    show fx_X3_wishing_L4 τ (nI b) (n + 1) (nI t) (nI i) = fx_X3_wishing_L4 τ (nI b) n (nI (t ||| (if decide (nd b (s i) = 0) then 2 ^ i else 0))) (nI i + 1)
    rw [fx_X3_wishing_L4, M.1, if_neg (nI_ge hi (by omega)), M.o2 V hi, gw_b1_s]
    have z := nd_zero (x := b) (y := s i) (n := 6) hb (by omega)
    by_cases e : nd b (s i) = 0
    · rw [if_pos (z.mpr e), pq_shl1 i (by omega), pq_or, if_pos (by simp [e])]
    · rw [if_neg (fun q => e (z.mp q)), pq_or0, if_neg (by simp [e]), Nat.or_zero]
/-! the best of all sets: least by m of those that are ok -/
def st_best (m : Nat → Nat) (ok : Nat → Bool) (t : Nat) (b : Option Nat) : Option Nat := match b with
  | none => if ok t then some t else none
  | some x => if m t < m x then (if ok t then some t else some x) else some x
theorem st_best_lt {m : Nat → Nat} {ok : Nat → Bool} {t : Nat} {b : Option Nat} (hb : ∀ x, b = some x → x < t) : ∀ x, st_best m ok t b = some x → x < t + 1 := by
  intro x e
  cases b with
  | none =>
    have e : (if ok t then some t else none) = some x := e
    split at e
    · cases e; omega
    · cases e
  | some y =>
    have hy := hb y rfl
    have e : (if m t < m y then (if ok t then some t else some y) else some y) = some x := e
    split at e
    · split at e
      · cases e; omega
      · cases e; omega
    · cases e; omega
def sp_best (m : Nat → Nat) (ok : Nat → Bool) : Nat → Option Nat := sp_f (st_best m ok) none
theorem sp_best_lt (m : Nat → Nat) (ok : Nat → Bool) : ∀ n x, sp_best m ok n = some x → x < n := by
  intro n
  induction n with
  | zero => intro x e; cases e
  | succ n ih => exact st_best_lt ih
theorem all_X (V : vw N h w d s f a) (X : vX N h w d s f a σ) : fx_X0_all σ = nI (2 ^ N - 1) := by
  have h8 := V.1
  unfold fx_X0_all
  rw [X.1, pq_shl1 N (by omega), show (1 : Int32) = nI 1 from rfl, pk_sub (Nat.two_pow_pos N)]
theorem pw256 (V : vw N h w d s f a) : 2 ^ N ≤ 256 := Nat.pow_le_pow_right (n := 2) (by decide) V.1
theorem xe_buy (V : vw N h w d s f a) (X : vX N h w d s f a σ) {b : Nat} (hb : b < 64) : fx_X0_buyOf σ (nI b) = some (oI (sp_best (fun t => sp_worth w t N) (fun t => decide (nd b (sp_deeds d t N) = 0)) (2 ^ N))) := by
  have h8 := V.1
  have hp := pw256 V
  have hp0 := Nat.two_pow_pos N
  unfold fx_X0_buyOf
  refine pq_fold (fun n (x : Option Nat) c => fx_X0_buyOf_L4 σ (nI b) n (oI x) c) (fun x => some (oI x)) (2 ^ N) (st_best (fun t => sp_worth w t N) (fun t => decide (nd b (sp_deeds d t N) = 0))) none (fun i y => ∀ x, y = some x → x < i) (fun x e => by cases e) ?_ ?_ 1000 (by omega)
  · intro n y _
    show fx_X0_buyOf_L4 σ (nI b) (n + 1) (oI y) (nI (2 ^ N)) = _
    rw [fx_X0_buyOf_L4, all_X V X, if_pos (nI_lt (by omega) (by omega))]
  · intro n i y hi hI
    refine ⟨st_best_lt hI, ?_⟩
    have z := nd_zero (x := b) (y := sp_deeds d i N) (n := 6) hb (by omega)
    show fx_X0_buyOf_L4 σ (nI b) (n + 1) (oI y) (nI i) = fx_X0_buyOf_L4 σ (nI b) n (oI (st_best (fun t => sp_worth w t N) (fun t => decide (nd b (sp_deeds d t N) = 0)) i y)) (nI i + 1)
    rw [fx_X0_buyOf_L4, all_X V X, if_neg (nI_nlt (by omega) (by omega)), xe_deeds V X (by omega)]
    simp only [gw_b1_s]
    cases y with
    | none =>
      rw [oI_none, if_pos rfl]
      show _ = fx_X0_buyOf_L4 σ (nI b) n (oI (if decide (nd b (sp_deeds d i N) = 0) then some i else none)) (nI i + 1)
      by_cases e : nd b (sp_deeds d i N) = 0
      · rw [if_pos (z.mpr e), if_pos (by simp [e])]; rfl
      · rw [if_neg (fun q => e (z.mp q)), if_neg (by simp [e])]; rfl
    | some x =>
      have hx := hI x rfl
      rw [oI_some, if_neg (nI_m1 (by omega)), xe_worth V X (by omega), xe_worth V X (by omega)]
      simp only [gw_b1_s]
      show _ = fx_X0_buyOf_L4 σ (nI b) n (oI (if sp_worth w i N < sp_worth w x N then (if decide (nd b (sp_deeds d i N) = 0) then some i else some x) else some x)) (nI i + 1)
      have w1 := V.worth i
      have w2 := V.worth x
      by_cases l : sp_worth w i N < sp_worth w x N
      · rw [if_neg (nI_ge l (by omega)), if_pos l]
        by_cases e : nd b (sp_deeds d i N) = 0
        · rw [if_pos (z.mpr e), if_pos (by simp [e])]; rfl
        · rw [if_neg (fun q => e (z.mp q)), if_neg (by simp [e])]; rfl
      · rw [if_pos (nI_le (by omega) (by omega)), if_neg l]; rfl
theorem me_buy (V : vw N h w d s f a) (M : vM N h w d s f a τ) {b : Nat} (hb : b < 64) : fx_X3_boughtOf τ (nI b) = some (oI (sp_best (fun t => sp_worth w t N) (fun t => decide (nd b (sp_deeds d t N) = 0)) (2 ^ N))) := by
  have h8 := V.1
  have hp := pw256 V
  have hp0 := Nat.two_pow_pos N
  unfold fx_X3_boughtOf
  refine pq_fold (fun n (x : Option Nat) c => fx_X3_boughtOf_L4 τ (nI b) n (oI x) c) (fun x => some (oI x)) (2 ^ N) (st_best (fun t => sp_worth w t N) (fun t => decide (nd b (sp_deeds d t N) = 0))) none (fun i y => ∀ x, y = some x → x < i) (fun x e => by cases e) ?_ ?_ 1000 (by omega)
  · intro n y _
    show fx_X3_boughtOf_L4 τ (nI b) (n + 1) (oI y) (nI (2 ^ N)) = _
    rw [fx_X3_boughtOf_L4, M.1, pq_shl1 N (by omega), if_pos (nI_le (Nat.le_refl _) (by omega))]
  · intro n i y hi hI
    refine ⟨st_best_lt hI, ?_⟩
    have z := nd_zero (x := b) (y := sp_deeds d i N) (n := 6) hb (by omega)
    show fx_X3_boughtOf_L4 τ (nI b) (n + 1) (oI y) (nI i) = fx_X3_boughtOf_L4 τ (nI b) n (oI (st_best (fun t => sp_worth w t N) (fun t => decide (nd b (sp_deeds d t N) = 0)) i y)) (nI i + 1)
    rw [fx_X3_boughtOf_L4, M.1, pq_shl1 N (by omega), if_neg (nI_ge hi (by omega)), me_deeds V M (by omega)]
    simp only [gw_b1_s]
    cases y with
    | none =>
      rw [oI_none, if_pos rfl]
      show _ = fx_X3_boughtOf_L4 τ (nI b) n (oI (if decide (nd b (sp_deeds d i N) = 0) then some i else none)) (nI i + 1)
      by_cases e : nd b (sp_deeds d i N) = 0
      · rw [if_pos (z.mpr e), if_pos (by simp [e])]; rfl
      · rw [if_neg (fun q => e (z.mp q)), if_neg (by simp [e])]; rfl
    | some x =>
      have hx := hI x rfl
      rw [oI_some, if_neg (nI_m1 (by omega)), me_worth V M (by omega), me_worth V M (by omega)]
      simp only [gw_b1_s]
      show _ = fx_X3_boughtOf_L4 τ (nI b) n (oI (if sp_worth w i N < sp_worth w x N then (if decide (nd b (sp_deeds d i N) = 0) then some i else some x) else some x)) (nI i + 1)
      have w1 := V.worth i
      have w2 := V.worth x
      by_cases l : sp_worth w i N < sp_worth w x N
      · rw [if_neg (nI_ge l (by omega)), if_pos l]
        by_cases e : nd b (sp_deeds d i N) = 0
        · rw [if_pos (z.mpr e), if_pos (by simp [e])]; rfl
        · rw [if_neg (fun q => e (z.mp q)), if_neg (by simp [e])]; rfl
      · rw [if_pos (nI_le (by omega) (by omega)), if_neg l]; rfl
theorem pc_Xs {t : Nat} (ht : t < 256) : fx_J13_bitCount (nI t) = nI (pc t) := pc_X t ht
theorem pc_Ms {t : Nat} (ht : t < 256) : fx_X3_sizeOf (nI t) = some (nI (pc t)) := pc_M t ht
theorem pc_b {t : Nat} (ht : t < 256) : pc t < 2 ^ 31 := by
  have := pc_le t ht
  omega
theorem vw.hands (V : vw N h w d s f a) (t : Nat) : sp_hands h N t < 256 := pw8 V.1 sp_hands_lt
theorem vw.dl (V : vw N h w d s f a) (t : Nat) : sp_deeds d t N < 64 := sp_deeds_lt d t N (fun p hp => V.db hp)
theorem xe_cover (V : vw N h w d s f a) (X : vX N h w d s f a σ) {b : Nat} (hb : b < 64) : fx_X0_coverOf_L8 σ (nI b) 1000 (-1) 0 = some (oI (sp_best pc (fun t => decide (nd b (sp_deeds d (sp_hands h N t) N) = 0)) (2 ^ N)), σ) := by
  have h8 := V.1
  have hp := pw256 V
  have hp0 := Nat.two_pow_pos N
  refine pq_fold (fun n (x : Option Nat) c => fx_X0_coverOf_L8 σ (nI b) n (oI x) c) (fun x => some (oI x, σ)) (2 ^ N) (st_best pc (fun t => decide (nd b (sp_deeds d (sp_hands h N t) N) = 0))) none (fun i y => ∀ x, y = some x → x < i) (fun x e => by cases e) ?_ ?_ 1000 (by omega)
  · intro n y _
    show fx_X0_coverOf_L8 σ (nI b) (n + 1) (oI y) (nI (2 ^ N)) = _
    rw [fx_X0_coverOf_L8, all_X V X, if_pos (nI_lt (by omega) (by omega))]
  · intro n i y hi hI
    refine ⟨st_best_lt hI, ?_⟩
    have z := nd_zero (x := b) (y := sp_deeds d (sp_hands h N i) N) (n := 6) hb (by omega)
    show fx_X0_coverOf_L8 σ (nI b) (n + 1) (oI y) (nI i) = fx_X0_coverOf_L8 σ (nI b) n (oI (st_best pc (fun t => decide (nd b (sp_deeds d (sp_hands h N t) N) = 0)) i y)) (nI i + 1)
    rw [fx_X0_coverOf_L8, all_X V X, if_neg (nI_nlt (by omega) (by omega)), xe_hands V X (by omega)]
    simp only [gw_b1_s]
    rw [xe_deeds V X (V.hands i)]
    simp only [gw_b1_s]
    cases y with
    | none =>
      rw [oI_none, if_pos rfl]
      show _ = fx_X0_coverOf_L8 σ (nI b) n (oI (if decide (nd b (sp_deeds d (sp_hands h N i) N) = 0) then some i else none)) (nI i + 1)
      by_cases e : nd b (sp_deeds d (sp_hands h N i) N) = 0
      · rw [if_pos (z.mpr e), if_pos (by simp [e])]; rfl
      · rw [if_neg (fun q => e (z.mp q)), if_neg (by simp [e])]; rfl
    | some x =>
      have hx := hI x rfl
      rw [oI_some, if_neg (nI_m1 (by omega)), pc_Xs (by omega), pc_Xs (by omega)]
      show _ = fx_X0_coverOf_L8 σ (nI b) n (oI (if pc i < pc x then (if decide (nd b (sp_deeds d (sp_hands h N i) N) = 0) then some i else some x) else some x)) (nI i + 1)
      try simp only [gw_b1_s]
      have w1 := pc_b (t := i) (by omega)
      have w2 := pc_b (t := x) (by omega)
      by_cases l : pc i < pc x
      · rw [if_neg (nI_ge l (by omega)), if_pos l]
        by_cases e : nd b (sp_deeds d (sp_hands h N i) N) = 0
        · rw [if_pos (z.mpr e), if_pos (by simp [e])]; rfl
        · rw [if_neg (fun q => e (z.mp q)), if_neg (by simp [e])]; rfl
      · rw [if_pos (nI_le (by omega) (by omega)), if_neg l]; rfl
theorem me_cover (V : vw N h w d s f a) (M : vM N h w d s f a τ) {b : Nat} (hb : b < 64) : fx_X3_coversOf_L8 τ (nI b) 1000 (-1) 0 = some (oI (sp_best pc (fun t => decide (nd b (sp_deeds d (sp_hands h N t) N) = 0)) (2 ^ N)), τ) := by
  have h8 := V.1
  have hp := pw256 V
  have hp0 := Nat.two_pow_pos N
  refine pq_fold (fun n (x : Option Nat) c => fx_X3_coversOf_L8 τ (nI b) n (oI x) c) (fun x => some (oI x, τ)) (2 ^ N) (st_best pc (fun t => decide (nd b (sp_deeds d (sp_hands h N t) N) = 0))) none (fun i y => ∀ x, y = some x → x < i) (fun x e => by cases e) ?_ ?_ 1000 (by omega)
  · intro n y _
    show fx_X3_coversOf_L8 τ (nI b) (n + 1) (oI y) (nI (2 ^ N)) = _
    rw [fx_X3_coversOf_L8, M.1, pq_shl1 N (by omega), if_pos (nI_le (Nat.le_refl _) (by omega))]
  · intro n i y hi hI
    refine ⟨st_best_lt hI, ?_⟩
    have z := nd_zero (x := b) (y := sp_deeds d (sp_hands h N i) N) (n := 6) hb (by omega)
    show fx_X3_coversOf_L8 τ (nI b) (n + 1) (oI y) (nI i) = fx_X3_coversOf_L8 τ (nI b) n (oI (st_best pc (fun t => decide (nd b (sp_deeds d (sp_hands h N t) N) = 0)) i y)) (nI i + 1)
    rw [fx_X3_coversOf_L8, M.1, pq_shl1 N (by omega), if_neg (nI_ge hi (by omega)), me_hands V M (by omega)]
    simp only [gw_b1_s]
    rw [me_deeds V M (V.hands i)]
    simp only [gw_b1_s]
    cases y with
    | none =>
      rw [oI_none, if_pos rfl]
      show _ = fx_X3_coversOf_L8 τ (nI b) n (oI (if decide (nd b (sp_deeds d (sp_hands h N i) N) = 0) then some i else none)) (nI i + 1)
      by_cases e : nd b (sp_deeds d (sp_hands h N i) N) = 0
      · rw [if_pos (z.mpr e), if_pos (by simp [e])]; rfl
      · rw [if_neg (fun q => e (z.mp q)), if_neg (by simp [e])]; rfl
    | some x =>
      have hx := hI x rfl
      rw [oI_some, if_neg (nI_m1 (by omega)), pc_Ms (by omega), pc_Ms (by omega)]
      show _ = fx_X3_coversOf_L8 τ (nI b) n (oI (if pc i < pc x then (if decide (nd b (sp_deeds d (sp_hands h N i) N) = 0) then some i else some x) else some x)) (nI i + 1)
      try simp only [gw_b1_s]
      have w1 := pc_b (t := i) (by omega)
      have w2 := pc_b (t := x) (by omega)
      by_cases l : pc i < pc x
      · rw [if_neg (nI_ge l (by omega)), if_pos l]
        by_cases e : nd b (sp_deeds d (sp_hands h N i) N) = 0
        · rw [if_pos (z.mpr e), if_pos (by simp [e])]; rfl
        · rw [if_neg (fun q => e (z.mp q)), if_neg (by simp [e])]; rfl
      · rw [if_pos (nI_le (by omega) (by omega)), if_neg l]; rfl
/-! who is hired for so much -/
def st_hire (d w : Nat → Nat) (N b t x : Nat) : Nat := if sp_worth w t N ≤ b then (if pc (sp_deeds d x N) < pc (sp_deeds d t N) then t else x) else x
theorem st_hire_lt {b t x K : Nat} (ht : t < K) (hx : x < K) : st_hire d w N b t x < K := by
  unfold st_hire
  split
  · split <;> omega
  · omega
theorem sp_f_shift {α : Type} (g : Nat → α → α) (x : α) : ∀ n, sp_f g x (n + 1) = sp_f (fun i => g (i + 1)) (g 0 x) n := by
  intro n
  induction n with
  | zero => rfl
  | succ n ih =>
    show g (n + 1) (sp_f g x (n + 1)) = g (n + 1) (sp_f (fun i => g (i + 1)) (g 0 x) n)
    rw [ih]
theorem xe_hire (V : vw N h w d s f a) (X : vX N h w d s f a σ) {b : Nat} (hb : b < 2 ^ 31) : fx_X0_hireOf σ (nI b) = some (nI (sp_f (st_hire d w N b) 0 (2 ^ N))) := by
  have h8 := V.1
  have hp := pw256 V
  have hp0 := Nat.two_pow_pos N
  unfold fx_X0_hireOf
  have e0 : sp_f (st_hire d w N b) 0 (2 ^ N) = sp_f (fun i => st_hire d w N b (i + 1)) 0 (2 ^ N - 1) := by
    obtain ⟨m, hm⟩ : ∃ m, 2 ^ N = m + 1 := ⟨2 ^ N - 1, by omega⟩
    rw [hm, sp_f_shift, Nat.add_sub_cancel]
    congr 1
    unfold st_hire
    split
    · exact if_neg (by omega)
    · rfl
  rw [e0]
  refine pq_fold (fun n (x : Nat) c => fx_X0_hireOf_L4 σ (nI b) n (nI x) (c + 1)) (fun x => some (nI x)) (2 ^ N - 1) (fun i => st_hire d w N b (i + 1)) 0 (fun i x => x < 2 ^ N) hp0 ?_ ?_ 1000 (by omega)
  · intro n y _
    show fx_X0_hireOf_L4 σ (nI b) (n + 1) (nI y) (nI (2 ^ N - 1) + 1) = _
    rw [fx_X0_hireOf_L4, all_X V X, nI_1, if_pos (nI_lt (by omega) (by omega))]
  · intro n i x hi hI
    refine ⟨st_hire_lt (by omega) hI, ?_⟩
    show fx_X0_hireOf_L4 σ (nI b) (n + 1) (nI x) (nI i + 1) = fx_X0_hireOf_L4 σ (nI b) n (nI (st_hire d w N b (i + 1) x)) (nI i + 1 + 1)
    have w1 := V.worth (i + 1)
    have d1 := V.dl (i + 1)
    have d2 := V.dl x
    rw [fx_X0_hireOf_L4, all_X V X, nI_1, if_neg (nI_nlt (by omega) (by omega)), xe_worth V X (by omega), xe_deeds V X (by omega), xe_deeds V X (by omega)]
    simp only [gw_b1_s]
    rw [pc_Xs (by omega), pc_Xs (by omega)]
    have q1 := pc_b (t := sp_deeds d (i + 1) N) (by omega)
    have q2 := pc_b (t := sp_deeds d x N) (by omega)
    unfold st_hire
    by_cases l : sp_worth w (i + 1) N ≤ b
    · rw [if_neg (nI_nlt l (by omega)), if_pos l]
      by_cases l2 : pc (sp_deeds d x N) < pc (sp_deeds d (i + 1) N)
      · rw [if_neg (nI_ge l2 (by omega)), if_pos l2]
      · rw [if_pos (nI_le (by omega) (by omega)), if_neg l2]
    · rw [if_pos (nI_lt (by omega) (by omega)), if_neg l]
theorem me_hire (V : vw N h w d s f a) (M : vM N h w d s f a τ) {b : Nat} (hb : b < 2 ^ 31) : fx_X3_hiredOf τ (nI b) = some (nI (sp_f (st_hire d w N b) 0 (2 ^ N))) := by
  have h8 := V.1
  have hp := pw256 V
  have hp0 := Nat.two_pow_pos N
  unfold fx_X3_hiredOf
  refine pq_fold (fun n (x : Nat) c => fx_X3_hiredOf_L4 τ (nI b) n (nI x) c) (fun x => some (nI x)) (2 ^ N) (st_hire d w N b) 0 (fun i x => x < 2 ^ N) hp0 ?_ ?_ 1000 (by omega)
  · intro n y _
    show fx_X3_hiredOf_L4 τ (nI b) (n + 1) (nI y) (nI (2 ^ N)) = _
    rw [fx_X3_hiredOf_L4, M.1, pq_shl1 N (by omega), if_pos (nI_le (Nat.le_refl _) (by omega))]
  · intro n i x hi hI
    refine ⟨st_hire_lt (by omega) hI, ?_⟩
    show fx_X3_hiredOf_L4 τ (nI b) (n + 1) (nI x) (nI i) = fx_X3_hiredOf_L4 τ (nI b) n (nI (st_hire d w N b i x)) (nI i + 1)
    have w1 := V.worth i
    have d1 := V.dl i
    have d2 := V.dl x
    rw [fx_X3_hiredOf_L4, M.1, pq_shl1 N (by omega), if_neg (nI_ge hi (by omega)), me_worth V M (by omega), me_deeds V M (by omega), me_deeds V M (by omega)]
    simp only [gw_b1_s]
    rw [pc_Ms (by omega), pc_Ms (by omega)]
    simp only [gw_b1_s]
    have q1 := pc_b (t := sp_deeds d i N) (by omega)
    have q2 := pc_b (t := sp_deeds d x N) (by omega)
    unfold st_hire
    by_cases l : sp_worth w i N ≤ b
    · rw [if_neg (nI_nlt l (by omega)), if_pos l]
      by_cases l2 : pc (sp_deeds d x N) < pc (sp_deeds d i N)
      · rw [if_neg (nI_ge l2 (by omega)), if_pos l2]
      · rw [if_pos (nI_le (by omega) (by omega)), if_neg l2]
    · rw [if_pos (nI_lt (by omega) (by omega)), if_neg l]
end
