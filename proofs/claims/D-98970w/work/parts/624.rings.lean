/-! PURE SIDE: rings, one's own back -/
set_option maxRecDepth 100000
/-- two loops side by side -/
theorem pq_two {α β R S : Type} (L : Nat → α → Int32 → Option R) (M : Nat → β → Int32 → Option S) (Q : Option R → Option S → Prop) (N : Nat) (I : Nat → α → β → Prop)
    (hend : ∀ n m a b, I N a b → Q (L (n + 1) a (nI N)) (M (m + 1) b (nI N)))
    (hstep : ∀ n m i a b, i < N → I i a b → (∀ a' b', I (i + 1) a' b' → Q (L n a' (nI i + 1)) (M m b' (nI i + 1))) → Q (L (n + 1) a (nI i)) (M (m + 1) b (nI i))) :
    ∀ n m i a b, i ≤ N → N - i < n → N - i < m → I i a b → Q (L n a (nI i)) (M m b (nI i)) := by
  intro n
  induction n with
  | zero => intro m i a b _ h _; omega
  | succ n ih =>
    intro m i a b hi hn hm hI
    obtain ⟨m, rfl⟩ : ∃ m', m = m' + 1 := ⟨m - 1, by omega⟩
    by_cases e : i < N
    · refine hstep n m i a b e hI (fun a' b' hb => ?_)
      rw [nI_1]
      exact ih m (i + 1) a' b' (by omega) (by omega) (by omega) hb
    · have e2 : i = N := by omega
      subst e2
      exact hend n m a b hI
section
variable {N : Nat} {h : Nat → Option Nat} {w d s : Nat → Nat} {f a : Nat} {σ τ : gw_S}
/-- how long one's ring is -/
def rg (h : Nat → Option Nat) (N p : Nat) : Option Nat := tm h (fun _ => 1) p N p 0
theorem tm1_way {g : Nat} : ∀ k q t r, tm h (fun _ => 1) g k q t = some r → ∃ j, 1 ≤ j ∧ j ≤ k ∧ r = t + j ∧ up h j q = some g ∧ ∀ l, 1 ≤ l → l < j → up h l q ≠ some g := by
  intro k
  induction k with
  | zero => intro q t r e; cases e
  | succ k ih =>
    intro q t r e
    cases eh : h q with
    | none => rw [tm_n eh] at e; cases e
    | some x =>
      rw [tm_s eh] at e
      by_cases y : x = g
      · rw [if_pos y] at e
        cases e
        exact ⟨1, by omega, by omega, rfl, by rw [up_1, eh, y], fun l l1 l2 => by omega⟩
      · rw [if_neg y] at e
        obtain ⟨j, j1, j2, j3, j4, j5⟩ := ih x (t + 1) r e
        refine ⟨j + 1, by omega, by omega, by omega, by rw [up_s eh]; exact j4, fun l l1 l2 z => ?_⟩
        obtain ⟨l', rfl⟩ : ∃ l', l = l' + 1 := ⟨l - 1, by omega⟩
        rw [up_s eh] at z
        by_cases z0 : l' = 0
        · subst z0
          cases (show some x = some g from z)
          exact y rfl
        · exact j5 l' (by omega) (by omega) z
theorem rg_way {p r : Nat} (e : rg h N p = some r) : 1 ≤ r ∧ r ≤ N ∧ up h r p = some p ∧ ∀ l, 1 ≤ l → l < r → up h l p ≠ some p := by
  obtain ⟨j, j1, j2, j3, j4, j5⟩ := tm1_way N p 0 r e
  have : r = j := by omega
  subst this
  exact ⟨j1, j2, j4, j5⟩
theorem rg_some (V : vw N h w d s f a) {p k : Nat} (hp : p < N) (hk : 1 ≤ k) (e : up h k p = some p) : (rg h N p).isSome = true := by
  obtain ⟨j, j1, j2, _, j3, _⟩ := up_short V.H hp hk e
  exact (tm_some N p 0).mpr ⟨j, j1, j2, j3⟩
theorem up_mod {p r : Nat} (hr : 1 ≤ r) (e : up h r p = some p) : ∀ j, up h j p = up h (j % r) p := by
  intro j
  induction j using Nat.strongRecOn with
  | ind j ih =>
    by_cases l : j < r
    · rw [Nat.mod_eq_of_lt l]
    · have e2 : up h j p = up h (j - r) p := by
        have q : up h (r + (j - r)) p = (up h r p).bind (up h (j - r)) := up_add h r (j - r) p
        rw [show r + (j - r) = j from by omega, e] at q
        exact q
      rw [e2, ih (j - r) (by omega)]
      congr 1
      exact (Nat.mod_eq_sub_mod (by omega)).symm
/-- the least along a way -/
def ml (h : Nat → Option Nat) : Nat → Nat → Nat → Nat
  | 0, _, m => m
  | j + 1, q, m => match h q with
    | none => m
    | some r => ml h j r (if q < m then q else m)
theorem ml_s {j q m r : Nat} (e : h q = some r) : ml h (j + 1) q m = ml h j r (if q < m then q else m) := by rw [ml, e]
theorem ml_ge {p : Nat} : ∀ j q m, (up h j q).isSome = true → (p ≤ ml h j q m ↔ p ≤ m ∧ ∀ l x, l < j → up h l q = some x → p ≤ x) := by
  intro j
  induction j with
  | zero =>
    intro q m _
    exact ⟨fun e => ⟨e, fun l x hl => by omega⟩, fun e => e.1⟩
  | succ j ih =>
    intro q m e
    cases eh : h q with
    | none => rw [up_n eh] at e; cases e
    | some r =>
      rw [up_s eh] at e
      rw [ml_s eh, ih r _ e]
      constructor
      · rintro ⟨e1, e2⟩
        have hq : p ≤ q ∧ p ≤ m := by split at e1 <;> omega
        refine ⟨hq.2, fun l x hl z => ?_⟩
        cases l with
        | zero => cases (show some q = some x from z); exact hq.1
        | succ l => rw [up_s eh] at z; exact e2 l x (by omega) z
      · rintro ⟨e1, e2⟩
        have hq := e2 0 q (by omega) rfl
        refine ⟨by split <;> omega, fun l x hl z => e2 (l + 1) x (by omega) (by rw [up_s eh]; exact z)⟩
theorem ml_in : ∀ j q m, (up h j q).isSome = true → ml h j q m = m ∨ ∃ l, l < j ∧ up h l q = some (ml h j q m) := by
  intro j
  induction j with
  | zero => intro q m _; exact Or.inl rfl
  | succ j ih =>
    intro q m e
    cases eh : h q with
    | none => rw [up_n eh] at e; cases e
    | some r =>
      rw [up_s eh] at e
      rw [ml_s eh]
      rcases ih r (if q < m then q else m) e with e1 | ⟨l, l1, l2⟩
      · by_cases z : q < m
        · rw [if_pos z] at e1 ⊢
          exact Or.inr ⟨0, by omega, by rw [e1]; rfl⟩
        · rw [if_neg z] at e1 ⊢
          exact Or.inl e1
      · exact Or.inr ⟨l + 1, by omega, by rw [up_s eh]; exact l2⟩
/-- the least of one's ring -/
def lst (h : Nat → Option Nat) (N p : Nat) : Nat := match h p with
  | none => p
  | some q => ml h ((rg h N p).getD 0 - 1) q p
theorem lst_prop (V : vw N h w d s f a) {p r : Nat} (hp : p < N) (e : rg h N p = some r) : (∃ l, up h l p = some (lst h N p)) ∧ (∀ l x, up h l p = some x → lst h N p ≤ x) ∧ (∀ m, m ≤ lst h N p ↔ ∀ l x, up h l p = some x → m ≤ x) := by
  obtain ⟨r1, r2, r3, r4⟩ := rg_way e
  unfold lst
  obtain ⟨j, rfl⟩ : ∃ j, r = j + 1 := ⟨r - 1, by omega⟩
  cases eh : h p with
  | none => rw [up_n eh] at r3; cases r3
  | some q =>
    rw [e]
    show (∃ l, up h l p = some (ml h (j + 1 - 1) q p)) ∧ (∀ l x, up h l p = some x → ml h (j + 1 - 1) q p ≤ x) ∧ (∀ m, m ≤ ml h (j + 1 - 1) q p ↔ ∀ l x, up h l p = some x → m ≤ x)
    rw [Nat.add_sub_cancel]
    have hj : up h j q = some p := by rw [up_s eh] at r3; exact r3
    have hs : (up h j q).isSome = true := by rw [hj]; rfl
    have key : ∀ m, m ≤ ml h j q p ↔ ∀ l x, up h l p = some x → m ≤ x := by
      intro m
      rw [ml_ge j q p hs]
      constructor
      · rintro ⟨e1, e2⟩ l x z
        rw [up_mod (r := j + 1) (by omega) r3 l] at z
        have lt : l % (j + 1) < j + 1 := Nat.mod_lt _ (by omega)
        by_cases z0 : l % (j + 1) = 0
        · rw [z0] at z
          cases (show some p = some x from z)
          exact e1
        · obtain ⟨l', hl'⟩ : ∃ l', l % (j + 1) = l' + 1 := ⟨l % (j + 1) - 1, by omega⟩
          rw [hl', up_s eh] at z
          exact e2 l' x (by omega) z
      · intro e1
        exact ⟨e1 0 p rfl, fun l x _ z => e1 (l + 1) x (by rw [up_s eh]; exact z)⟩
    refine ⟨?_, fun l x z => (key _).mp (Nat.le_refl _) l x z, key⟩
    rcases ml_in j q p hs with e1 | ⟨l, l1, l2⟩
    · exact ⟨0, by rw [e1]; rfl⟩
    · exact ⟨l + 1, by rw [up_s eh]; exact l2⟩
theorem lst_lt (V : vw N h w d s f a) {p r : Nat} (hp : p < N) (e : rg h N p = some r) : lst h N p < N := by
  obtain ⟨⟨l, z⟩, _, _⟩ := lst_prop V hp e
  exact up_lt V.H l p _ hp z
theorem xe_mlL (V : vw N h w d s f a) (X : vX N h w d s f a σ) {g : Nat} (hg : g < N) : ∀ j n q m, up h j q = some g → (∀ l, l < j → up h l q ≠ some g) → j < n → q < N → m < N → fx_X0_leastOf_L9 σ (nI g) n (nI m) (nI q) = some (nI (ml h j q m)) := by
  have h8 := V.1
  intro j
  induction j with
  | zero =>
    intro n q b e _ hn hq hb
    obtain ⟨m, rfl⟩ : ∃ m, n = m + 1 := ⟨n - 1, by omega⟩
    cases (show some q = some g from e)
    rw [fx_X0_leastOf_L9, if_pos rfl]
    rfl
  | succ j ih =>
    intro n q b e hl hn hq hb
    obtain ⟨m, rfl⟩ : ∃ m, n = m + 1 := ⟨n - 1, by omega⟩
    have q0 : q ≠ g := fun z => hl 0 (by omega) (by rw [z]; rfl)
    rw [fx_X0_leastOf_L9, if_neg (fun z => q0 ((nI_eq (by omega) (by omega)).mp z)), pq_ck (by omega) (by omega), nI_clamp (by omega), X.hh hq]
    have e1 : (if nI q < nI b then nI q else nI b) = nI (if q < b then q else b) := by
      by_cases l : q < b
      · rw [if_pos (nI_lt l (by omega)), if_pos l]
      · rw [if_neg (nI_nlt (by omega) (by omega)), if_neg l]
    rw [e1]
    cases eh : h q with
    | none => rw [up_n eh] at e; cases e
    | some r =>
      rw [up_s eh] at e
      rw [oI_some, ml_s eh]
      exact ih m r _ e (fun l hl2 z => hl (l + 1) (by omega) (by rw [up_s eh]; exact z)) (by omega) (V.hk hq eh) (by split <;> omega)
theorem xe_least (V : vw N h w d s f a) (X : vX N h w d s f a σ) {p r : Nat} (hp : p < N) (e : rg h N p = some r) : fx_X0_leastOf σ (nI p) = some (nI (lst h N p)) := by
  have h8 := V.1
  obtain ⟨r1, r2, r3, r4⟩ := rg_way e
  unfold fx_X0_leastOf lst
  obtain ⟨j, rfl⟩ : ∃ j, r = j + 1 := ⟨r - 1, by omega⟩
  rw [pq_ck (by omega) (by omega), nI_clamp (by omega), X.hh hp]
  cases eh : h p with
  | none => rw [up_n eh] at r3; cases r3
  | some q =>
    rw [e, oI_some]
    show _ = some (nI (ml h (j + 1 - 1) q p))
    rw [Nat.add_sub_cancel]
    rw [up_s eh] at r3
    exact xe_mlL V X hp j 1000 q p r3 (fun l hl z => r4 (l + 1) (by omega) (by omega) (by rw [up_s eh]; exact z)) (by omega) (V.hk hp eh) hp
/-- how many rings -/
def sp_rings (h : Nat → Option Nat) (N : Nat) : Nat → Nat := sp_f (fun p n => n + (if (rg h N p).isSome = true ∧ lst h N p = p then 1 else 0)) 0
theorem rg_val (V : vw N h w d s f a) {p r : Nat} (e : rg h N p = some r) : r < 2 ^ 31 ∧ 0 < r := by
  obtain ⟨r1, r2, _, _⟩ := rg_way e
  have h8 := V.1
  omega
theorem xe_rg (V : vw N h w d s f a) (X : vX N h w d s f a σ) {p : Nat} (hp : p < N) : fx_X0_ringOf σ (nI p) = some (nI ((rg h N p).getD 0)) := xe_ring V X hp
theorem me_rg (V : vw N h w d s f a) (M : vM N h w d s f a τ) {p : Nat} (hp : p < N) : fx_X3_ringOf τ (nI p) = some (nI ((rg h N p).getD 0)) := me_ring V M hp
theorem xe_rings (V : vw N h w d s f a) (X : vX N h w d s f a σ) : fx_X0_ringMany σ = some (nI (sp_rings h N N)) := by
  have h8 := V.1
  unfold fx_X0_ringMany
  refine pq_fold (fun n (b : Nat) c => fx_X0_ringMany_L4 σ n (nI b) c) (fun b => some (nI b)) N (fun p n => n + (if (rg h N p).isSome = true ∧ lst h N p = p then 1 else 0)) 0 (fun _ _ => True) trivial ?_ ?_ 1000 (by omega)
  · intro n b _
    show fx_X0_ringMany_L4 σ (n + 1) (nI b) (nI N) = _
    rw [fx_X0_ringMany_L4, X.1, if_pos (nI_le (Nat.le_refl _) (by omega))]
  · intro n i b hi _
    refine ⟨trivial, ?_⟩
    show fx_X0_ringMany_L4 σ (n + 1) (nI b) (nI i) = fx_X0_ringMany_L4 σ n (nI (b + (if (rg h N i).isSome = true ∧ lst h N i = i then 1 else 0))) (nI i + 1)
    rw [fx_X0_ringMany_L4, X.1, if_neg (nI_ge hi (by omega)), xe_rg V X hi, gw_b1_s, pq_add0]
    cases e : rg h N i with
    | none =>
      rw [show nI ((none : Option Nat).getD 0) = 0 from rfl, if_pos (by decide), if_neg (fun q => by cases q.1), Nat.add_zero]
    | some r =>
      obtain ⟨v1, v2⟩ := rg_val V e
      have ll := lst_lt V hi e
      rw [show (some r).getD 0 = r from rfl, if_neg (nI_nle v2 v1), xe_least V X hi e, gw_b1_s]
      by_cases z : lst h N i = i
      · rw [if_pos (by rw [z]), if_pos ⟨rfl, z⟩, nI_1]
      · rw [if_neg (fun q => z ((nI_eq (by omega) (by omega)).mp q)), if_neg (fun q => z q.2), Nat.add_zero]
/-- none on the way is below p -/
def age (h : Nat → Option Nat) (p : Nat) : Nat → Nat → Bool
  | 0, _ => true
  | j + 1, q => match h q with
    | none => true
    | some x => if x < p then false else age h p j x
theorem age_s {p j q x : Nat} (e : h q = some x) : age h p (j + 1) q = if x < p then false else age h p j x := by rw [age, e]
theorem age_iff {p : Nat} : ∀ j q, age h p j q = true ↔ ∀ l x, 1 ≤ l → l ≤ j → up h l q = some x → p ≤ x := by
  intro j
  induction j with
  | zero =>
    intro q
    exact ⟨fun _ l x l1 l2 => by omega, fun _ => rfl⟩
  | succ j ih =>
    intro q
    cases eh : h q with
    | none =>
      rw [age, eh]
      refine ⟨fun _ l x l1 l2 z => ?_, fun _ => rfl⟩
      obtain ⟨l', rfl⟩ : ∃ l', l = l' + 1 := ⟨l - 1, by omega⟩
      rw [up_n eh] at z; cases z
    | some y =>
      rw [age_s eh]
      by_cases c : y < p
      · rw [if_pos c]
        refine ⟨fun q => (by cases q), fun q => ?_⟩
        have := q 1 y (by omega) (by omega) (by rw [up_1, eh])
        omega
      · rw [if_neg c, ih]
        constructor
        · intro e l x l1 l2 z
          obtain ⟨l', rfl⟩ : ∃ l', l = l' + 1 := ⟨l - 1, by omega⟩
          rw [up_s eh] at z
          by_cases z0 : l' = 0
          · subst z0
            cases (show some y = some x from z)
            omega
          · exact e l' x (by omega) (by omega) z
        · intro e l x l1 l2 z
          exact e (l + 1) x (by omega) (by omega) (by rw [up_s eh]; exact z)
theorem age_lst (V : vw N h w d s f a) {p r : Nat} (hp : p < N) (e : rg h N p = some r) : age h p r p = true ↔ lst h N p = p := by
  obtain ⟨r1, r2, r3, r4⟩ := rg_way e
  obtain ⟨q1, q2, q3⟩ := lst_prop V hp e
  rw [age_iff]
  constructor
  · intro k
    have a1 := q2 0 p rfl
    have a2 := (q3 p).mpr (fun l x z => by
      rw [up_mod r1 r3 l] at z
      have lt : l % r < r := Nat.mod_lt _ (by omega)
      by_cases z0 : l % r = 0
      · rw [z0] at z
        cases (show some p = some x from z)
        exact Nat.le_refl _
      · exact k (l % r) x (by omega) (by omega) z)
    omega
  · intro k l x l1 l2 z
    have := q2 l x z
    omega
theorem me_ageL (V : vw N h w d s f a) (M : vM N h w d s f a τ) {κ : Type} (k : Int32 → Option κ) {p r : Nat} {v1 : Int32} (hp : p < N) (hr : r ≤ 8) : ∀ j n q i, i + j = r → j + 1 < n → q < N → (up h j q).isSome = true → fx_X3_ringsNow_L37 k τ v1 (nI p) (nI r) n 1 (nI q) (nI i) = k (if age h p j q then 1 else 0) := by
  have h8 := V.1
  intro j
  induction j with
  | zero =>
    intro n q i hi hn hq _
    obtain ⟨m, rfl⟩ : ∃ m, n = m + 1 := ⟨n - 1, by omega⟩
    rw [fx_X3_ringsNow_L37, if_pos (nI_le (by omega) (by omega))]
    rfl
  | succ j ih =>
    intro n q i hi hn hq e
    obtain ⟨m, rfl⟩ : ∃ m, n = m + 2 := ⟨n - 2, by omega⟩
    cases eh : h q with
    | none => rw [up_n eh] at e; cases e
    | some x =>
      rw [up_s eh] at e
      have hx := V.hk hq eh
      rw [fx_X3_ringsNow_L37, if_neg (nI_ge (by omega) (by omega)), if_neg (by decide), pq_ck (by omega) (by omega), nI_clamp (by omega), M.hh hq, eh, oI_some, age_s eh, nI_1]
      by_cases c : x < p
      · rw [if_pos (nI_lt c (by omega)), if_pos c, fx_X3_ringsNow_L37]
        by_cases y : nI r ≤ nI (i + 1)
        · rw [if_pos y]; rfl
        · rw [if_neg y, if_pos rfl]; rfl
      · rw [if_neg (nI_nlt (by omega) (by omega)), if_neg c]
        exact ih (m + 1) x (i + 1) (by omega) (by omega) hx e
theorem me_rings (V : vw N h w d s f a) (M : vM N h w d s f a τ) : fx_X3_ringsNow τ = some (nI (sp_rings h N N)) := by
  have h8 := V.1
  unfold fx_X3_ringsNow
  refine pq_fold (fun n (b : Nat) c => fx_X3_ringsNow_L4 τ n (nI b) c) (fun b => some (nI b)) N (fun p n => n + (if (rg h N p).isSome = true ∧ lst h N p = p then 1 else 0)) 0 (fun _ _ => True) trivial ?_ ?_ 1000 (by omega)
  · intro n b _
    show fx_X3_ringsNow_L4 τ (n + 1) (nI b) (nI N) = _
    rw [fx_X3_ringsNow_L4, M.1, if_pos (nI_le (Nat.le_refl _) (by omega))]
  · intro n i b hi _
    refine ⟨trivial, ?_⟩
    show fx_X3_ringsNow_L4 τ (n + 1) (nI b) (nI i) = fx_X3_ringsNow_L4 τ n (nI (b + (if (rg h N i).isSome = true ∧ lst h N i = i then 1 else 0))) (nI i + 1)
    rw [fx_X3_ringsNow_L4, M.1, if_neg (nI_ge hi (by omega)), me_rg V M hi, gw_b1_s, pq_add0]
    cases e : rg h N i with
    | none =>
      rw [show nI ((none : Option Nat).getD 0) = 0 from rfl, if_pos (by decide), gw_b1_s, fx_X3_ringsNow_L37, if_pos (by decide), if_pos rfl, if_neg (fun q => by cases q.1), Nat.add_zero]
    | some r =>
      obtain ⟨v1, v2⟩ := rg_val V e
      obtain ⟨r1, r2, r3, r4⟩ := rg_way e
      rw [show (some r).getD 0 = r from rfl, if_neg (nI_nle v2 v1), gw_b1_s]
      rw [show (0 : Int32) = nI 0 from rfl, me_ageL V M _ hi (by omega) r 1000 i 0 (by omega) (by omega) hi (by rw [r3]; rfl)]
      have ag := age_lst V hi e
      by_cases z : lst h N i = i
      · rw [if_pos (ag.mpr z), if_neg (by decide), if_pos ⟨rfl, z⟩, nI_1]
      · rw [if_neg (fun q => z (ag.mp q)), if_pos (by decide), if_neg (fun q => z q.2), Nat.add_zero]
/-! all in rings: each has one card -/
theorem pc_one : ∀ x, x < 256 → pc x = 1 → ∃ c, c < 8 ∧ x = 2 ^ c := by decide +kernel
theorem pc_two : ∀ c, c < 8 → pc (2 ^ c) = 1 := by decide +kernel
theorem hand_bit {p c : Nat} : (sp_hand h N p).testBit c = true ↔ c < N ∧ h c = some p := by
  unfold sp_hand
  rw [sp_set_bit]
  simp
theorem dealt_iff (V : vw N h w d s f a) : (∀ p, p < N → (rg h N p).isSome = true) ↔ ∀ p, p < N → pc (sp_hand h N p) = 1 := by
  have h8 := V.1
  constructor
  · intro all p hp
    obtain ⟨r, er⟩ := Option.isSome_iff_exists.mp (all p hp)
    obtain ⟨r1, r2, r3, r4⟩ := rg_way er
    obtain ⟨k, rfl⟩ : ∃ k, r = k + 1 := ⟨r - 1, by omega⟩
    rw [up_back] at r3
    cases ec : up h k p with
    | none => rw [ec] at r3; cases r3
    | some c =>
      rw [ec] at r3
      have hc : c < N := up_lt V.H k p c hp ec
      have hcp : h c = some p := r3
      have e : sp_hand h N p = 2 ^ c := by
        refine pq_ext (n := N) (sp_set_lt _ _) (Nat.pow_lt_pow_right (by decide) hc) (fun i hi => ?_)
        rw [Nat.testBit_two_pow]
        cases eb : (sp_hand h N p).testBit i with
        | false =>
          symm
          apply decide_eq_false
          intro z
          subst z
          rw [hand_bit.mpr ⟨hc, hcp⟩] at eb
          cases eb
        | true =>
          obtain ⟨_, hip⟩ := hand_bit.mp eb
          obtain ⟨r', er'⟩ := Option.isSome_iff_exists.mp (all i hi)
          obtain ⟨s1, s2, s3, s4⟩ := rg_way er'
          obtain ⟨k', rfl⟩ : ∃ k', r' = k' + 1 := ⟨r' - 1, by omega⟩
          rw [up_s hip] at s3
          have r3' : up h (k + 1) p = some p := by rw [up_back, ec]; exact hcp
          rw [up_mod (r := k + 1) (by omega) r3' k'] at s3
          have lt : k' % (k + 1) < k + 1 := Nat.mod_lt _ (by omega)
          have e2 : up h (k' % (k + 1) + 1) p = some p := by rw [up_back, s3]; exact hip
          have e3 : k' % (k + 1) = k := by
            by_cases z : k' % (k + 1) + 1 < k + 1
            · exact absurd e2 (r4 _ (by omega) z)
            · omega
          rw [e3, ec] at s3
          symm
          apply decide_eq_true
          exact Option.some.inj s3
      rw [e]
      exact pc_two c (by omega)
  · intro all p hp
    have pick : ∀ q, q < N → ∃ c, c < N ∧ h c = some q ∧ ∀ c', c' < N → h c' = some q → c' = c := by
      intro q hq
      obtain ⟨c, c1, c2⟩ := pc_one _ (sp_hand_lt V) (all q hq)
      have b : (sp_hand h N q).testBit c = true := by rw [c2]; exact Nat.testBit_two_pow_self
      obtain ⟨b1, b2⟩ := hand_bit.mp b
      refine ⟨c, b1, b2, fun c' h1 h2 => ?_⟩
      have b' := hand_bit.mpr ⟨h1, h2⟩
      rw [c2, Nat.testBit_two_pow] at b'
      exact (of_decide_eq_true b').symm
    have tot : ∀ c, c < N → ∃ q, q < N ∧ h c = some q := by
      intro c hc
      apply Classical.byContradiction
      intro no
      have g : ∃ G : Nat → Nat, ∀ q, q < N → G q < N ∧ h (G q) = some q := by
        refine ⟨fun q => if hq : q < N then Classical.choose (pick q hq) else 0, fun q hq => ?_⟩
        have z := Classical.choose_spec (pick q hq)
        show (if hq : q < N then Classical.choose (pick q hq) else 0) < N ∧ h (if hq : q < N then Classical.choose (pick q hq) else 0) = some q
        rw [dif_pos hq]
        exact ⟨z.1, z.2.1⟩
      obtain ⟨G, hG⟩ := g
      have := php1 (N := N) (k := N) (c := c) (f := G) (fun i hi => (hG i hi).1) (fun i j hi hj e => by
        have a1 := (hG i hi).2
        have a2 := (hG j hj).2
        rw [e, a2] at a1
        exact (Option.some.inj a1).symm) hc (fun i hi e => no ⟨i, hi, by rw [← e]; exact (hG i hi).2⟩)
      omega
    have inj : ∀ c c' q, c < N → c' < N → h c = some q → h c' = some q → c = c' := by
      intro c c' q hc hc' e e'
      have hq := V.hk hc e
      obtain ⟨x, _, _, x3⟩ := pick q hq
      rw [x3 c hc e, x3 c' hc' e']
    have ex : ∀ j, ∃ x, x < N ∧ up h j p = some x := by
      intro j
      induction j with
      | zero => exact ⟨p, hp, rfl⟩
      | succ j ih =>
        obtain ⟨x, x1, x2⟩ := ih
        obtain ⟨y, y1, y2⟩ := tot x x1
        exact ⟨y, y1, by rw [up_back, x2]; exact y2⟩
    have peel : ∀ i j, i < j → up h i p = up h j p → up h (j - i) p = some p := by
      intro i
      induction i with
      | zero => intro j _ e; rw [Nat.sub_zero, ← e]; rfl
      | succ i ih =>
        intro j hj e
        obtain ⟨j', rfl⟩ : ∃ j', j = j' + 1 := ⟨j - 1, by omega⟩
        obtain ⟨x, x1, x2⟩ := ex i
        obtain ⟨y, y1, y2⟩ := ex j'
        rw [up_back, up_back, x2, y2] at e
        have e : h x = h y := e
        obtain ⟨z, z1, z2⟩ := tot x x1
        have : x = y := inj x y z x1 y1 z2 (by rw [← e]; exact z2)
        subst this
        have := ih j' (by omega) (by rw [x2, y2])
        rw [show j' + 1 - (i + 1) = j' - i from by omega]
        exact this
    apply Classical.byContradiction
    intro no
    have apart : ∀ i j, i < j → up h i p = up h j p → False := fun i j hij e => no (rg_some V hp (k := j - i) (by omega) (peel i j hij e))
    have := php N (N + 1) (fun i => (up h i p).getD 0) (fun i _ => by
      obtain ⟨x, x1, x2⟩ := ex i
      show (up h i p).getD 0 < N
      rw [x2]; exact x1) (fun i j _ _ e => by
      have e : (up h i p).getD 0 = (up h j p).getD 0 := e
      obtain ⟨x, x1, x2⟩ := ex i
      obtain ⟨y, y1, y2⟩ := ex j
      rw [x2, y2] at e
      have e : x = y := e
      subst e
      rcases Nat.lt_trichotomy i j with c | c | c
      · exact (apart i j c (by rw [x2, y2])).elim
      · exact c
      · exact (apart j i c (by rw [x2, y2])).elim)
    omega
theorem xe_dealt (V : vw N h w d s f a) (X : vX N h w d s f a σ) {B : Bool} (hB : B = true ↔ ∀ p, p < N → (rg h N p).isSome = true) : fx_X0_isDealt σ = some B := by
  have h8 := V.1
  unfold fx_X0_isDealt
  refine pq_loop (fun n (_ : Unit) c => fx_X0_isDealt_L2 σ n c) (fun o => o = some B) N (fun i _ => ∀ p, p < i → (rg h N p).isSome = true) ?_ ?_ 1000 0 () (by omega) (by omega) (fun p hp => by omega)
  · intro n _ I
    show fx_X0_isDealt_L2 σ (n + 1) (nI N) = _
    rw [fx_X0_isDealt_L2, X.1, if_pos (nI_le (Nat.le_refl _) (by omega)), hB.mpr I]
  · intro n i _ hi I ih
    show fx_X0_isDealt_L2 σ (n + 1) (nI i) = _
    rw [fx_X0_isDealt_L2, X.1, if_neg (nI_ge hi (by omega)), xe_rg V X hi, gw_b1_s]
    cases e : rg h N i with
    | none =>
      rw [show nI ((none : Option Nat).getD 0) = 0 from rfl, if_pos rfl]
      congr 1
      cases eB : B with
      | false => rfl
      | true =>
        have := hB.mp eB i hi
        rw [e] at this
        cases this
    | some r =>
      obtain ⟨v1, v2⟩ := rg_val V e
      rw [show (some r).getD 0 = r from rfl, if_neg (nI_ne0 v2 v1)]
      refine ih () (fun p hp => ?_)
      by_cases z : p = i
      · subst z; rw [e]; rfl
      · exact I p (by omega)
theorem me_even (V : vw N h w d s f a) (M : vM N h w d s f a τ) {B : Bool} (hB : B = true ↔ ∀ p, p < N → pc (sp_hand h N p) = 1) : fx_X3_areEven τ = some B := by
  have h8 := V.1
  unfold fx_X3_areEven
  refine pq_loop (fun n (_ : Unit) c => fx_X3_areEven_L2 τ n c) (fun o => o = some B) N (fun i _ => ∀ p, p < i → pc (sp_hand h N p) = 1) ?_ ?_ 1000 0 () (by omega) (by omega) (fun p hp => by omega)
  · intro n _ I
    show fx_X3_areEven_L2 τ (n + 1) (nI N) = _
    rw [fx_X3_areEven_L2, M.1, if_pos (nI_le (Nat.le_refl _) (by omega)), hB.mpr I]
  · intro n i _ hi I ih
    show fx_X3_areEven_L2 τ (n + 1) (nI i) = _
    have hl := sp_hand_lt V (p := i)
    have pl := pc_b hl
    rw [fx_X3_areEven_L2, M.1, if_neg (nI_ge hi (by omega)), me_handI V M hi, gw_b1_s, pc_M _ hl, gw_b1_s]
    have z : (nI (pc (sp_hand h N i)) = 1) ↔ pc (sp_hand h N i) = 1 := nI_eq (b := 1) (by omega) (by omega)
    by_cases e : pc (sp_hand h N i) = 1
    · rw [if_pos (z.mpr e)]
      refine ih () (fun p hp => ?_)
      by_cases z : p = i
      · subst z; exact e
      · exact I p (by omega)
    · rw [if_neg (fun q => e (z.mp q))]
      congr 1
      cases eB : B with
      | false => rfl
      | true => exact absurd (hB.mp eB i hi) e
/-- in rings: the same least, the same ring -/
theorem least_time (V : vw N h w d s f a) (all : ∀ p, p < N → (rg h N p).isSome = true) {x y : Nat} (hx : x < N) (hy : y < N) : lst h N x = lst h N y ↔ (sp_T h f N x y).isSome = true := by
  obtain ⟨rx, ex⟩ := Option.isSome_iff_exists.mp (all x hx)
  obtain ⟨ry, ey⟩ := Option.isSome_iff_exists.mp (all y hy)
  obtain ⟨x1, x2, x3, x4⟩ := rg_way ex
  obtain ⟨y1, y2, y3, y4⟩ := rg_way ey
  obtain ⟨⟨lx, px⟩, qx, rx'⟩ := lst_prop V hx ex
  obtain ⟨⟨ly, py⟩, qy, ry'⟩ := lst_prop V hy ey
  -- one that is reached from a ring leads back
  have back : ∀ z r l u, 1 ≤ r → up h r z = some z → up h l z = some u → ∃ k, 1 ≤ k ∧ up h k u = some z := by
    intro z r l u hr e1 e2
    rw [up_mod hr e1 l] at e2
    have lt : l % r < r := Nat.mod_lt _ (by omega)
    refine ⟨r - l % r, by omega, ?_⟩
    have q : up h (l % r + (r - l % r)) z = (up h (l % r) z).bind (up h (r - l % r)) := up_add h _ _ z
    rw [show l % r + (r - l % r) = r from by omega, e1, e2] at q
    exact q.symm
  constructor
  · intro e
    rw [e] at px
    obtain ⟨k, k1, k2⟩ := back x rx lx _ x1 x3 px
    have q : up h (ly + k) y = some x := by rw [up_add, py]; exact k2
    obtain ⟨j, j1, j2, _, j3, _⟩ := up_short V.H hy (show 1 ≤ ly + k by omega) q
    exact (tm_some N y 0).mpr ⟨j, j1, j2, j3⟩
  · intro e
    obtain ⟨j, j1, j2, j3⟩ := (tm_some N y 0).mp e
    obtain ⟨k, k1, k2⟩ := back y ry j x y1 y3 j3
    -- all that one reaches the other reaches
    have a1 : lst h N y ≤ lst h N x := by
      apply qy (j + lx)
      rw [up_add, j3]; exact px
    have a2 : lst h N x ≤ lst h N y := by
      apply qx (k + ly)
      rw [up_add, k2]; exact py
    omega
end
