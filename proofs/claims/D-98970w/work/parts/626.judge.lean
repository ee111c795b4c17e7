/-! PURE SIDE: why not; rows that are judged -/
set_option maxRecDepth 100000
section
variable {N f A a st : Nat} {h h0 : Nat → Option Nat} {w d s : Nat → Nat} {ac : Nat → acT} {σ τ σ' τ' : gw_S} {ρ : gw_R}
theorem why_both (V : vw N h w d s f a) (X : vX N h w d s f a σ) (M : vM N h w d s f a τ) {g p : Nat} {y : Int32} (hg : g < N) (hp : p < N) (hy : y = -1 ∨ ∃ e, e < 6 ∧ y = nI e) : ∃ r, fx_X0_whyNot σ (nI g) (nI p) y = some r ∧ fx_X3_whyOf τ (nI g) (nI p) y = some r := by
  have h8 := V.1
  have ha := V.2.2.1
  have hd := V.db hp
  unfold fx_X0_whyNot fx_X3_whyOf
  rw [pq_ck (by omega) (by omega), pq_ck (by omega) (by omega), pq_ck (by omega) (by omega), nI_clamp (by omega), X.hh hp, M.hh hp, X.2.2.1, M.2.1, pq_bit (by omega) (by omega), pq_bitM (by omega) (by omega), X.dd hp, M.o1 V hp, gw_b1_s]
  by_cases e1 : oI (h p) = nI g
  · rw [if_pos e1, if_pos e1]
    by_cases e2 : a.testBit p = true
    · rw [if_pos e2, if_pos e2]
      exact ⟨_, rfl, rfl⟩
    · rw [if_neg e2, if_neg e2]
      by_cases e3 : y = -1
      · rw [if_pos e3, if_pos e3]
        exact ⟨_, rfl, rfl⟩
      · rw [if_neg e3, if_neg e3]
        rcases hy with q | ⟨e, he, rfl⟩
        · exact absurd q e3
        · rw [pq_bit (by omega) (by omega), pq_bitM (by omega) (by omega)]
          by_cases e4 : (d p).testBit e = true
          · rw [if_pos e4]
            exact ⟨_, rfl, rfl⟩
          · rw [if_neg e4]
            exact ⟨_, rfl, rfl⟩
  · rw [if_neg e1, if_neg e1]
    exact ⟨_, rfl, rfl⟩
/-- a row of acts: a day's end, or one asks one for a deed -/
def jr (x : Nat × Nat × (Nat → Int32) × (Nat → Int64)) (N j : Nat) : Option (Nat × Nat × Nat) → Prop
  | none => gv_at x (3 * j) = -1 ∧ gv_at x (3 * j + 1) = -1 ∧ gv_at x (3 * j + 2) = -1
  | some y => gv_at x (3 * j) = lN y.1 ∧ gv_at x (3 * j + 1) = lN y.2.1 ∧ gv_at x (3 * j + 2) = lN y.2.2 ∧ y.1 < N ∧ y.2.1 < N ∧ y.2.2 < 6
theorem nI_3 (j : Nat) : nI (3 * j) + 3 = nI (3 * (j + 1)) := by
  rw [show (3 : Int32) = nI 3 from rfl, nI_add]
  congr 1
theorem lm1 {x y : Int64} : (lg_cmp x y = 0) ↔ x = y := pq_cmp_eq x y
/-- what is asked of a row -/
theorem jd_ask (S : slR ρ τ) {k m : Nat} (hk : k < 4) {x : Nat × Nat × (Nat → Int32) × (Nat → Int64)} (e : ρ k = some x) (e3 : x.2.1 = 3 * m) (hX : σ.1 1 2 = nI N) (hM : τ.1 7 1 = nI N) (h8 : N ≤ 8) :
    ((∀ j, j < m → ∃ y, jr x N j y) ∧ fx_X0_asksRow_L38 ρ σ (nI k) (nI x.2.1) 1000 0 = some 0 ∧ fx_X3_whyNotJudge_L46 τ (nI k) 1000 0 = some 0) ∨ (fx_X0_asksRow_L38 ρ σ (nI k) (nI x.2.1) 1000 0 = some (-2) ∧ fx_X3_whyNotJudge_L46 τ (nI k) 1000 0 = some (-2)) := by
  obtain ⟨s1, s2, s3, s4, s5⟩ := S.ok hk e
  have key : ∀ i n n', i ≤ m → m - i < n → m - i < n' → (∀ j, j < i → ∃ y, jr x N j y) → ((∀ j, j < m → ∃ y, jr x N j y) ∧ fx_X0_asksRow_L38 ρ σ (nI k) (nI x.2.1) n (nI (3 * i)) = some 0 ∧ fx_X3_whyNotJudge_L46 τ (nI k) n' (nI (3 * i)) = some 0) ∨ (fx_X0_asksRow_L38 ρ σ (nI k) (nI x.2.1) n (nI (3 * i)) = some (-2) ∧ fx_X3_whyNotJudge_L46 τ (nI k) n' (nI (3 * i)) = some (-2)) := by
    intro i n
    induction n generalizing i with
    | zero => intro n' _ q; omega
    | succ n ih =>
      intro n' hi hn hn' I
      obtain ⟨n', rfl⟩ : ∃ q, n' = q + 1 := ⟨n' - 1, by omega⟩
      have kk : ∀ {α : Type} (z : Option α), gw_ck (nI k) 4 z = z := fun z => pq_ck hk (by omega)
      by_cases lt : i < m
      · rw [fx_X0_asksRow_L38, fx_X3_whyNotJudge_L46]
        simp only [kk]
        rw [if_neg (nI_ge (by omega) (by omega)), nI_clamp (n := k) (by omega), s4, if_neg (nI_ge (by omega) (by omega))]
        have a0 := s5 (3 * i) (by omega)
        have a1 := s5 (3 * i + 1) (by omega)
        have a2 := s5 (3 * i + 2) (by omega)
        have i1 : nI (3 * i) + (1 : Int32) = nI (3 * i + 1) := nI_1 _
        have i2 : nI (3 * i) + (2 : Int32) = nI (3 * i + 2) := by rw [show (2 : Int32) = nI 2 from rfl, nI_add]
        have j1 : nI (60 * k + 3 * i) + (1 : Int32) = nI (60 * k + (3 * i + 1)) := by rw [nI_1]; rfl
        have j2 : nI (60 * k + 3 * i) + (2 : Int32) = nI (60 * k + (3 * i + 2)) := by rw [show (2 : Int32) = nI 2 from rfl, nI_add]; rfl
        have hde : fx_X0_isDayEnd σ ρ (nI k) (nI (3 * i)) = some (decide (gv_at x (3 * i) = -1 ∧ gv_at x (3 * i + 1) = -1 ∧ gv_at x (3 * i + 2) = -1)) := by
          unfold fx_X0_isDayEnd
          rw [i1, i2, pq_ck hk (by omega), nI_clamp (by omega), e]
          simp only [gw_b1_s]
          rw [pq_ck (by omega) (by omega), nI_clamp (by omega), pq_ck hk (by omega), pq_ck (by omega) (by omega), nI_clamp (by omega), pq_ck hk (by omega), pq_ck (by omega) (by omega), nI_clamp (by omega)]
          by_cases z0 : gv_at x (3 * i) = -1
          · rw [if_pos (lm1.mpr z0)]
            by_cases z1 : gv_at x (3 * i + 1) = -1
            · rw [if_pos (lm1.mpr z1)]
              by_cases z2 : gv_at x (3 * i + 2) = -1
              · rw [if_pos (lm1.mpr z2), decide_eq_true ⟨z0, z1, z2⟩]
              · rw [if_neg (fun q => z2 (lm1.mp q)), decide_eq_false (fun q => z2 q.2.2)]
            · rw [if_neg (fun q => z1 (lm1.mp q)), decide_eq_false (fun q => z1 q.2.1)]
          · rw [if_neg (fun q => z0 (lm1.mp q)), decide_eq_false (fun q => z0 q.1)]
        have hdm : (if (lg_cmp (τ.2 3 (60 * k + 3 * i)) (-1 : Int64)) = 0 then (if (lg_cmp (τ.2 3 (60 * k + (3 * i + 1))) (-1 : Int64)) = 0 then (if (lg_cmp (τ.2 3 (60 * k + (3 * i + 2))) (-1 : Int64)) = 0 then some (1 : Int32) else some (0 : Int32)) else some (0 : Int32)) else some (0 : Int32)) = some (if (gv_at x (3 * i) = -1 ∧ gv_at x (3 * i + 1) = -1 ∧ gv_at x (3 * i + 2) = -1) then (1 : Int32) else 0) := by
          rw [← a0, ← a1, ← a2]
          by_cases z0 : gv_at x (3 * i) = -1
          · rw [if_pos (lm1.mpr z0)]
            by_cases z1 : gv_at x (3 * i + 1) = -1
            · rw [if_pos (lm1.mpr z1)]
              by_cases z2 : gv_at x (3 * i + 2) = -1
              · rw [if_pos (lm1.mpr z2), if_pos ⟨z0, z1, z2⟩]
              · rw [if_neg (fun q => z2 (lm1.mp q)), if_neg (fun q => z2 q.2.2)]
            · rw [if_neg (fun q => z1 (lm1.mp q)), if_neg (fun q => z1 q.2.1)]
          · rw [if_neg (fun q => z0 (lm1.mp q)), if_neg (fun q => z0 q.1)]
        have k0 : ∀ {α : Type} (z : Option α), gw_ck (nI (60 * k + 3 * i)) 240 z = z := fun z => pq_ck (by omega) (by omega)
        have k1 : ∀ {α : Type} (z : Option α), gw_ck (nI (60 * k + (3 * i + 1))) 240 z = z := fun z => pq_ck (by omega) (by omega)
        have k2 : ∀ {α : Type} (z : Option α), gw_ck (nI (60 * k + (3 * i + 2))) 240 z = z := fun z => pq_ck (by omega) (by omega)
        rw [hde, gw_b1_s, ix60, j1, j2, nI_clamp (n := 60 * k + 3 * i) (by omega), nI_clamp (n := 60 * k + (3 * i + 1)) (by omega), nI_clamp (n := 60 * k + (3 * i + 2)) (by omega)]
        simp only [k0, k1, k2]
        rw [hdm, gw_b1_s, nI_3]
        have more : (∃ y, jr x N i y) → ((∀ j, j < m → ∃ y, jr x N j y) ∧ fx_X0_asksRow_L38 ρ σ (nI k) (nI x.2.1) n (nI (3 * (i + 1))) = some 0 ∧ fx_X3_whyNotJudge_L46 τ (nI k) n' (nI (3 * (i + 1))) = some 0) ∨ (fx_X0_asksRow_L38 ρ σ (nI k) (nI x.2.1) n (nI (3 * (i + 1))) = some (-2) ∧ fx_X3_whyNotJudge_L46 τ (nI k) n' (nI (3 * (i + 1))) = some (-2)) := by
          intro hy
          refine ih (i + 1) n' (by omega) (by omega) (by omega) (fun j hj => ?_)
          by_cases z : j = i
          · subst z; exact hy
          · exact I j (by omega)
        by_cases z : gv_at x (3 * i) = -1 ∧ gv_at x (3 * i + 1) = -1 ∧ gv_at x (3 * i + 2) = -1
        · rw [decide_eq_true z, if_pos rfl, if_pos z, if_neg (by decide)]
          exact more ⟨none, z⟩
        · rw [decide_eq_false z, if_neg (by decide), if_neg z, if_pos rfl, i1, i2, e]
          simp only [gw_b1_s]
          rw [pq_ck (i := 3 * i) (by omega) (by omega), pq_ck (i := 3 * i + 1) (by omega) (by omega), pq_ck (i := 3 * i + 2) (by omega) (by omega), nI_clamp (n := 3 * i) (by omega), nI_clamp (n := 3 * i + 1) (by omega), nI_clamp (n := 3 * i + 2) (by omega), ps_X hX h8, ps_X hX h8, ps_M hM h8, ps_M hM h8, dd_X, dd_M, ← a0, ← a1, ← a2]
          by_cases q0 : 0 ≤ (gv_at x (3 * i)).toInt ∧ (gv_at x (3 * i)).toInt < N
          · rw [if_pos (decide_eq_true q0), if_pos (decide_eq_true q0)]
            by_cases q1 : 0 ≤ (gv_at x (3 * i + 1)).toInt ∧ (gv_at x (3 * i + 1)).toInt < N
            · rw [if_pos (decide_eq_true q1), if_pos (decide_eq_true q1)]
              by_cases q2 : 0 ≤ (gv_at x (3 * i + 2)).toInt ∧ (gv_at x (3 * i + 2)).toInt ≤ 5
              · rw [if_pos (decide_eq_true q2), if_pos (decide_eq_true q2)]
                refine more ⟨some ((gv_at x (3 * i)).toInt.toNat, (gv_at x (3 * i + 1)).toInt.toNat, (gv_at x (3 * i + 2)).toInt.toNat), lN_of q0.1, lN_of q1.1, lN_of q2.1, ?_, ?_, ?_⟩
                · show (gv_at x (3 * i)).toInt.toNat < N
                  omega
                · show (gv_at x (3 * i + 1)).toInt.toNat < N
                  omega
                · show (gv_at x (3 * i + 2)).toInt.toNat < 6
                  omega
              · rw [if_neg (fun q => q2 (of_decide_eq_true q)), if_neg (fun q => q2 (of_decide_eq_true q))]
                exact Or.inr ⟨rfl, rfl⟩
            · rw [if_neg (fun q => q1 (of_decide_eq_true q)), if_neg (fun q => q1 (of_decide_eq_true q))]
              exact Or.inr ⟨rfl, rfl⟩
          · rw [if_neg (fun q => q0 (of_decide_eq_true q)), if_neg (fun q => q0 (of_decide_eq_true q))]
            exact Or.inr ⟨rfl, rfl⟩
      · obtain rfl : i = m := by omega
        rw [fx_X0_asksRow_L38, fx_X3_whyNotJudge_L46, if_pos (nI_le (by omega) (by omega)), pq_ck hk (by omega), nI_clamp (by omega), s4, if_pos (nI_le (by omega) (by omega))]
        exact Or.inl ⟨I, rfl, rfl⟩
  exact key 0 1000 1000 (by omega) (by omega) (by omega) (fun j hj => by omega)
/-- going by a row -/
theorem jd_go (c : ctS N f A h0 w d s ac σ τ) (S : slR ρ τ) {k m : Nat} (hk : k < 4) {x : Nat × Nat × (Nat → Int32) × (Nat → Int64)} (e : ρ k = some x) (e3 : x.2.1 = 3 * m) (all : ∀ j, j < m → ∃ y, jr x N j y) :
    ∃ r σ' τ' h' a' st', fx_X0_goesBy σ ρ (nI k) = some (r, σ') ∧ fx_X3_judges τ (nI k) = some (r, τ') ∧ jk σ σ' ∧ jm τ τ' ∧ nw False N h' a' st' σ' τ' := by
  have h8 := c.1
  obtain ⟨s1, s2, s3, s4, s5⟩ := S.ok hk e
  obtain ⟨σ1, τ1, f1, f2, f3, f4, f5⟩ := nw_first (D := False) c
  unfold fx_X0_goesBy fx_X3_judges
  rw [f1, f2, gw_b1_s, gw_b1_s]
  have key : ∀ i n n' (ς υ : gw_S) (g : Nat → Option Nat) (u v : Nat), i ≤ m → m - i < n → m - i < n' → jk σ ς → jm τ υ → nw False N g u v ς υ →
      ∃ r σ' τ' h' a' st', fx_X0_goesBy_L8 ρ (nI k) n (nI i) (nI (3 * i)) ς = some (r, σ') ∧ fx_X3_judges_L6 (nI k) n' (nI (3 * i)) υ = some (r, τ') ∧ jk σ σ' ∧ jm τ τ' ∧ nw False N h' a' st' σ' τ' := by
    intro i n
    induction n generalizing i with
    | zero => intro n' _ _ _ _ _ _ q; omega
    | succ n ih =>
      intro n' ς υ g u v hi hn hn' J1 J2 R
      obtain ⟨n', rfl⟩ : ∃ q, n' = q + 1 := ⟨n' - 1, by omega⟩
      have cc := c.move J1 J2
      obtain ⟨_, _, _, t4, t5⟩ := (S.move J2).ok hk e
      rw [fx_X0_goesBy_L8, fx_X3_judges_L6, pq_ck hk (by omega), pq_ck hk (by omega), pq_ck hk (by omega), nI_clamp (by omega), e, gw_b1_s, t4, show Int32.ofNat x.2.1 = nI x.2.1 from rfl]
      by_cases lt : i < m
      · rw [if_neg (nI_ge (by omega) (by omega)), if_neg (nI_ge (by omega) (by omega))]
        have a0 := t5 (3 * i) (by omega)
        have a1 := t5 (3 * i + 1) (by omega)
        have a2 := t5 (3 * i + 2) (by omega)
        have i1 : nI (3 * i) + (1 : Int32) = nI (3 * i + 1) := nI_1 _
        have i2 : nI (3 * i) + (2 : Int32) = nI (3 * i + 2) := by rw [show (2 : Int32) = nI 2 from rfl, nI_add]
        have j1 : nI (60 * k + 3 * i) + (1 : Int32) = nI (60 * k + (3 * i + 1)) := by rw [nI_1]; rfl
        have j2 : nI (60 * k + 3 * i) + (2 : Int32) = nI (60 * k + (3 * i + 2)) := by rw [show (2 : Int32) = nI 2 from rfl, nI_add]; rfl
        have num : ∀ q, q < x.2.1 → fx_X0_number ς ρ (nI k) (nI q) = some (Int64.toInt32 (gv_at x q)) := by
          intro q hq
          unfold fx_X0_number
          rw [pq_ck hk (by omega), nI_clamp (by omega), e, gw_b1_s, pq_ck hq (by omega), nI_clamp (by omega)]
        have hde : fx_X0_isDayEnd ς ρ (nI k) (nI (3 * i)) = some (decide (gv_at x (3 * i) = -1 ∧ gv_at x (3 * i + 1) = -1 ∧ gv_at x (3 * i + 2) = -1)) := by
          unfold fx_X0_isDayEnd
          rw [i1, i2, pq_ck hk (by omega), nI_clamp (by omega), e]
          simp only [gw_b1_s]
          rw [pq_ck (by omega) (by omega), nI_clamp (by omega), pq_ck hk (by omega), pq_ck (by omega) (by omega), nI_clamp (by omega), pq_ck hk (by omega), pq_ck (by omega) (by omega), nI_clamp (by omega)]
          by_cases z0 : gv_at x (3 * i) = -1
          · rw [if_pos (lm1.mpr z0)]
            by_cases z1 : gv_at x (3 * i + 1) = -1
            · rw [if_pos (lm1.mpr z1)]
              by_cases z2 : gv_at x (3 * i + 2) = -1
              · rw [if_pos (lm1.mpr z2), decide_eq_true ⟨z0, z1, z2⟩]
              · rw [if_neg (fun q => z2 (lm1.mp q)), decide_eq_false (fun q => z2 q.2.2)]
            · rw [if_neg (fun q => z1 (lm1.mp q)), decide_eq_false (fun q => z1 q.2.1)]
          · rw [if_neg (fun q => z0 (lm1.mp q)), decide_eq_false (fun q => z0 q.1)]
        have k0 : ∀ {α : Type} (z : Option α), gw_ck (nI (60 * k + 3 * i)) 240 z = z := fun z => pq_ck (by omega) (by omega)
        have k1 : ∀ {α : Type} (z : Option α), gw_ck (nI (60 * k + (3 * i + 1))) 240 z = z := fun z => pq_ck (by omega) (by omega)
        have k2 : ∀ {α : Type} (z : Option α), gw_ck (nI (60 * k + (3 * i + 2))) 240 z = z := fun z => pq_ck (by omega) (by omega)
        rw [hde, gw_b1_s, ix60, j1, j2, nI_clamp (n := 60 * k + 3 * i) (by omega), nI_clamp (n := 60 * k + (3 * i + 1)) (by omega), nI_clamp (n := 60 * k + (3 * i + 2)) (by omega)]
        simp only [k0, k1, k2]
        rw [← a0, ← a1, ← a2, i1, i2, num _ (by omega), num _ (by omega), num _ (by omega), nI_3, nI_1]
        simp only [gw_b1_s]
        obtain ⟨y, hy⟩ := all i lt
        cases y with
        | none =>
          obtain ⟨y0, y1, y2⟩ := hy
          rw [decide_eq_true ⟨y0, y1, y2⟩, if_pos rfl, if_pos (lm1.mpr y0)]
          obtain ⟨σ2, τ2, g2, d1, _, d3, d4, d5, d6, _⟩ := nw_day cc R 0 0 0 0 0 0 0 0
          rw [d1, d3, gw_b1_s, gw_b1_s]
          exact ih (i + 1) n' σ2 τ2 g2 0 0 (by omega) (by omega) (by omega) (J1.tr d4) (J2.tr d5) d6
        | some y =>
          obtain ⟨y0, y1, y2, y3, y4, y5⟩ := hy
          have y3 : y.1 < N := y3
          have y4 : y.2.1 < N := y4
          have y5 : y.2.2 < 6 := y5
          have ne : ¬ gv_at x (3 * i) = -1 := by
            rw [y0]
            intro q
            have := congrArg Int64.toInt q
            rw [pk_lT (by omega)] at this
            have e2 : (-1 : Int64).toInt = -1 := rfl
            omega
          rw [decide_eq_false (fun q => ne q.1), if_neg (by decide), if_neg (fun q => ne (lm1.mp q)), y0, y1, y2, lN_i, lN_i, lN_i]
          obtain ⟨V, X, M⟩ := R.view cc
          obtain ⟨r, r1, r2⟩ := why_both V X M (g := y.1) (p := y.2.1) (y := nI y.2.2) y3 y4 (Or.inr ⟨y.2.2, y5, rfl⟩)
          rw [r1, r2, gw_b1_s, gw_b1_s]
          by_cases z : r = 0
          · rw [if_pos z, if_pos z]
            obtain ⟨σ2, τ2, g2, d1, d2, d4, d5, d6, d7, d8, _⟩ := nw_ask cc R y4
            rw [d1, d2, gw_b1_s, gw_b1_s]
            exact ih (i + 1) n' (gw_u σ2 0 8 (ς.1 0 8 + 1)) τ2 g2 (u ||| 2 ^ y.2.1) v (by omega) (by omega) (by omega) (J1.tr (d4.tr ⟨rfl, rfl, rfl, rfl, rfl, rfl, rfl, rfl, rfl, rfl⟩)) (J2.tr d5) (nw_doneX d6 (fun q => q.elim))
          · rw [if_neg z, if_neg z]
            refine ⟨nI i, ς, υ, g, u, v, rfl, ?_, J1, J2, R⟩
            rw [show (3 : Int32) = nI 3 from rfl, pk_div (by omega) (by omega) (by omega), Nat.mul_div_cancel_left i (by omega)]
      · obtain rfl : i = m := by omega
        rw [if_pos (nI_le (by omega) (by omega)), if_pos (nI_le (by omega) (by omega)), e3]
        refine ⟨nI i, ς, υ, g, u, v, rfl, ?_, J1, J2, R⟩
        rw [show (3 : Int32) = nI 3 from rfl, pk_div (by omega) (by omega) (by omega), Nat.mul_div_cancel_left i (by omega)]
  exact key 0 21 1000 σ1 τ1 h0 0 0 (by omega) (by omega) (by omega) f3 f4 f5
end
