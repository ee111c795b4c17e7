/-! PURE SIDE: acts of each kind, all acts -/
set_option maxRecDepth 100000
section
variable {D : Prop} {N f A a st : Nat} {h h0 : Nat → Option Nat} {w d s : Nat → Nat} {ac : Nat → acT} {σ τ σ' τ' : gw_S}
/-- a holder is laid in both -/
theorem nw_lay (R : nw D N h a st σ τ) {b : Nat} {o : Option Nat} (ho : ∀ k, o = some k → k < N) : nw D N (fun p => if p = b then o else h p) a st (gw_u σ 3 b (oI o)) (gw_u τ 11 b (oI o)) := by
  obtain ⟨r1, r2, ⟨r3, r4, r5, r6, r7, r8⟩, r9⟩ := R
  refine ⟨r1, r2, ⟨r3, r4, r5, r6, r7, r8⟩, fun p hp => ?_⟩
  obtain ⟨q1, q2, q3, q4, q5⟩ := r9 p hp
  show upd (σ.1 3) b (oI o) p = oI (if p = b then o else h p) ∧ upd (τ.1 11) b (oI o) p = oI (if p = b then o else h p) ∧ (∀ k, (if p = b then o else h p) = some k → k < N) ∧ σ.1 4 p = τ.1 12 p ∧ _
  by_cases e : p = b
  · subst e
    rw [pk_us, pk_us, if_pos rfl]
    exact ⟨rfl, rfl, ho, q4, q5⟩
  · rw [pk_un e, pk_un e, if_neg e]
    exact ⟨q1, q2, q3, q4, q5⟩
theorem jk_h {b : Nat} {v : Int32} : jk σ (gw_u σ 3 b v) := ⟨rfl, rfl, rfl, rfl, rfl, rfl, rfl, rfl, rfl, rfl⟩
theorem jm_h {b : Nat} {v : Int32} : jm τ (gw_u τ 11 b v) := ⟨rfl, rfl, rfl, rfl, rfl, rfl, rfl, rfl, rfl, rfl, rfl, rfl⟩
theorem nw_done (R : nw D N h a st σ τ) {x : Int32} : nw D N h a st (gw_u σ 0 8 x) (gw_u τ 0 27 x) := by
  obtain ⟨r1, r2, ⟨r3, r4, r5, r6, r7, r8⟩, r9⟩ := R
  exact ⟨r1, r2, ⟨r3, r4, r5, r6, r7, fun _ => rfl⟩, r9⟩
theorem nw_doneX (R : nw D N h a st σ τ) {x : Int32} (e : D → x = τ.1 0 27) : nw D N h a st (gw_u σ 0 8 x) τ := by
  obtain ⟨r1, r2, ⟨r3, r4, r5, r6, r7, r8⟩, r9⟩ := R
  exact ⟨r1, r2, ⟨r3, r4, r5, r6, r7, e⟩, r9⟩
theorem nw_ask0 (c : ctS N f A h0 w d s ac σ τ) (R : nw D N h a st σ τ) {b : Nat} (hb : b < N) (x1 x3 x4 : Int32) : ∃ σ' τ' h', fx_X7_does_1 σ x1 (nI b) x3 x4 = some σ' ∧ fx_X3_does τ 0 x1 (nI b) x3 x4 = some τ' ∧ jk σ σ' ∧ jm τ τ' ∧ nw D N h' (a ||| 2 ^ b) st σ' τ' ∧ σ'.1 4 b = σ.1 4 b + 1 := by
  obtain ⟨σ1, τ1, h', e1, e2, e3, e4, e5, e6, e7, e8⟩ := nw_ask c R hb
  refine ⟨gw_u σ1 0 8 (σ.1 0 8 + 1), gw_u τ1 0 27 (τ.1 0 27 + 1), h', e1 x1 x3 x4, ?_, e3.tr ⟨rfl, rfl, rfl, rfl, rfl, rfl, rfl, rfl, rfl, rfl⟩, e4.tr ⟨rfl, rfl, rfl, rfl, rfl, rfl, rfl, rfl, rfl, rfl, rfl, rfl⟩, ?_, e8⟩
  · unfold fx_X3_does
    rw [if_pos rfl, e2, gw_b1_s, e7]
  · obtain ⟨r1, r2, ⟨r3, r4, r5, r6, r7, r8⟩, r9⟩ := e5
    refine ⟨r1, r2, ⟨r3, r4, r5, r6, r7, fun q => ?_⟩, r9⟩
    show σ.1 0 8 + 1 = τ.1 0 27 + 1
    rw [R.2.2.1.2.2.2.2.2 q]
theorem nw_give (c : ctS N f A h0 w d s ac σ τ) (R : nw D N h a st σ τ) {b p t : Nat} (hb : b < N) (hp : p < N) (ht : t < N) (x1 : Int32) : ∃ σ' τ' h', fx_X8_does_2 σ x1 (nI b) (nI p) (nI t) = some σ' ∧ fx_X3_does τ 1 x1 (nI b) (nI p) (nI t) = some τ' ∧ jk σ σ' ∧ jm τ τ' ∧ nw D N h' (a ||| 2 ^ b) st σ' τ' := by
  have h8 := c.1
  have R1 := nw_lay (b := p) R (o := some t) (fun k e => by cases e; exact ht)
  have c1 := c.move (jk_h (b := p) (v := nI t)) (jm_h (b := p) (v := nI t))
  obtain ⟨σ1, τ1, h', e1, e2, e3, e4, e5, e6, e7, e8⟩ := nw_ask c1 R1 hb
  refine ⟨gw_u (gw_u σ1 0 8 (σ.1 0 8 + 1)) 0 8 (σ.1 0 8 + 1 - 1), τ1, h', ?_, ?_, jk_h.tr (e3.tr ⟨rfl, rfl, rfl, rfl, rfl, rfl, rfl, rfl, rfl, rfl⟩), jm_h.tr e4, ?_⟩
  · unfold fx_X8_does_2
    rw [pq_ck (by omega) (by omega), nI_clamp (by omega)]
    show gw_b1 (fx_X7_does_1 (gw_u σ 3 p (nI t)) x1 (nI b) (nI p) (nI t)) _ = _
    rw [e1 x1 (nI p) (nI t), gw_b1_s]
    rfl
  · unfold fx_X3_does
    rw [if_neg (by decide), if_pos rfl, pq_ck (by omega) (by omega), nI_clamp (by omega)]
    simp only [gw_let]
    rw [e2, gw_b1_s]
  · have e10 : τ1.1 0 27 = τ.1 0 27 := e7
    obtain ⟨r1, r2, ⟨r3, r4, r5, r6, r7, r8⟩, r9⟩ := e5
    refine ⟨r1, r2, ⟨r3, r4, r5, r6, r7, fun q => ?_⟩, r9⟩
    have e9 : σ.1 0 8 = τ.1 0 27 := R.2.2.1.2.2.2.2.2 q
    show σ.1 0 8 + 1 - 1 = τ1.1 0 27
    rw [e10, ← e9]
    simp
theorem nw_swap (c : ctS N f A h0 w d s ac σ τ) (R : nw D N h a st σ τ) {x y : Nat} (hx : x < N) (hy : y < N) (x3 x4 : Int32) : ∃ σ' τ' h', fx_X9_does_3 σ (nI x) (nI y) x3 x4 = some σ' ∧ fx_X3_does τ 2 (nI x) (nI y) x3 x4 = some τ' ∧ jk σ σ' ∧ jm τ τ' ∧ nw D N h' a st σ' τ' := by
  have h8 := c.1
  obtain ⟨x1, x2, x3', x4', x5⟩ := R.2.2.2 x hx
  obtain ⟨y1, y2, y3, y4, y5⟩ := R.2.2.2 y hy
  refine ⟨gw_u (gw_u σ 3 x (oI (h y))) 3 y (oI (h x)), gw_u (gw_u τ 11 x (oI (h y))) 11 y (oI (h x)), _, ?_, ?_, jk_h.tr jk_h, jm_h.tr jm_h, nw_lay (nw_lay R y3) x3'⟩
  · unfold fx_X9_does_3; simp only [gw_let]
    rw [pq_ck (by omega) (by omega), pq_ck (by omega) (by omega), pq_ck (by omega) (by omega), pq_ck (by omega) (by omega), nI_clamp (by omega), nI_clamp (by omega), y1, x1]
  · unfold fx_X3_does; simp only [gw_let]
    rw [if_neg (by decide), if_neg (by decide), if_pos trivial, pq_ck (by omega) (by omega), pq_ck (by omega) (by omega), pq_ck (by omega) (by omega), pq_ck (by omega) (by omega), nI_clamp (by omega), nI_clamp (by omega), y2, x2]
theorem nw_steal (c : ctS N f A h0 w d s ac σ τ) (R : nw D N h a st σ τ) {x y : Nat} (hx : x < N) (hy : y < N) (x3 x4 : Int32) : ∃ σ' τ' h', fx_X10_does_4 σ (nI x) (nI y) x3 x4 = some σ' ∧ fx_X3_does τ 3 (nI x) (nI y) x3 x4 = some τ' ∧ jk σ σ' ∧ jm τ τ' ∧ nw D N h' a (st ||| 2 ^ y) σ' τ' := by
  have h8 := c.1
  obtain ⟨r1, r2, ⟨r3, r4, r5, r6, r7, r8⟩, r9⟩ := R
  obtain ⟨y1, y2, y3, y4, y5⟩ := r9 y hy
  have hs8 := pw8 h8 r2
  refine ⟨gw_u (gw_u (gw_u σ 5 y (oI (h y))) 3 y (nI x)) 0 7 (nI (st ||| 2 ^ y)), gw_u (gw_u (gw_u τ 13 y (oI (h y))) 11 y (nI x)) 0 25 (nI (st ||| 2 ^ y)), fun p => if p = y then some x else h p, ?_, ?_, ⟨rfl, rfl, rfl, rfl, rfl, rfl, rfl, rfl, rfl, rfl⟩, ⟨rfl, rfl, rfl, rfl, rfl, rfl, rfl, rfl, rfl, rfl, rfl, rfl⟩, ?_⟩
  · unfold fx_X10_does_4; simp only [gw_let]
    rw [pq_ck (by omega) (by omega), pq_ck (by omega) (by omega), pq_ck (by omega) (by omega), nI_clamp (by omega), y1]
    rw [show (gw_u (gw_u σ 5 y (oI (h y))) 3 y (nI x)).1 0 7 = σ.1 0 7 from rfl, r5, pq_shl1 y (by omega), pq_or]
  · unfold fx_X3_does; simp only [gw_let]
    rw [if_neg (by decide), if_neg (by decide), if_neg (by decide), if_pos trivial, pq_ck (by omega) (by omega), pq_ck (by omega) (by omega), pq_ck (by omega) (by omega), nI_clamp (by omega), y2]
    rw [show (gw_u (gw_u τ 13 y (oI (h y))) 11 y (nI x)).1 0 25 = τ.1 0 25 from rfl, r6, pq_shl1 y (by omega), pq_or]
  · refine ⟨r1, or_lt r2 hy, ⟨r3, r4, rfl, rfl, r7, r8⟩, fun p hp => ?_⟩
    obtain ⟨q1, q2, q3, q4, q5⟩ := r9 p hp
    show upd (σ.1 3) y (nI x) p = oI (if p = y then some x else h p) ∧ upd (τ.1 11) y (nI x) p = oI (if p = y then some x else h p) ∧ (∀ k, (if p = y then some x else h p) = some k → k < N) ∧ σ.1 4 p = τ.1 12 p ∧ ((st ||| 2 ^ y).testBit p = true → ∃ o, upd (σ.1 5) y (oI (h y)) p = oI o ∧ upd (τ.1 13) y (oI (h y)) p = oI o ∧ ∀ k, o = some k → k < N)
    by_cases e : p = y
    · subst e
      rw [pk_us, pk_us, pk_us, pk_us, if_pos rfl]
      exact ⟨rfl, rfl, fun k e => by (cases e; exact hx), q4, fun _ => ⟨h p, rfl, rfl, q3⟩⟩
    · rw [pk_un e, pk_un e, pk_un e, pk_un e, if_neg e]
      refine ⟨q1, q2, q3, q4, fun z => q5 ?_⟩
      rw [Nat.testBit_or, Nat.testBit_two_pow] at z
      simpa [show ¬ y = p from fun q => e q.symm] using z
/-- the day's end -/
theorem nw_day (c : ctS N f A h0 w d s ac σ τ) (R : nw D N h a st σ τ) (x1 x2 x3 x4 y1 y2 y3 y4 : Int32) : ∃ σ' τ' h', fx_X11_does_5 σ x1 x2 x3 x4 = some σ' ∧ fx_X3_does τ 4 y1 y2 y3 y4 = some τ' ∧ fx_X3_dayEnds τ = some τ' ∧ jk σ σ' ∧ jm τ τ' ∧ nw D N h' 0 0 σ' τ' ∧ σ'.1 0 5 = σ.1 0 5 + 1 := by
  have h8 := c.1
  have hs8 := pw8 h8 R.2.1
  have cN := c.2.2.2.1.2.2.1
  have cM := c.2.2.2.1.2.2.2.1
  have two : ∀ n m i (ς υ : gw_S) (g : Nat → Option Nat), i ≤ N → N - i < n → N - i < m → jk σ ς → jm τ υ → nw D N g a st ς υ → ς.1 0 5 = σ.1 0 5 →
      ∃ σ' τ' h', fx_X11_does_5_L3 (fun (σ1 : gw_S) => gw_let (gw_u σ1 0 7 0) (fun σ2 => gw_let (gw_u σ2 0 6 0) (fun σ4 => some (gw_u σ4 0 5 ((σ4.1 0 5) + (1 : Int32)))))) n (nI i) ς = some σ' ∧ fx_X3_dayEnds_L2 m (nI i) υ = some τ' ∧ jk σ σ' ∧ jm τ τ' ∧ nw D N h' 0 0 σ' τ' ∧ σ'.1 0 5 = σ.1 0 5 + 1 := by
    intro n
    induction n with
    | zero => intro m i ς υ g _ q; omega
    | succ n ih =>
      intro m i ς υ g hi hn hm J1 J2 R e5
      obtain ⟨m, rfl⟩ : ∃ m', m = m' + 1 := ⟨m - 1, by omega⟩
      have eN : ς.1 1 2 = nI N := by rw [J1.1]; exact cN
      have eM : υ.1 7 1 = nI N := by rw [J2.2.2.2.2.2.1]; exact cM
      obtain ⟨r1, r2, ⟨r3, r4, r5, r6, r7, r8⟩, r9⟩ := R
      by_cases lt : i < N
      · rw [fx_X11_does_5_L3, fx_X3_dayEnds_L2, eN, eM, if_neg (nI_ge lt (by omega)), if_neg (nI_ge lt (by omega)), r5, r6, pq_bit (by omega) (by omega), pq_bitM (by omega) (by omega)]
        obtain ⟨q1, q2, q3, q4, q5⟩ := r9 i lt
        by_cases b : st.testBit i = true
        · rw [if_pos b, if_pos b, pq_ck (by omega) (by omega), pq_ck (by omega) (by omega), pq_ck (by omega) (by omega), pq_ck (by omega) (by omega), pq_ck (by omega) (by omega), pq_ck (by omega) (by omega), nI_clamp (by omega), q1, q2]
          obtain ⟨o, o1, o2, o3⟩ := q5 b
          by_cases z : oI (g i) = -1
          · rw [if_pos z, if_pos z, nI_1]
            exact ih m (i + 1) ς υ g (by omega) (by omega) (by omega) J1 J2 ⟨r1, r2, ⟨r3, r4, r5, r6, r7, r8⟩, r9⟩ e5
          · rw [if_neg z, if_neg z, nI_1, o1, o2]
            exact ih m (i + 1) _ _ _ (by omega) (by omega) (by omega) (J1.tr jk_h) (J2.tr jm_h) (nw_lay (b := i) ⟨r1, r2, ⟨r3, r4, r5, r6, r7, r8⟩, r9⟩ o3) e5
        · rw [if_neg b, if_neg b, nI_1]
          exact ih m (i + 1) ς υ g (by omega) (by omega) (by omega) J1 J2 ⟨r1, r2, ⟨r3, r4, r5, r6, r7, r8⟩, r9⟩ e5
      · obtain rfl : i = N := by omega
        rw [fx_X11_does_5_L3, fx_X3_dayEnds_L2, eN, eM, if_pos (nI_le (Nat.le_refl _) (by omega)), if_pos (nI_le (Nat.le_refl _) (by omega))]
        refine ⟨gw_u (gw_u (gw_u ς 0 7 0) 0 6 0) 0 5 (ς.1 0 5 + 1), gw_u (gw_u (gw_u υ 0 25 0) 0 24 0) 0 26 (υ.1 0 26 + 1), g, rfl, rfl, J1.tr ⟨rfl, rfl, rfl, rfl, rfl, rfl, rfl, rfl, rfl, rfl⟩, J2.tr ⟨rfl, rfl, rfl, rfl, rfl, rfl, rfl, rfl, rfl, rfl, rfl, rfl⟩, ⟨Nat.two_pow_pos _, Nat.two_pow_pos _, ⟨rfl, rfl, rfl, rfl, ?_, r8⟩, fun p hp => ?_⟩, ?_⟩
        · show ς.1 0 5 + 1 = υ.1 0 26 + 1
          rw [r7]
        · obtain ⟨q1, q2, q3, q4, q5⟩ := r9 p hp
          exact ⟨q1, q2, q3, q4, fun z => by simp at z⟩
        · show ς.1 0 5 + 1 = σ.1 0 5 + 1
          rw [e5]
  obtain ⟨σ', τ', h', e1, e2, e3, e4, e5, e6⟩ := two 1000 1000 0 σ τ h (by omega) (by omega) (by omega) (jk.rf σ) (jm.rf τ) R rfl
  refine ⟨σ', τ', h', e1, ?_, e2, e3, e4, e5, e6⟩
  unfold fx_X3_does
  rw [if_neg (by decide), if_neg (by decide), if_neg (by decide), if_neg (by decide)]
  show gw_b1 (fx_X3_dayEnds_L2 1000 (nI 0) τ) _ = _
  rw [e2, gw_b1_s]
/-- an act of any kind -/
theorem dig {k p q r t : Nat} (hk : k ≤ 4) (hp : p ≤ 9) (hq : q ≤ 9) (hr : r ≤ 9) (ht : t ≤ 9) : (10000 * k + 1000 * p + 100 * q + 10 * r + t) / 10000 = k ∧ (10000 * k + 1000 * p + 100 * q + 10 * r + t) / 1000 % 10 = p ∧ (10000 * k + 1000 * p + 100 * q + 10 * r + t) / 100 % 10 = q ∧ (10000 * k + 1000 * p + 100 * q + 10 * r + t) / 10 % 10 = r ∧ (10000 * k + 1000 * p + 100 * q + 10 * r + t) % 10 = t := by omega
theorem nw_act (c : ctS N f A h0 w d s ac σ τ) (R : nw D N h a st σ τ) {x : acT} (hx : ac_ok N x) : ∃ σ' τ' h' a' st', fx_X0_does σ (nI (ac_cd x)) = some σ' ∧ fx_X3_does τ (nI x.1) (nI x.2.1) (nI x.2.2.1) (nI x.2.2.2.1) (nI x.2.2.2.2) = some τ' ∧ jk σ σ' ∧ jm τ τ' ∧ nw D N h' a' st' σ' τ' ∧ (x.1 = 0 → σ'.1 4 x.2.2.1 = σ.1 4 x.2.2.1 + 1) ∧ (x.1 = 4 → σ'.1 0 5 = σ.1 0 5 + 1) := by
  obtain ⟨k, p, q, r, t⟩ := x
  obtain ⟨x1, x2, x3, x4, x5, x6, x7⟩ := hx
  have x1 : k ≤ 4 := x1
  have x2 : p ≤ 9 := x2
  have x3 : q ≤ 9 := x3
  have x4 : r ≤ 9 := x4
  have x5 : t ≤ 9 := x5
  have x6 : k ≠ 4 → p < N ∧ q < N := x6
  have x7 : k = 1 → r < N ∧ t < N := x7
  obtain ⟨d1, d2, d3, d4, d5⟩ := dig x1 x2 x3 x4 x5
  have hb : 10000 * k + 1000 * p + 100 * q + 10 * r + t < 2 ^ 31 := by omega
  have E : fx_X0_does σ (nI (ac_cd (k, p, q, r, t))) = if nI k = 0 then fx_X7_does_1 σ (nI p) (nI q) (nI r) (nI t) else (if nI k = 1 then fx_X8_does_2 σ (nI p) (nI q) (nI r) (nI t) else (if nI k = 2 then fx_X9_does_3 σ (nI p) (nI q) (nI r) (nI t) else (if nI k = 3 then fx_X10_does_4 σ (nI p) (nI q) (nI r) (nI t) else (if nI k = 4 then fx_X11_does_5 σ (nI p) (nI q) (nI r) (nI t) else none)))) := by
    show fx_X0_does σ (nI (10000 * k + 1000 * p + 100 * q + 10 * r + t)) = _
    have g1 : ∀ m : Nat, m < 2 ^ 31 → nI m / (10000 : Int32) = nI (m / 10000) := fun m hm => pk_div (d := 10000) hm (by decide) (by decide)
    have g2 : ∀ m : Nat, m < 2 ^ 31 → nI m / (1000 : Int32) = nI (m / 1000) := fun m hm => pk_div (d := 1000) hm (by decide) (by decide)
    have g3 : ∀ m : Nat, m < 2 ^ 31 → nI m / (100 : Int32) = nI (m / 100) := fun m hm => pk_div (d := 100) hm (by decide) (by decide)
    have g4 : ∀ m : Nat, m < 2 ^ 31 → nI m - nI m / (10 : Int32) * (10 : Int32) = nI (m % 10) := fun m hm => pk_rem (d := 10) hm (by decide) (by decide)
    have g5 : ∀ m : Nat, m < 2 ^ 31 → nI m / (10 : Int32) = nI (m / 10) := fun m hm => pk_div (d := 10) hm (by decide) (by decide)
    have g6 : nI (10000 * k + 1000 * p + 100 * q + 10 * r + t) / (10 : Int32) - nI (10000 * k + 1000 * p + 100 * q + 10 * r + t) / (10 : Int32) / (10 : Int32) * (10 : Int32) = nI r := by
      rw [g5 _ hb, g4 _ (by omega), d4]
    unfold fx_X0_does
    rw [g1 _ hb, g2 _ hb, g3 _ hb, g4 _ (by omega), g4 _ (by omega), g4 _ hb, g6, d1, d2, d3, d5]
  rw [E]
  rcases (show k = 0 ∨ k = 1 ∨ k = 2 ∨ k = 3 ∨ k = 4 from by omega) with e | e | e | e | e
  · subst e
    obtain ⟨σ', τ', h', e1, e2, e3, e4, e5, e6⟩ := nw_ask0 c R (x6 (by decide)).2 (nI p) (nI r) (nI t)
    exact ⟨σ', τ', h', _, _, (if_pos rfl).trans e1, e2, e3, e4, e5, fun _ => e6, fun q => by simp at q⟩
  · subst e
    obtain ⟨σ', τ', h', e1, e2, e3, e4, e5⟩ := nw_give c R (x6 (by decide)).2 (x7 rfl).1 (x7 rfl).2 (nI p)
    exact ⟨σ', τ', h', _, _, (if_neg (by decide)).trans ((if_pos rfl).trans e1), e2, e3, e4, e5, fun q => by simp at q, fun q => by simp at q⟩
  · subst e
    obtain ⟨σ', τ', h', e1, e2, e3, e4, e5⟩ := nw_swap c R (x6 (by decide)).1 (x6 (by decide)).2 (nI r) (nI t)
    exact ⟨σ', τ', h', _, _, (if_neg (by decide)).trans ((if_neg (by decide)).trans ((if_pos rfl).trans e1)), e2, e3, e4, e5, fun q => by simp at q, fun q => by simp at q⟩
  · subst e
    obtain ⟨σ', τ', h', e1, e2, e3, e4, e5⟩ := nw_steal c R (x6 (by decide)).1 (x6 (by decide)).2 (nI r) (nI t)
    exact ⟨σ', τ', h', _, _, (if_neg (by decide)).trans ((if_neg (by decide)).trans ((if_neg (by decide)).trans ((if_pos rfl).trans e1))), e2, e3, e4, e5, fun q => by simp at q, fun q => by simp at q⟩
  · subst e
    obtain ⟨σ', τ', h', e1, e2, _, e3, e4, e5, e6⟩ := nw_day c R (nI p) (nI q) (nI r) (nI t) (nI p) (nI q) (nI r) (nI t)
    exact ⟨σ', τ', h', _, _, (if_neg (by decide)).trans ((if_neg (by decide)).trans ((if_neg (by decide)).trans ((if_neg (by decide)).trans ((if_pos rfl).trans e1)))), e2, e3, e4, e5, fun q => by simp at q, fun _ => e6⟩
/-- all acts -/
theorem nw_all (c : ctS N f A h0 w d s ac σ τ) : ∃ σ' τ' h a st, fx_X0_asItIs σ = some σ' ∧ fx_X3_laysNow τ = some τ' ∧ jk σ σ' ∧ jm τ τ' ∧ nw D N h a st σ' τ' := by
  obtain ⟨σ1, τ1, f1, f2, f3, f4, f5⟩ := nw_first (D := D) c
  have hA := c.2.2.1
  unfold fx_X0_asItIs fx_X3_laysNow
  rw [f1, f2, gw_b1_s, gw_b1_s]
  have key : ∀ n m i (ς υ : gw_S) (g : Nat → Option Nat) (x y : Nat), i ≤ A → A - i < n → A - i < m → jk σ ς → jm τ υ → nw D N g x y ς υ → ∃ σ' τ' h a st, fx_X0_asItIs_L6 n (nI i) ς = some σ' ∧ fx_X3_laysNow_L6 m (nI i) υ = some τ' ∧ jk σ σ' ∧ jm τ τ' ∧ nw D N h a st σ' τ' := by
    intro n
    induction n with
    | zero => intro m i ς υ g x y _ q; omega
    | succ n ih =>
      intro m i ς υ g x y hi hn hm J1 J2 R
      obtain ⟨m, rfl⟩ : ∃ m', m = m' + 1 := ⟨m - 1, by omega⟩
      have cc := c.move J1 J2
      have cA := cc.2.2.2.1.2.2.2.2.1
      have cB := cc.2.2.2.1.2.2.2.2.2.1
      by_cases lt : i < A
      · obtain ⟨t1, t2, t3, t4, t5, t6, t7⟩ := cc.2.2.2.2.2.2.2 i lt
        obtain ⟨σ2, τ2, g2, x2, y2, e1, e2, e3, e4, e5, _⟩ := nw_act cc R t1
        rw [fx_X0_asItIs_L6, fx_X3_laysNow_L6, cA, cB, if_neg (nI_ge lt (by omega)), if_neg (nI_ge lt (by omega)), pq_ck (by omega) (by omega), nI_clamp (by omega), t2, e1, gw_b1_s]
        rw [show (5 : Int32) = nI 5 from rfl, pk_mul, show (1 : Int32) = nI 1 from rfl, show (2 : Int32) = nI 2 from rfl, show (3 : Int32) = nI 3 from rfl, show (4 : Int32) = nI 4 from rfl, nI_add, nI_add, nI_add, nI_add, nI_add, pq_ck (by omega) (by omega), pq_ck (by omega) (by omega), pq_ck (by omega) (by omega), pq_ck (by omega) (by omega), pq_ck (by omega) (by omega), nI_clamp (by omega), nI_clamp (by omega), nI_clamp (by omega), nI_clamp (by omega), nI_clamp (by omega), t3, t4, t5, t6, t7, e2, gw_b1_s]
        exact ih m (i + 1) σ2 τ2 g2 x2 y2 (by omega) (by omega) (by omega) (J1.tr e3) (J2.tr e4) e5
      · obtain rfl : i = A := by omega
        rw [fx_X0_asItIs_L6, fx_X3_laysNow_L6, cA, cB, if_pos (nI_le (Nat.le_refl _) (by omega)), if_pos (nI_le (Nat.le_refl _) (by omega))]
        exact ⟨ς, υ, g, x, y, rfl, rfl, J1, J2, R⟩
  exact key 64 1000 0 σ1 τ1 h0 0 0 (by omega) (by omega) (by omega) f3 f4 f5
end
