/-! PURE SIDE: the city in both, and how it is now by what was done -/
set_option maxRecDepth 100000
/-- only what no answer hangs on has changed: of the class, of the reference -/
def jk (σ σ' : gw_S) : Prop := σ'.1 1 = σ.1 1 ∧ σ'.1 2 = σ.1 2 ∧ σ'.1 9 = σ.1 9 ∧ σ'.1 10 = σ.1 10 ∧ σ'.1 11 = σ.1 11 ∧ σ'.1 12 = σ.1 12 ∧ σ'.1 13 = σ.1 13 ∧ σ'.1 0 2 = σ.1 0 2 ∧ σ'.1 0 3 = σ.1 0 3 ∧ σ'.1 0 4 = σ.1 0 4
def jm (τ τ' : gw_S) : Prop := τ'.1 1 = τ.1 1 ∧ τ'.1 2 = τ.1 2 ∧ τ'.2 3 = τ.2 3 ∧ τ'.1 5 = τ.1 5 ∧ τ'.1 6 = τ.1 6 ∧ τ'.1 7 = τ.1 7 ∧ τ'.1 8 = τ.1 8 ∧ τ'.1 9 = τ.1 9 ∧ τ'.1 10 = τ.1 10 ∧ τ'.1 0 6 = τ.1 0 6 ∧ τ'.1 0 14 = τ.1 0 14 ∧ τ'.1 0 15 = τ.1 0 15
theorem jk.rf (σ : gw_S) : jk σ σ := ⟨rfl, rfl, rfl, rfl, rfl, rfl, rfl, rfl, rfl, rfl⟩
theorem jm.rf (τ : gw_S) : jm τ τ := ⟨rfl, rfl, rfl, rfl, rfl, rfl, rfl, rfl, rfl, rfl, rfl, rfl⟩
theorem jk.tr {a b c : gw_S} (x : jk a b) (y : jk b c) : jk a c := by
  obtain ⟨x1, x2, x3, x4, x5, x6, x7, x8, x9, x10⟩ := x
  obtain ⟨y1, y2, y3, y4, y5, y6, y7, y8, y9, y10⟩ := y
  exact ⟨y1.trans x1, y2.trans x2, y3.trans x3, y4.trans x4, y5.trans x5, y6.trans x6, y7.trans x7, y8.trans x8, y9.trans x9, y10.trans x10⟩
theorem jm.tr {a b c : gw_S} (x : jm a b) (y : jm b c) : jm a c := by
  obtain ⟨x1, x2, x3, x4, x5, x6, x7, x8, x9, x10, x11, x12⟩ := x
  obtain ⟨y1, y2, y3, y4, y5, y6, y7, y8, y9, y10, y11, y12⟩ := y
  exact ⟨y1.trans x1, y2.trans x2, y3.trans x3, y4.trans x4, y5.trans x5, y6.trans x6, y7.trans x7, y8.trans x8, y9.trans x9, y10.trans x10, y11.trans x11, y12.trans x12⟩
/-- an act: its kind and four numbers -/
abbrev acT : Type := Nat × Nat × Nat × Nat × Nat
def ac_ok (N : Nat) (x : acT) : Prop := x.1 ≤ 4 ∧ x.2.1 ≤ 9 ∧ x.2.2.1 ≤ 9 ∧ x.2.2.2.1 ≤ 9 ∧ x.2.2.2.2 ≤ 9 ∧ (x.1 ≠ 4 → x.2.1 < N ∧ x.2.2.1 < N) ∧ (x.1 = 1 → x.2.2.2.1 < N ∧ x.2.2.2.2 < N)
def ac_cd (x : acT) : Nat := 10000 * x.1 + 1000 * x.2.1 + 100 * x.2.2.1 + 10 * x.2.2.2.1 + x.2.2.2.2
/-- a city in both: C the class' cells (1, 9 .. 13), of the reference L its lines, H its three words, P its persons, K its acts -/
def ct (N f A : Nat) (h0 : Nat → Option Nat) (w d s : Nat → Nat) (ac : Nat → acT) (C : Nat → Nat → Int32) (L : Int32) (H P K : Nat → Int32) : Prop :=
  N ≤ 8 ∧ f < 2 ^ N ∧ A ≤ 40 ∧ (C 1 0 = H 0 ∧ C 1 1 = L ∧ C 1 2 = nI N ∧ H 1 = nI N ∧ C 1 3 = nI A ∧ H 2 = nI A ∧ C 1 4 = nI f) ∧
  (∀ p, p < N → (∀ k, h0 p = some k → k < N) ∧ w p < 1000 ∧ d p < 64 ∧ s p < 64) ∧
  (∀ p, p < N → C 9 p = nI (w p) ∧ C 10 p = nI (d p) ∧ C 11 p = nI (s p) ∧ C 12 p = oI (h0 p)) ∧
  (∀ p, p < N → P (5 * p) = nI (w p) ∧ P (5 * p + 1) = nI (d p) ∧ P (5 * p + 2) = nI (s p) ∧ P (5 * p + 3) = oI (h0 p) ∧ P (5 * p + 4) = nI (if f.testBit p then 1 else 0)) ∧
  (∀ i, i < A → ac_ok N (ac i) ∧ C 13 i = nI (ac_cd (ac i)) ∧ K (5 * i) = nI (ac i).1 ∧ K (5 * i + 1) = nI (ac i).2.1 ∧ K (5 * i + 2) = nI (ac i).2.2.1 ∧ K (5 * i + 3) = nI (ac i).2.2.2.1 ∧ K (5 * i + 4) = nI (ac i).2.2.2.2)
def ctS (N f A : Nat) (h0 : Nat → Option Nat) (w d s : Nat → Nat) (ac : Nat → acT) (σ τ : gw_S) : Prop := ct N f A h0 w d s ac σ.1 (τ.1 6 0) (τ.1 7) (τ.1 8) (τ.1 9)
section
variable {D : Prop} {N f A a st : Nat} {h h0 : Nat → Option Nat} {w d s : Nat → Nat} {ac : Nat → acT} {σ τ σ' τ' : gw_S}
theorem ctS.move (c : ctS N f A h0 w d s ac σ τ) (x : jk σ σ') (y : jm τ τ') : ctS N f A h0 w d s ac σ' τ' := by
  obtain ⟨x1, x2, x3, x4, x5, x6, x7, x8, x9, x10⟩ := x
  obtain ⟨y1, y2, y3, y4, y5, y6, y7, y8, y9, y10, y11, y12⟩ := y
  unfold ctS ct at *
  rw [x1, x3, x4, x5, x6, x7, y5, y6, y7, y8]
  exact c
/-- the way things are now, in both -/
def nw (D : Prop) (N : Nat) (h : Nat → Option Nat) (a st : Nat) (σ τ : gw_S) : Prop :=
  a < 2 ^ N ∧ st < 2 ^ N ∧ (σ.1 0 6 = nI a ∧ τ.1 0 24 = nI a ∧ σ.1 0 7 = nI st ∧ τ.1 0 25 = nI st ∧ σ.1 0 5 = τ.1 0 26 ∧ (D → σ.1 0 8 = τ.1 0 27)) ∧
  ∀ p, p < N → σ.1 3 p = oI (h p) ∧ τ.1 11 p = oI (h p) ∧ (∀ k, h p = some k → k < N) ∧ σ.1 4 p = τ.1 12 p ∧ (st.testBit p = true → ∃ o, σ.1 5 p = oI o ∧ τ.1 13 p = oI o ∧ ∀ k, o = some k → k < N)
theorem nw.view (c : ctS N f A h0 w d s ac σ τ) (R : nw D N h a st σ τ) : vw N h w d s f a ∧ vX N h w d s f a σ ∧ vM N h w d s f a τ := by
  obtain ⟨c1, c2, c3, ⟨c4, c5, c6, c7, c8, c9, c10⟩, c11, c12, c13, c14⟩ := c
  obtain ⟨r1, r2, ⟨r3, r4, r5, r6, r7, r8⟩, r9⟩ := R
  refine ⟨⟨c1, pw8 c1 c2, pw8 c1 r1, fun p hp => ⟨(r9 p hp).2.2.1, (c11 p hp).2⟩⟩, ⟨c6, c10, r3, fun p hp => ⟨(r9 p hp).1, (c12 p hp).1, (c12 p hp).2.1, (c12 p hp).2.2.1⟩⟩, ⟨c7, r4, fun p hp => ⟨(r9 p hp).2.1, (c13 p hp).1, (c13 p hp).2.1, (c13 p hp).2.2.1, (c13 p hp).2.2.2.2⟩⟩⟩
/-! at first -/
theorem xe_first (c : ctS N f A h0 w d s ac σ τ) : ∃ σ', fx_X0_asAtFirst σ = some σ' ∧ jk σ σ' ∧ σ'.1 0 5 = 0 ∧ σ'.1 0 6 = 0 ∧ σ'.1 0 7 = 0 ∧ σ'.1 0 8 = 0 ∧ (∀ p, p < 8 → σ'.1 3 p = σ.1 12 p ∧ σ'.1 4 p = 0) := by
  unfold fx_X0_asAtFirst
  simp only [gw_let]
  have key := pq_loop (fun n (ς : gw_S) c => fx_X0_asAtFirst_L40 n c ς) (fun o => ∃ ς, o = some ς ∧ jk σ ς ∧ ς.1 0 5 = 0 ∧ ς.1 0 6 = 0 ∧ ς.1 0 7 = 0 ∧ ς.1 0 8 = 0 ∧ (∀ p, p < 8 → ς.1 3 p = σ.1 12 p ∧ ς.1 4 p = 0)) 8
    (fun i ς => jk σ ς ∧ ς.1 0 5 = 0 ∧ ς.1 0 6 = 0 ∧ ς.1 0 7 = 0 ∧ ς.1 0 8 = 0 ∧ (∀ p, p < 8 → ς.1 3 p = σ.1 12 p) ∧ (∀ p, p < i → ς.1 4 p = 0)) ?_ ?_ 1000 0 (gw_ua (gw_u (gw_u (gw_u (gw_u σ 0 5 0) 0 6 0) 0 7 0) 0 8 0) 3 (va_cpy ((gw_u (gw_u (gw_u (gw_u σ 0 5 0) 0 6 0) 0 7 0) 0 8 0).1 12) ((gw_u (gw_u (gw_u (gw_u σ 0 5 0) 0 6 0) 0 7 0) 0 8 0).1 3) 0 0 8)) (by omega) (by omega) ?_
  · exact key
  · intro n ς I
    obtain ⟨i1, i2, i3, i4, i5, i6, i7⟩ := I
    refine ⟨ς, ?_, i1, i2, i3, i4, i5, fun p hp => ⟨i6 p hp, i7 p hp⟩⟩
    show fx_X0_asAtFirst_L40 (n + 1) (nI 8) ς = _
    rw [fx_X0_asAtFirst_L40]
    exact if_pos (by decide)
  · intro n i ς hi I ih
    obtain ⟨i1, i2, i3, i4, i5, i6, i7⟩ := I
    show ∃ ς', fx_X0_asAtFirst_L40 (n + 1) (nI i) ς = some ς' ∧ _
    rw [fx_X0_asAtFirst_L40, show (8 : Int32) = nI 8 from rfl, if_neg (nI_ge hi (by omega)), pq_ck hi (by omega), nI_clamp (by omega)]
    refine ih (gw_u ς 4 i 0) ⟨i1.tr ⟨rfl, rfl, rfl, rfl, rfl, rfl, rfl, rfl, rfl, rfl⟩, i2, i3, i4, i5, i6, fun p hp => ?_⟩
    show upd (ς.1 4) i 0 p = 0
    by_cases e : p = i
    · subst e; exact pk_us
    · rw [pk_un e]; exact i7 p (by omega)
  · refine ⟨⟨rfl, rfl, rfl, rfl, rfl, rfl, rfl, rfl, rfl, rfl⟩, rfl, rfl, rfl, rfl, fun p hp => ?_, fun p hp => absurd hp (by omega)⟩
    show va_cpy (σ.1 12) (σ.1 3) 0 0 8 p = σ.1 12 p
    exact sb_cpy0 hp
theorem me_first (c : ctS N f A h0 w d s ac σ τ) : ∃ τ', fx_X3_start τ = some τ' ∧ jm τ τ' ∧ τ'.1 0 24 = 0 ∧ τ'.1 0 25 = 0 ∧ τ'.1 0 26 = 0 ∧ τ'.1 0 27 = 0 ∧ (∀ p, p < N → τ'.1 11 p = oI (h0 p) ∧ τ'.1 12 p = 0) := by
  obtain ⟨c1, c2, c3, ⟨c4, c5, c6, c7, c8, c9, c10⟩, c11, c12, c13, c14⟩ := c
  unfold fx_X3_start
  have key := pq_loop (fun n (ς : gw_S) c => fx_X3_start_L2 n c ς) (fun o => ∃ ς, o = some ς ∧ jm τ ς ∧ ς.1 0 24 = 0 ∧ ς.1 0 25 = 0 ∧ ς.1 0 26 = 0 ∧ ς.1 0 27 = 0 ∧ (∀ p, p < N → ς.1 11 p = oI (h0 p) ∧ ς.1 12 p = 0)) N
    (fun i ς => jm τ ς ∧ (∀ p, p < i → ς.1 11 p = oI (h0 p) ∧ ς.1 12 p = 0)) ?_ ?_ 1000 0 τ (by omega) (by omega) ?_
  · exact key
  · intro n ς I
    obtain ⟨i1, i2⟩ := I
    refine ⟨gw_u (gw_u (gw_u (gw_u ς 0 24 0) 0 25 0) 0 26 0) 0 27 0, ?_, i1.tr ⟨rfl, rfl, rfl, rfl, rfl, rfl, rfl, rfl, rfl, rfl, rfl, rfl⟩, rfl, rfl, rfl, rfl, i2⟩
    show fx_X3_start_L2 (n + 1) (nI N) ς = _
    rw [fx_X3_start_L2, show ς.1 7 = τ.1 7 from i1.2.2.2.2.2.1, c7, if_pos (nI_le (Nat.le_refl _) (by omega))]
    rfl
  · intro n i ς hi I ih
    obtain ⟨i1, i2⟩ := I
    show ∃ ς', fx_X3_start_L2 (n + 1) (nI i) ς = some ς' ∧ _
    have e8 : ς.1 8 = τ.1 8 := i1.2.2.2.2.2.2.1
    rw [fx_X3_start_L2, show ς.1 7 = τ.1 7 from i1.2.2.2.2.2.1, c7, if_neg (nI_ge hi (by omega)), pm_of (x := 3) (by omega) 3 (by omega) rfl, gw_b1_s, e8, (c13 i hi).2.2.2.1, pq_ck (by omega) (by omega), nI_clamp (by omega)]
    simp only [gw_let]
    rw [pq_ck (by omega) (by omega), pq_ck (by omega) (by omega)]
    refine ih (gw_u (gw_u (gw_u ς 11 i (oI (h0 i))) 12 i 0) 13 i (-1)) ⟨i1.tr ⟨rfl, rfl, rfl, rfl, rfl, rfl, rfl, rfl, rfl, rfl, rfl, rfl⟩, fun p hp => ?_⟩
    show upd (ς.1 11) i (oI (h0 i)) p = oI (h0 p) ∧ upd (ς.1 12) i 0 p = 0
    by_cases e : p = i
    · subst e; exact ⟨pk_us, pk_us⟩
    · rw [pk_un e, pk_un e]; exact i2 p (by omega)
  · exact ⟨jm.rf τ, fun p hp => absurd hp (by omega)⟩
theorem nw_first (c : ctS N f A h0 w d s ac σ τ) : ∃ σ' τ', fx_X0_asAtFirst σ = some σ' ∧ fx_X3_start τ = some τ' ∧ jk σ σ' ∧ jm τ τ' ∧ nw D N h0 0 0 σ' τ' := by
  obtain ⟨σ', x1, x2, x3, x4, x5, x6, x7⟩ := xe_first c
  obtain ⟨τ', y1, y2, y3, y4, y5, y6, y7⟩ := me_first c
  refine ⟨σ', τ', x1, y1, x2, y2, Nat.two_pow_pos N, Nat.two_pow_pos N, ⟨x4, y3, x5, y4, x3.trans y5.symm, fun _ => x6.trans y6.symm⟩, fun p hp => ?_⟩
  have h8 := c.1
  have c11 := c.2.2.2.2.1 p hp
  have c12 := c.2.2.2.2.2.1 p hp
  refine ⟨(x7 p (by omega)).1.trans c12.2.2.2, (y7 p hp).1, c11.1, (x7 p (by omega)).2.trans (y7 p hp).2.symm, fun q => ?_⟩
  simp at q
/-! one act -/
theorem or_lt {N a b : Nat} (ha : a < 2 ^ N) (hb : b < N) : a ||| 2 ^ b < 2 ^ N := Nat.or_lt_two_pow ha (Nat.pow_lt_pow_right (by decide) hb)
/-- one is asked -/
theorem nw_ask (c : ctS N f A h0 w d s ac σ τ) (R : nw D N h a st σ τ) {b : Nat} (hb : b < N) : ∃ σ' τ' h', (∀ x1 x3 x4, fx_X7_does_1 σ x1 (nI b) x3 x4 = some (gw_u σ' 0 8 (σ.1 0 8 + 1))) ∧ fx_X3_isAsked τ (nI b) = some τ' ∧ jk σ σ' ∧ jm τ τ' ∧ nw D N h' (a ||| 2 ^ b) st σ' τ' ∧ σ'.1 0 8 = σ.1 0 8 ∧ τ'.1 0 27 = τ.1 0 27 ∧ σ'.1 4 b = σ.1 4 b + 1 := by
  obtain ⟨c1, c2, c3, ⟨c4, c5, c6, c7, c8, c9, c10⟩, c11, c12, c13, c14⟩ := c
  obtain ⟨r1, r2, ⟨r3, r4, r5, r6, r7, r8⟩, r9⟩ := R
  have hf8 := pw8 c1 c2
  have ha8 := pw8 c1 r1
  have hlX : fx_X0_limit (gw_u (gw_u σ 0 6 (nI (a ||| 2 ^ b))) 4 b (σ.1 4 b + 1)) (nI b) = if f.testBit b then 1 else τ.1 7 0 := by
    unfold fx_X0_limit
    show (if fx_X0_isOf (σ.1 1 4) (nI b) = true then (1 : Int32) else σ.1 1 0) = _
    rw [c10, pq_bit (by omega) (by omega), c4]
  have hlM : fx_X3_readable (gw_u (gw_u τ 0 24 (nI (a ||| 2 ^ b))) 12 b (τ.1 12 b + 1)) (nI b) = some (if f.testBit b then 1 else τ.1 7 0) := by
    unfold fx_X3_readable
    rw [pm_of (x := 4) (by omega) 4 (by omega) rfl, gw_b1_s]
    show (if τ.1 8 (5 * b + 4) = (1 : Int32) then some 1 else some (τ.1 7 0)) = _
    rw [(c13 b hb).2.2.2.2]
    by_cases e : f.testBit b = true
    · rw [if_pos e, if_pos e]; rfl
    · rw [if_neg e, if_neg e]; rfl
  have ew : σ.1 4 b = τ.1 12 b := (r9 b hb).2.2.2.1
  have hX : ∀ x1 x3 x4, fx_X7_does_1 σ x1 (nI b) x3 x4 = gw_b1 (if σ.1 4 b + 1 < (if f.testBit b then 1 else τ.1 7 0) then some (gw_u (gw_u σ 0 6 (nI (a ||| 2 ^ b))) 4 b (σ.1 4 b + 1)) else some (gw_u (gw_u (gw_u σ 0 6 (nI (a ||| 2 ^ b))) 4 b (σ.1 4 b + 1)) 3 b (-1))) (fun (σ5 : gw_S) => some (gw_u σ5 0 8 ((σ5.1 0 8) + (1 : Int32)))) := by
    intro x1 x3 x4
    unfold fx_X7_does_1
    simp only [gw_let]
    rw [r3, pq_shl1 b (by omega), pq_or, pq_ck (by omega) (by omega), pq_ck (by omega) (by omega), pq_ck (by omega) (by omega), pq_ck (by omega) (by omega), nI_clamp (by omega)]
    rw [show (gw_u σ 0 6 (nI (a ||| 2 ^ b))).1 4 b = σ.1 4 b from rfl, hlX]
    rw [show (gw_u (gw_u σ 0 6 (nI (a ||| 2 ^ b))) 4 b (σ.1 4 b + 1)).1 4 b = σ.1 4 b + 1 from pk_us]
  have hM : fx_X3_isAsked τ (nI b) = if τ.1 12 b + 1 < (if f.testBit b then 1 else τ.1 7 0) then some (gw_u (gw_u τ 0 24 (nI (a ||| 2 ^ b))) 12 b (τ.1 12 b + 1)) else some (gw_u (gw_u (gw_u τ 0 24 (nI (a ||| 2 ^ b))) 12 b (τ.1 12 b + 1)) 11 b (-1)) := by
    unfold fx_X3_isAsked
    simp only [gw_let]
    rw [r4, pq_shl1 b (by omega), pq_or, pq_ck (by omega) (by omega), pq_ck (by omega) (by omega), pq_ck (by omega) (by omega), nI_clamp (by omega)]
    rw [show (gw_u τ 0 24 (nI (a ||| 2 ^ b))).1 12 b = τ.1 12 b from rfl, hlM, gw_b1_s, pq_ck (by omega) (by omega)]
    rw [show (gw_u (gw_u τ 0 24 (nI (a ||| 2 ^ b))) 12 b (τ.1 12 b + 1)).1 12 b = τ.1 12 b + 1 from pk_us]
  by_cases z : τ.1 12 b + 1 < (if f.testBit b then 1 else τ.1 7 0)
  · refine ⟨gw_u (gw_u σ 0 6 (nI (a ||| 2 ^ b))) 4 b (σ.1 4 b + 1), gw_u (gw_u τ 0 24 (nI (a ||| 2 ^ b))) 12 b (τ.1 12 b + 1), h, fun x1 x3 x4 => ?_, ?_, ⟨rfl, rfl, rfl, rfl, rfl, rfl, rfl, rfl, rfl, rfl⟩, ⟨rfl, rfl, rfl, rfl, rfl, rfl, rfl, rfl, rfl, rfl, rfl, rfl⟩, ?_, rfl, rfl, pk_us⟩
    · rw [hX, ew, if_pos z]; rfl
    · rw [hM, if_pos z]
    · refine ⟨or_lt r1 hb, r2, ⟨rfl, rfl, r5, r6, r7, r8⟩, fun p hp => ?_⟩
      obtain ⟨q1, q2, q3, q4, q5⟩ := r9 p hp
      refine ⟨q1, q2, q3, ?_, q5⟩
      show upd (σ.1 4) b (σ.1 4 b + 1) p = upd (τ.1 12) b (τ.1 12 b + 1) p
      by_cases e : p = b
      · subst e; rw [pk_us, pk_us, ew]
      · rw [pk_un e, pk_un e]; exact q4
  · refine ⟨gw_u (gw_u (gw_u σ 0 6 (nI (a ||| 2 ^ b))) 4 b (σ.1 4 b + 1)) 3 b (-1), gw_u (gw_u (gw_u τ 0 24 (nI (a ||| 2 ^ b))) 12 b (τ.1 12 b + 1)) 11 b (-1), fun p => if p = b then none else h p, fun x1 x3 x4 => ?_, ?_, ⟨rfl, rfl, rfl, rfl, rfl, rfl, rfl, rfl, rfl, rfl⟩, ⟨rfl, rfl, rfl, rfl, rfl, rfl, rfl, rfl, rfl, rfl, rfl, rfl⟩, ?_, rfl, rfl, pk_us⟩
    · rw [hX, ew, if_neg z]; rfl
    · rw [hM, if_neg z]
    · refine ⟨or_lt r1 hb, r2, ⟨rfl, rfl, r5, r6, r7, r8⟩, fun p hp => ?_⟩
      obtain ⟨q1, q2, q3, q4, q5⟩ := r9 p hp
      show upd (σ.1 3) b (-1) p = oI (if p = b then none else h p) ∧ upd (τ.1 11) b (-1) p = oI (if p = b then none else h p) ∧ (∀ k, (if p = b then none else h p) = some k → k < N) ∧ upd (σ.1 4) b (σ.1 4 b + 1) p = upd (τ.1 12) b (τ.1 12 b + 1) p ∧ _
      by_cases e : p = b
      · subst e
        rw [pk_us, pk_us, pk_us, pk_us, if_pos rfl, ew]
        exact ⟨rfl, rfl, fun k x => by (cases x), rfl, q5⟩
      · rw [pk_un e, pk_un e, pk_un e, pk_un e, if_neg e]
        exact ⟨q1, q2, q3, q4, q5⟩
end
