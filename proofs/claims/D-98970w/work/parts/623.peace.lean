/-! PURE SIDE: peace, ransoms, duels' chances -/
set_option maxRecDepth 100000
section
variable {N : Nat} {h : Nat → Option Nat} {w d s : Nat → Nat} {f a : Nat} {σ τ : gw_S}
def sp_gain (h : Nat → Option Nat) (w : Nat → Nat) (t p : Nat) : Nat := match h p with
  | none => 0
  | some k => if k = p then 0 else if t.testBit k then w p else 0
def sp_loss (h : Nat → Option Nat) (w : Nat → Nat) (N p : Nat) : Nat := sp_worth w (nd (sp_hand h N p) (2 ^ p)) N
theorem sp_gain_lt (V : vw N h w d s f a) {t p : Nat} (hp : p < N) : sp_gain h w t p < 1000 := by
  have h1 := V.wb hp
  unfold sp_gain
  split
  · omega
  · split
    · omega
    · split <;> omega
theorem sp_hand_lt (V : vw N h w d s f a) {p : Nat} : sp_hand h N p < 256 := pw8 V.1 (sp_set_lt _ _)
theorem nd_lt8 {x y : Nat} (hx : x < 256) : nd x y < 256 := nd_lt (n := 8) hx
theorem xe_wins (V : vw N h w d s f a) (X : vX N h w d s f a σ) {t p : Nat} (ht : t < 256) (hp : p < N) : fx_X0_winsBy σ (nI t) (nI p) = some (nI (sp_gain h w t p) - nI (sp_loss h w N p)) := by
  have h8 := V.1
  have hh := sp_hand_lt V (p := p)
  unfold fx_X0_winsBy
  rw [pq_ck (by omega) (by omega), nI_clamp (by omega), X.hh hp, X.ww hp]
  have e1 : (if oI (h p) = (-1 : Int32) then some (0 : Int32) else gw_ck (nI p) 8 ((if oI (h p) = nI p then some (0 : Int32) else gw_ck (nI p) 8 ((if fx_X0_isOf (nI t) (oI (h p)) = true then gw_ck (nI p) 8 (some (nI (w p))) else some (0 : Int32)))))) = some (nI (sp_gain h w t p)) := by
    unfold sp_gain
    cases e : h p with
    | none => rw [oI_none, if_pos rfl]; rfl
    | some k =>
      have hk := V.hk hp e
      rw [oI_some, if_neg (nI_m1 (by omega)), pq_ck (by omega) (by omega), pq_ck (by omega) (by omega), pq_ck (by omega) (by omega), pq_bit (by omega) (by omega)]
      show _ = some (nI (if k = p then 0 else if t.testBit k then w p else 0))
      by_cases z : k = p
      · rw [if_pos (by rw [z]), if_pos z]; rfl
      · rw [if_neg (fun q => z ((nI_eq (by omega) (by omega)).mp q)), if_neg z]
        by_cases y : t.testBit k = true
        · rw [if_pos y, if_pos y]
        · rw [if_neg y, if_neg y]; rfl
  rw [e1, gw_b1_s, xe_handI V X hp, gw_b1_s, pq_shl1 p (by omega), pq_andn, xe_worth V X (nd_lt8 hh), gw_b1_s]
  rfl
theorem me_wins (V : vw N h w d s f a) (M : vM N h w d s f a τ) {t p : Nat} (ht : t < 256) (hp : p < N) : fx_X3_winsOf τ (nI t) (nI p) = some (nI (sp_gain h w t p) - nI (sp_loss h w N p)) := by
  have h8 := V.1
  have hh := sp_hand_lt V (p := p)
  unfold fx_X3_winsOf
  rw [pq_ck (by omega) (by omega), nI_clamp (by omega), M.hh hp]
  have e1 : (if oI (h p) = (-1 : Int32) then some (0 : Int32) else gw_ck (nI p) 8 ((if oI (h p) = nI p then some (0 : Int32) else gw_ck (nI p) 8 ((if fx_X3_isBit (nI t) (oI (h p)) = true then some (1 : Int32) else some (0 : Int32)))))) = some (if (match h p with
      | none => false
      | some k => if k = p then false else t.testBit k) then 1 else 0) := by
    cases e : h p with
    | none => rw [oI_none, if_pos rfl]; rfl
    | some k =>
      have hk := V.hk hp e
      rw [oI_some, if_neg (nI_m1 (by omega)), pq_ck (by omega) (by omega), pq_ck (by omega) (by omega), pq_bitM (by omega) (by omega)]
      show _ = some (if (if k = p then false else t.testBit k) then (1 : Int32) else 0)
      by_cases z : k = p
      · rw [if_pos (by rw [z]), if_pos z]; rfl
      · rw [if_neg (fun q => z ((nI_eq (by omega) (by omega)).mp q)), if_neg z]
        by_cases y : t.testBit k = true
        · rw [if_pos y, if_pos y]
        · rw [if_neg y, if_neg y]
  have e2 : (if (if (match h p with
      | none => false
      | some k => if k = p then false else t.testBit k) then (1 : Int32) else 0) = 0 then some (0 : Int32) else gw_b1 (some (nI (w p))) (fun r3 => some r3)) = some (nI (sp_gain h w t p)) := by
    unfold sp_gain
    cases e : h p with
    | none => rfl
    | some k =>
      show (if (if (if k = p then false else t.testBit k) then (1 : Int32) else 0) = 0 then some (0 : Int32) else some (nI (w p))) = some (nI (if k = p then 0 else if t.testBit k then w p else 0))
      by_cases z : k = p
      · rw [if_pos z, if_pos z]; rfl
      · rw [if_neg z, if_neg z]
        by_cases y : t.testBit k = true
        · rw [if_pos y, if_pos y, if_neg (by decide)]
        · rw [if_neg y, if_neg y, if_pos rfl]; rfl
  rw [e1, gw_b1_s, M.o0 V hp, e2, gw_b1_s, me_handI V M hp, gw_b1_s, pq_shl1 p (by omega), pq_andn, me_worth V M (nd_lt8 hh), gw_b1_s]
  rfl
/-! who leaves -/
def sp_leave (h : Nat → Option Nat) (w : Nat → Nat) (N t : Nat) : Nat := sp_set (fun p => t.testBit p && decide (sp_gain h w t p < sp_loss h w N p)) N
theorem sp_leave_lt (V : vw N h w d s f a) {t : Nat} : sp_leave h w N t < 256 := pw8 V.1 (sp_set_lt _ _)
theorem sub_neg {x y : Nat} (hx : x < 2 ^ 30) (hy : y < 2 ^ 30) : (0 ≤ nI x - nI y) ↔ y ≤ x := by
  rw [zI_sub, show (0 : Int32) = zI 0 from rfl, zI_le (by omega) (by omega) (by omega) (by omega)]
  omega
theorem xe_leave (V : vw N h w d s f a) (X : vX N h w d s f a σ) {t : Nat} (ht : t < 256) : fx_X0_leaving σ (nI t) = some (nI (sp_leave h w N t)) := by
  have h8 := V.1
  unfold fx_X0_leaving
  refine pq_fold (fun n (b : Nat) c => fx_X0_leaving_L4 σ (nI t) n (nI b) c) (fun b => some (nI b)) N (fun p b => b ||| (if (t.testBit p && decide (sp_gain h w t p < sp_loss h w N p)) then 2 ^ p else 0)) 0 (fun _ _ => True) trivial ?_ ?_ 1000 (by omega)
  · intro n b _
    show fx_X0_leaving_L4 σ (nI t) (n + 1) (nI b) (nI N) = _
    rw [fx_X0_leaving_L4, X.1, if_pos (nI_le (Nat.le_refl _) (by omega))]
  · intro n i b hi _
    refine ⟨trivial, ?_⟩
    show fx_X0_leaving_L4 σ (nI t) (n + 1) (nI b) (nI i) = fx_X0_leaving_L4 σ (nI t) n (nI (b ||| (if (t.testBit i && decide (sp_gain h w t i < sp_loss h w N i)) then 2 ^ i else 0))) (nI i + 1)
    have g1 := sp_gain_lt V (t := t) hi
    have g2 : sp_loss h w N i < 8001 := V.worth _
    have z := sub_neg (x := sp_gain h w t i) (y := sp_loss h w N i) (by omega) (by omega)
    rw [fx_X0_leaving_L4, X.1, if_neg (nI_ge hi (by omega)), pq_bit (by omega) (by omega), xe_wins V X ht hi, gw_b1_s, pq_shl1 i (by omega), pq_or, pq_or0]
    by_cases e : t.testBit i = true
    · rw [if_pos e, e, Bool.true_and]
      by_cases l : sp_gain h w t i < sp_loss h w N i
      · rw [if_neg (fun q => by have := z.mp q; omega), if_pos (by simp [l])]
      · rw [if_pos (z.mpr (by omega)), if_neg (by simp [l]), Nat.or_zero]
    · rw [if_neg e, if_neg (by simp [e]), Nat.or_zero]
theorem me_leave (V : vw N h w d s f a) (M : vM N h w d s f a τ) {t : Nat} (ht : t < 256) : fx_X3_leaveOf τ (nI t) = some (nI (sp_leave h w N t)) := by
  have h8 := V.1
  unfold fx_X3_leaveOf
  refine pq_fold (fun n (b : Nat) c => fx_X3_leaveOf_L4 τ (nI t) n (nI b) c) (fun b => some (nI b)) N (fun p b => b ||| (if (t.testBit p && decide (sp_gain h w t p < sp_loss h w N p)) then 2 ^ p else 0)) 0 (fun _ _ => True) trivial ?_ ?_ 1000 (by omega)
  · intro n b _
    show fx_X3_leaveOf_L4 τ (nI t) (n + 1) (nI b) (nI N) = _
    rw [fx_X3_leaveOf_L4, M.1, if_pos (nI_le (Nat.le_refl _) (by omega))]
  · intro n i b hi _
    refine ⟨trivial, ?_⟩
    show fx_X3_leaveOf_L4 τ (nI t) (n + 1) (nI b) (nI i) = fx_X3_leaveOf_L4 τ (nI t) n (nI (b ||| (if (t.testBit i && decide (sp_gain h w t i < sp_loss h w N i)) then 2 ^ i else 0))) (nI i + 1)
    have g1 := sp_gain_lt V (t := t) hi
    have g2 : sp_loss h w N i < 8001 := V.worth _
    have z := sub_neg (x := sp_gain h w t i) (y := sp_loss h w N i) (by omega) (by omega)
    rw [fx_X3_leaveOf_L4, M.1, if_neg (nI_ge hi (by omega)), pq_bitM (by omega) (by omega), me_wins V M ht hi, gw_b1_s, pq_shl1 i (by omega), pq_or, pq_or0]
    by_cases e : t.testBit i = true
    · rw [if_pos e, e, Bool.true_and]
      by_cases l : sp_gain h w t i < sp_loss h w N i
      · rw [if_neg (fun q => by have := z.mp q; omega), if_pos (by simp [l])]
      · rw [if_pos (z.mpr (by omega)), if_neg (by simp [l]), Nat.or_zero]
    · rw [if_neg e, if_neg (by simp [e]), Nat.or_zero]
theorem leave_0 (V : vw N h w d s f a) {t : Nat} : (nI (sp_leave h w N t) = 0) ↔ sp_leave h w N t = 0 := by
  have := sp_leave_lt V (t := t)
  exact nI_eq (b := 0) (by omega) (by omega)
def sp_firms (h : Nat → Option Nat) (w : Nat → Nat) (N : Nat) : Nat → Nat := sp_f (fun t n => n + (if sp_leave h w N t = 0 then 1 else 0)) 0
theorem xe_firms (V : vw N h w d s f a) (X : vX N h w d s f a σ) : fx_X0_firms_L18 σ 1000 0 0 = some (nI (sp_firms h w N (2 ^ N)), σ) := by
  have h8 := V.1
  have hp := pw256 V
  have hp0 := Nat.two_pow_pos N
  refine pq_fold (fun n (b : Nat) c => fx_X0_firms_L18 σ n (nI b) c) (fun b => some (nI b, σ)) (2 ^ N) (fun t n => n + (if sp_leave h w N t = 0 then 1 else 0)) 0 (fun _ _ => True) trivial ?_ ?_ 1000 (by omega)
  · intro n b _
    show fx_X0_firms_L18 σ (n + 1) (nI b) (nI (2 ^ N)) = _
    rw [fx_X0_firms_L18, all_X V X, if_pos (nI_lt (by omega) (by omega))]
  · intro n i b hi _
    refine ⟨trivial, ?_⟩
    show fx_X0_firms_L18 σ (n + 1) (nI b) (nI i) = fx_X0_firms_L18 σ n (nI (b + (if sp_leave h w N i = 0 then 1 else 0))) (nI i + 1)
    rw [fx_X0_firms_L18, all_X V X, if_neg (nI_nlt (by omega) (by omega)), xe_leave V X (by omega), gw_b1_s]
    by_cases e : sp_leave h w N i = 0
    · rw [if_pos ((leave_0 V).mpr e), if_pos e, nI_1]
    · rw [if_neg (fun q => e ((leave_0 V).mp q)), if_neg e, pq_add0, Nat.add_zero]
theorem me_firms (V : vw N h w d s f a) (M : vM N h w d s f a τ) : fx_X3_firms_L23 τ 1000 0 0 = some (nI (sp_firms h w N (2 ^ N)), τ) := by
  have h8 := V.1
  have hp := pw256 V
  have hp0 := Nat.two_pow_pos N
  refine pq_fold (fun n (b : Nat) c => fx_X3_firms_L23 τ n (nI b) c) (fun b => some (nI b, τ)) (2 ^ N) (fun t n => n + (if sp_leave h w N t = 0 then 1 else 0)) 0 (fun _ _ => True) trivial ?_ ?_ 1000 (by omega)
  · intro n b _
    show fx_X3_firms_L23 τ (n + 1) (nI b) (nI (2 ^ N)) = _
    rw [fx_X3_firms_L23, M.1, pq_shl1 N (by omega), if_pos (nI_le (Nat.le_refl _) (by omega))]
  · intro n i b hi _
    refine ⟨trivial, ?_⟩
    show fx_X3_firms_L23 τ (n + 1) (nI b) (nI i) = fx_X3_firms_L23 τ n (nI (b + (if sp_leave h w N i = 0 then 1 else 0))) (nI i + 1)
    rw [fx_X3_firms_L23, M.1, pq_shl1 N (by omega), if_neg (nI_ge hi (by omega)), me_leave V M (by omega), gw_b1_s]
    by_cases e : sp_leave h w N i = 0
    · rw [if_pos ((leave_0 V).mpr e), if_pos e, nI_1]
    · rw [if_neg (fun q => e ((leave_0 V).mp q)), if_neg e, pq_add0, Nat.add_zero]
def st_firm (h : Nat → Option Nat) (w : Nat → Nat) (N t x : Nat) : Nat := if pc t ≤ pc x then x else if sp_leave h w N t = 0 then t else x
theorem st_firm_lt {t x K : Nat} (ht : t < K) (hx : x < K) : st_firm h w N t x < K := by
  unfold st_firm
  split
  · omega
  · split <;> omega
theorem xe_firmest (V : vw N h w d s f a) (X : vX N h w d s f a σ) : fx_X0_firmest_L18 σ 1000 0 1 = some (nI (sp_f (st_firm h w N) 0 (2 ^ N)), σ) := by
  have h8 := V.1
  have hp := pw256 V
  have hp0 := Nat.two_pow_pos N
  have e0 : sp_f (st_firm h w N) 0 (2 ^ N) = sp_f (fun i => st_firm h w N (i + 1)) 0 (2 ^ N - 1) := by
    obtain ⟨m, hm⟩ : ∃ m, 2 ^ N = m + 1 := ⟨2 ^ N - 1, by omega⟩
    rw [hm, sp_f_shift, Nat.add_sub_cancel]
    rw [show st_firm h w N 0 0 = 0 from if_pos (Nat.le_refl _)]
  rw [e0]
  refine pq_fold (fun n (x : Nat) c => fx_X0_firmest_L18 σ n (nI x) (c + 1)) (fun x => some (nI x, σ)) (2 ^ N - 1) (fun i => st_firm h w N (i + 1)) 0 (fun i x => x < 2 ^ N) hp0 ?_ ?_ 1000 (by omega)
  · intro n y _
    show fx_X0_firmest_L18 σ (n + 1) (nI y) (nI (2 ^ N - 1) + 1) = _
    rw [fx_X0_firmest_L18, all_X V X, nI_1, if_pos (nI_lt (by omega) (by omega))]
  · intro n i x hi hI
    refine ⟨st_firm_lt (by omega) hI, ?_⟩
    show fx_X0_firmest_L18 σ (n + 1) (nI x) (nI i + 1) = fx_X0_firmest_L18 σ n (nI (st_firm h w N (i + 1) x)) (nI i + 1 + 1)
    have q1 := pc_b (t := i + 1) (by omega)
    have q2 := pc_b (t := x) (by omega)
    rw [fx_X0_firmest_L18, all_X V X, nI_1, if_neg (nI_nlt (by omega) (by omega)), pc_Xs (by omega), pc_Xs (by omega), xe_leave V X (by omega), gw_b1_s]
    unfold st_firm
    by_cases l : pc (i + 1) ≤ pc x
    · rw [if_pos (nI_le l (by omega)), if_pos l]
    · rw [if_neg (nI_ge (by omega) (by omega)), if_neg l]
      by_cases e : sp_leave h w N (i + 1) = 0
      · rw [if_pos ((leave_0 V).mpr e), if_pos e]
      · rw [if_neg (fun q => e ((leave_0 V).mp q)), if_neg e]
theorem me_firmest (V : vw N h w d s f a) (M : vM N h w d s f a τ) : fx_X3_firmest_L23 τ 1000 0 0 = some (nI (sp_f (st_firm h w N) 0 (2 ^ N)), τ) := by
  have h8 := V.1
  have hp := pw256 V
  have hp0 := Nat.two_pow_pos N
  refine pq_fold (fun n (x : Nat) c => fx_X3_firmest_L23 τ n (nI x) c) (fun x => some (nI x, τ)) (2 ^ N) (st_firm h w N) 0 (fun i x => x < 2 ^ N) hp0 ?_ ?_ 1000 (by omega)
  · intro n y _
    show fx_X3_firmest_L23 τ (n + 1) (nI y) (nI (2 ^ N)) = _
    rw [fx_X3_firmest_L23, M.1, pq_shl1 N (by omega), if_pos (nI_le (Nat.le_refl _) (by omega))]
  · intro n i x hi hI
    refine ⟨st_firm_lt (by omega) hI, ?_⟩
    show fx_X3_firmest_L23 τ (n + 1) (nI x) (nI i) = fx_X3_firmest_L23 τ n (nI (st_firm h w N i x)) (nI i + 1)
    have q1 := pc_b (t := i) (by omega)
    have q2 := pc_b (t := x) (by omega)
    rw [fx_X3_firmest_L23, M.1, pq_shl1 N (by omega), if_neg (nI_ge hi (by omega)), pc_Ms (by omega), pc_Ms (by omega), me_leave V M (by omega)]
    simp only [gw_b1_s]
    unfold st_firm
    by_cases l : pc i ≤ pc x
    · rw [if_pos (nI_le l (by omega)), if_pos l]
    · rw [if_neg (nI_ge (by omega) (by omega)), if_neg l]
      by_cases e : sp_leave h w N i = 0
      · rw [if_pos ((leave_0 V).mpr e), if_pos e]
      · rw [if_neg (fun q => e ((leave_0 V).mp q)), if_neg e]
/-! ransoms: the cheapest on the way up -/
def chp (w : Nat → Nat) (b q : Nat) : Nat := if w q < w b then q else if w q = w b then (if b ≤ q then b else q) else b
theorem chp_lt {w : Nat → Nat} {b q : Nat} (hb : b < N) (hq : q < N) : chp w b q < N := by
  unfold chp
  split
  · exact hq
  · split
    · split
      · exact hb
      · exact hq
    · exact hb
def rs (h : Nat → Option Nat) (w : Nat → Nat) : Nat → Nat → Nat → Nat
  | 0, _, b => b
  | j + 1, q, b => match h q with
    | none => b
    | some r => rs h w j r (chp w b q)
theorem rs_s {j q b r : Nat} (e : h q = some r) : rs h w (j + 1) q b = rs h w j r (chp w b q) := by rw [rs, e]
theorem rs_lt (V : vw N h w d s f a) : ∀ j q b, q < N → b < N → rs h w j q b < N := by
  intro j
  induction j with
  | zero => intro q b _ hb; exact hb
  | succ j ih =>
    intro q b hq hb
    cases e : h q with
    | none => rw [rs, e]; exact hb
    | some r => rw [rs_s e]; exact ih r _ (V.hk hq e) (chp_lt hb hq)
theorem xe_rsL (V : vw N h w d s f a) (X : vX N h w d s f a σ) {g : Nat} (hg : g < N) : ∀ j n q b, up h j q = some g → (∀ l, l < j → up h l q ≠ some g) → j < n → q < N → b < N → fx_X0_ransomOf_L22 σ (nI g) n (nI b) (nI q) = some (nI (rs h w j q b)) := by
  have h8 := V.1
  intro j
  induction j with
  | zero =>
    intro n q b e _ hn hq hb
    obtain ⟨m, rfl⟩ : ∃ m, n = m + 1 := ⟨n - 1, by omega⟩
    cases (show some q = some g from e)
    rw [fx_X0_ransomOf_L22, if_pos rfl]
    rfl
  | succ j ih =>
    intro n q b e hl hn hq hb
    obtain ⟨m, rfl⟩ : ∃ m, n = m + 1 := ⟨n - 1, by omega⟩
    have q0 : q ≠ g := fun z => hl 0 (by omega) (by rw [z]; rfl)
    have w1 := V.wb hq
    have w2 := V.wb hb
    rw [fx_X0_ransomOf_L22, if_neg (fun z => q0 ((nI_eq (by omega) (by omega)).mp z)), pq_ck (by omega) (by omega), pq_ck (by omega) (by omega), pq_ck (by omega) (by omega), pq_ck (by omega) (by omega), nI_clamp (by omega), nI_clamp (by omega), X.ww hq, X.ww hb, X.hh hq]
    have e1 : (if nI (w q) < nI (w b) then some (nI q) else if nI (w q) = nI (w b) then (if nI b ≤ nI q then some (nI b) else some (nI q)) else some (nI b)) = some (nI (chp w b q)) := by
      unfold chp
      by_cases l : w q < w b
      · rw [if_pos (nI_lt l (by omega)), if_pos l]
      · rw [if_neg (nI_nlt (by omega) (by omega)), if_neg l]
        by_cases y : w q = w b
        · rw [if_pos (by rw [y]), if_pos y]
          by_cases z : b ≤ q
          · rw [if_pos (nI_le z (by omega)), if_pos z]
          · rw [if_neg (nI_ge (by omega) (by omega)), if_neg z]
        · rw [if_neg (fun z => y ((nI_eq (by omega) (by omega)).mp z)), if_neg y]
    rw [e1, gw_b1_s, pq_ck (by omega) (by omega)]
    cases eh : h q with
    | none => rw [up_n eh] at e; cases e
    | some r =>
      rw [up_s eh] at e
      rw [oI_some, rs_s eh]
      exact ih m r _ e (fun l hl2 z => hl (l + 1) (by omega) (by rw [up_s eh]; exact z)) (by omega) (V.hk hq eh) (chp_lt hb hq)
theorem me_rsL (V : vw N h w d s f a) (M : vM N h w d s f a τ) {g : Nat} (hg : g < N) : ∀ j n q0 q b i, h q0 = some q → up h j q = some g → (∀ l, l < j → up h l q ≠ some g) → j < n → i + j < 8 → q0 < N → b < N → fx_X3_ransomOf_L24 τ (nI g) n (nI b) (nI q0) (nI i) = some (nI (rs h w j q b), τ) := by
  have h8 := V.1
  intro j
  induction j with
  | zero =>
    intro n q0 q b i eq e _ hn hi hq hb
    obtain ⟨m, rfl⟩ : ∃ m, n = m + 1 := ⟨n - 1, by omega⟩
    cases (show some q = some g from e)
    rw [fx_X3_ransomOf_L24, show (8 : Int32) = nI 8 from rfl, if_neg (nI_ge (by omega) (by omega)), pq_ck (by omega) (by omega), nI_clamp (by omega), M.hh hq, eq, oI_some, if_pos rfl]
    rfl
  | succ j ih =>
    intro n q0 q b i eq e hl hn hi hq hb
    obtain ⟨m, rfl⟩ : ∃ m, n = m + 1 := ⟨n - 1, by omega⟩
    have hq1 := V.hk hq eq
    have qg : q ≠ g := fun z => hl 0 (by omega) (by rw [z]; rfl)
    have w1 := V.wb hq1
    have w2 := V.wb hb
    rw [fx_X3_ransomOf_L24, show (8 : Int32) = nI 8 from rfl, if_neg (nI_ge (by omega) (by omega)), pq_ck (by omega) (by omega), nI_clamp (by omega), M.hh hq, eq, oI_some, if_neg (fun z => qg ((nI_eq (by omega) (by omega)).mp z)), pq_ck (by omega) (by omega), M.o0 V hq1, M.o0 V hb]
    simp only [gw_b1_s]
    cases eh : h q with
    | none => rw [up_n eh] at e; cases e
    | some r =>
      rw [up_s eh] at e
      have step := ih m q r (chp w b q) (i + 1) eh e (fun l hl2 z => hl (l + 1) (by omega) (by rw [up_s eh]; exact z)) (by omega) (by omega) hq1 (chp_lt hb hq1)
      rw [rs_s eh, ← step, nI_1]
      unfold chp
      by_cases l : w q < w b
      · rw [if_pos (nI_lt l (by omega)), if_pos l]
      · rw [if_neg (nI_nlt (by omega) (by omega)), if_neg l]
        by_cases y : w q = w b
        · rw [if_pos (by rw [y]), if_pos y]
          by_cases z : b ≤ q
          · rw [if_pos (nI_le z (by omega)), if_pos z]
          · rw [if_neg (nI_ge (by omega) (by omega)), if_neg z]
        · rw [if_neg (fun z => y ((nI_eq (by omega) (by omega)).mp z)), if_neg y]
/-- the ransom in both -/
theorem rs_both (V : vw N h w d s f a) (X : vX N h w d s f a σ) (M : vM N h w d s f a τ) {g p : Nat} (hg : g < N) (hp : p < N) : ∃ o : Option Nat, (∀ k, o = some k → k < N) ∧ fx_X0_ransomOf σ (nI g) (nI p) = some (oI o) ∧ (if oI (sp_T h f N g p) = (-1 : Int32) then some ((-1 : Int32), τ) else fx_X3_ransomOf_L24 τ (nI g) 1000 (nI p) (nI p) 0) = some (oI o, τ) := by
  have h8 := V.1
  unfold fx_X0_ransomOf
  rw [xe_T V X hg hp, gw_b1_s, pq_ck (by omega) (by omega), nI_clamp (by omega), X.hh hp]
  cases eT : sp_T h f N g p with
  | none =>
    refine ⟨none, fun k e => (by cases e), ?_, ?_⟩
    · rw [oI_none, if_pos rfl]
    · rw [oI_none, if_pos rfl]
  | some t =>
    have ht := sp_T_lt V eT
    rw [oI_some, if_neg (nI_m1 ht), if_neg (nI_m1 ht)]
    obtain ⟨m, m1, m2, m3, m4⟩ := sp_T_way V hp eT
    obtain ⟨j, rfl⟩ : ∃ j, m = j + 1 := ⟨m - 1, by omega⟩
    cases eh : h p with
    | none => rw [up_n eh] at m3; cases m3
    | some q =>
      have hq := V.hk hp eh
      rw [up_s eh] at m3
      have ml : ∀ l, l < j → up h l q ≠ some g := fun l hl z => m4 (l + 1) (by omega) (by omega) (by rw [up_s eh]; exact z)
      refine ⟨some (rs h w j q p), fun k e => (by cases e; exact rs_lt V j q p hq hp), ?_, ?_⟩
      · rw [oI_some, xe_rsL V X hg j 1000 q p m3 ml (by omega) hq hp]; rfl
      · exact me_rsL V M hg j 1000 p q p 0 eh m3 ml (by omega) (by omega) hp hp
/-! chances -/
theorem xe_gcd : ∀ n x y, y < n → x < 2 ^ 31 → y < 2 ^ 31 → fx_X0_divisor_L4 n (nI x) (nI y) = some (nI (Nat.gcd x y)) := by
  intro n
  induction n with
  | zero => intro x y q; omega
  | succ n ih =>
    intro x y hy hx hy2
    rw [fx_X0_divisor_L4]
    by_cases e : y = 0
    · subst e
      rw [if_pos nI_0, Nat.gcd_zero_right]
    · rw [if_neg (nI_ne0 (by omega) hy2), pk_rem hx (by omega) hy2]
      unfold gw_cz
      have l := Nat.mod_lt x (show 0 < y by omega)
      rw [if_neg (nI_ne0 (by omega) hy2), ih y (x % y) (by omega) hy2 (by omega), Nat.gcd_comm x y, Nat.gcd_rec y x, Nat.gcd_comm (x % y) y]
theorem me_gcd : ∀ n x y, y < n → x < 2 ^ 31 → y < 2 ^ 31 → fx_X3_common_n n (nI x) (nI y) = some (nI (Nat.gcd x y)) := by
  intro n
  induction n with
  | zero => intro x y q; omega
  | succ n ih =>
    intro x y hy hx hy2
    rw [fx_X3_common_n]
    by_cases e : y = 0
    · subst e
      rw [if_pos nI_0, Nat.gcd_zero_right]
    · rw [if_neg (nI_ne0 (by omega) hy2), pk_rem hx (by omega) hy2]
      unfold gw_cz
      have l := Nat.mod_lt x (show 0 < y by omega)
      rw [if_neg (nI_ne0 (by omega) hy2), ih y (x % y) (by omega) hy2 (by omega), Nat.gcd_comm x y, Nat.gcd_rec y x, Nat.gcd_comm (x % y) y]
def sp_abv1 (h : Nat → Option Nat) (w : Nat → Nat) (g y x b n : Nat) : Nat := n + (if h x = some g ∧ h b = some y ∧ w b < w x then 1 else 0)
def sp_abv (h : Nat → Option Nat) (w : Nat → Nat) (N g y : Nat) : Nat := sp_f (fun x n => sp_f (sp_abv1 h w g y x) n N) 0 N
theorem sp_abv_le {g y : Nat} : sp_abv h w N g y ≤ N * N := by
  have k1 : ∀ x m n, sp_f (sp_abv1 h w g y x) n m ≤ n + m := by
    intro x m n
    induction m with
    | zero => exact Nat.le_refl _
    | succ m ih =>
      show sp_f (sp_abv1 h w g y x) n m + _ ≤ _
      split <;> omega
  have k2 : ∀ m, sp_f (fun x n => sp_f (sp_abv1 h w g y x) n N) 0 m ≤ m * N := by
    intro m
    induction m with
    | zero => show 0 ≤ _; omega
    | succ m ih =>
      have q := k1 m N (sp_f (fun x n => sp_f (sp_abv1 h w g y x) n N) 0 m)
      have e : (m + 1) * N = m * N + N := Nat.succ_mul m N
      show sp_f (sp_abv1 h w g y m) (sp_f (fun x n => sp_f (sp_abv1 h w g y x) n N) 0 m) N ≤ _
      omega
  exact k2 N
theorem xe_abvL (V : vw N h w d s f a) (X : vX N h w d s f a σ) {κ : Type} (k : Int32 → Option κ) {g y x m : Nat} {v3 v5 : Int32} (hg : g < N) (hy : y < N) (hx : x < N) : fx_X0_duel_L61 k σ (nI g) (nI y) v3 v5 (nI x) 1000 (nI m) 0 = k (nI (sp_f (sp_abv1 h w g y x) m N)) := by
  have h8 := V.1
  refine pq_fold (fun n (b : Nat) c => fx_X0_duel_L61 k σ (nI g) (nI y) v3 v5 (nI x) n (nI b) c) (fun b => k (nI b)) N (sp_abv1 h w g y x) m (fun _ _ => True) trivial ?_ ?_ 1000 (by omega)
  · intro n b _
    show fx_X0_duel_L61 k σ (nI g) (nI y) v3 v5 (nI x) (n + 1) (nI b) (nI N) = _
    rw [fx_X0_duel_L61, X.1, if_pos (nI_le (Nat.le_refl _) (by omega))]
  · intro n i b hi _
    refine ⟨trivial, ?_⟩
    show fx_X0_duel_L61 k σ (nI g) (nI y) v3 v5 (nI x) (n + 1) (nI b) (nI i) = fx_X0_duel_L61 k σ (nI g) (nI y) v3 v5 (nI x) n (nI (b + (if h x = some g ∧ h i = some y ∧ w i < w x then 1 else 0))) (nI i + 1)
    have w1 := V.wb hx
    have w2 := V.wb hi
    rw [fx_X0_duel_L61, X.1, if_neg (nI_ge hi (by omega)), pq_ck (by omega) (by omega), pq_ck (by omega) (by omega), pq_ck (by omega) (by omega), pq_ck (by omega) (by omega), nI_clamp (by omega), nI_clamp (by omega), X.hh hx, X.hh hi, X.ww hx, X.ww hi, pq_add0]
    by_cases e1 : h x = some g
    · rw [if_pos (by rw [e1]; rfl)]
      by_cases e2 : h i = some y
      · rw [if_pos (by rw [e2]; rfl)]
        by_cases l : w x ≤ w i
        · rw [if_pos (nI_le l (by omega)), if_neg (fun q => by omega), Nat.add_zero]
        · rw [if_neg (nI_ge (by omega) (by omega)), if_pos ⟨e1, e2, by omega⟩, nI_1]
      · rw [if_neg (fun q => e2 ((oI_eqI (V.hb hi) (by omega)).mp q)), if_neg (fun q => e2 q.2.1), Nat.add_zero]
    · rw [if_neg (fun q => e1 ((oI_eqI (V.hb hx) (by omega)).mp q)), if_neg (fun q => e1 q.1), Nat.add_zero]
theorem me_abvL (V : vw N h w d s f a) (M : vM N h w d s f a τ) {κ : Type} (k : Int32 → Option κ) {g y x m : Nat} {v3 v5 : Int32} (hg : g < N) (hy : y < N) (hx : x < N) : fx_X3_duel_L66 k τ (nI g) (nI y) v3 v5 (nI x) 1000 (nI m) 0 = k (nI (sp_f (sp_abv1 h w g y x) m N)) := by
  have h8 := V.1
  refine pq_fold (fun n (b : Nat) c => fx_X3_duel_L66 k τ (nI g) (nI y) v3 v5 (nI x) n (nI b) c) (fun b => k (nI b)) N (sp_abv1 h w g y x) m (fun _ _ => True) trivial ?_ ?_ 1000 (by omega)
  · intro n b _
    show fx_X3_duel_L66 k τ (nI g) (nI y) v3 v5 (nI x) (n + 1) (nI b) (nI N) = _
    rw [fx_X3_duel_L66, M.1, if_pos (nI_le (Nat.le_refl _) (by omega))]
  · intro n i b hi _
    refine ⟨trivial, ?_⟩
    show fx_X3_duel_L66 k τ (nI g) (nI y) v3 v5 (nI x) (n + 1) (nI b) (nI i) = fx_X3_duel_L66 k τ (nI g) (nI y) v3 v5 (nI x) n (nI (b + (if h x = some g ∧ h i = some y ∧ w i < w x then 1 else 0))) (nI i + 1)
    have w1 := V.wb hx
    have w2 := V.wb hi
    rw [fx_X3_duel_L66, M.1, if_neg (nI_ge hi (by omega)), pq_ck (by omega) (by omega), pq_ck (by omega) (by omega), nI_clamp (by omega), nI_clamp (by omega), M.hh hx, M.hh hi, M.o0 V hx, M.o0 V hi]
    simp only [gw_b1_s]
    by_cases e1 : h x = some g
    · rw [if_pos (by rw [e1]; rfl)]
      by_cases e2 : h i = some y
      · rw [if_pos (by rw [e2]; rfl)]
        by_cases l : w x ≤ w i
        · rw [if_pos (nI_le l (by omega)), if_neg (fun q => by omega), Nat.add_zero]
        · rw [if_neg (nI_ge (by omega) (by omega)), if_pos ⟨e1, e2, by omega⟩, nI_1]
      · rw [if_neg (fun q => e2 ((oI_eqI (V.hb hi) (by omega)).mp q)), if_neg (fun q => e2 q.2.1), Nat.add_zero]
    · rw [if_neg (fun q => e1 ((oI_eqI (V.hb hx) (by omega)).mp q)), if_neg (fun q => e1 q.1), Nat.add_zero]
theorem xe_abv (V : vw N h w d s f a) (X : vX N h w d s f a σ) {κ : Type} (k : Int32 → Option κ) {g y : Nat} {v3 v5 : Int32} (hg : g < N) (hy : y < N) : fx_X0_duel_L46 k σ (nI g) (nI y) v3 v5 1000 0 0 = k (nI (sp_abv h w N g y)) := by
  have h8 := V.1
  refine pq_fold (fun n (b : Nat) c => fx_X0_duel_L46 k σ (nI g) (nI y) v3 v5 n (nI b) c) (fun b => k (nI b)) N (fun x n => sp_f (sp_abv1 h w g y x) n N) 0 (fun _ _ => True) trivial ?_ ?_ 1000 (by omega)
  · intro n b _
    show fx_X0_duel_L46 k σ (nI g) (nI y) v3 v5 (n + 1) (nI b) (nI N) = _
    rw [fx_X0_duel_L46, X.1, if_pos (nI_le (Nat.le_refl _) (by omega))]
  · intro n i b hi _
    refine ⟨trivial, ?_⟩
    show fx_X0_duel_L46 k σ (nI g) (nI y) v3 v5 (n + 1) (nI b) (nI i) = fx_X0_duel_L46 k σ (nI g) (nI y) v3 v5 n (nI (sp_f (sp_abv1 h w g y i) b N)) (nI i + 1)
    rw [fx_X0_duel_L46, X.1, if_neg (nI_ge hi (by omega)), xe_abvL V X _ hg hy hi]
theorem me_abv (V : vw N h w d s f a) (M : vM N h w d s f a τ) {κ : Type} (k : Int32 → Option κ) {g y : Nat} {v3 v5 : Int32} (hg : g < N) (hy : y < N) : fx_X3_duel_L52 k τ (nI g) (nI y) v3 v5 1000 0 0 = k (nI (sp_abv h w N g y)) := by
  have h8 := V.1
  refine pq_fold (fun n (b : Nat) c => fx_X3_duel_L52 k τ (nI g) (nI y) v3 v5 n (nI b) c) (fun b => k (nI b)) N (fun x n => sp_f (sp_abv1 h w g y x) n N) 0 (fun _ _ => True) trivial ?_ ?_ 1000 (by omega)
  · intro n b _
    show fx_X3_duel_L52 k τ (nI g) (nI y) v3 v5 (n + 1) (nI b) (nI N) = _
    rw [fx_X3_duel_L52, M.1, if_pos (nI_le (Nat.le_refl _) (by omega))]
  · intro n i b hi _
    refine ⟨trivial, ?_⟩
    show fx_X3_duel_L52 k τ (nI g) (nI y) v3 v5 (n + 1) (nI b) (nI i) = fx_X3_duel_L52 k τ (nI g) (nI y) v3 v5 n (nI (sp_f (sp_abv1 h w g y i) b N)) (nI i + 1)
    rw [fx_X3_duel_L52, M.1, if_neg (nI_ge hi (by omega)), me_abvL V M _ hg hy hi]
end
