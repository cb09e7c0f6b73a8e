/-! all orders by figures: digits, folds, masks -/
set_option maxRecDepth 100000
def pb_pd (m t P i : Nat) : Nat := P / m ^ (t - 1 - i) % m
theorem pb_pd_lt {m t P i : Nat} (h : 0 < m) : pb_pd m t P i < m := Nat.mod_lt _ h
theorem pb_pd_lo {m t P b i : Nat} (hb : b < m) (hi : i < t) : pb_pd m (t + 1) (P * m + b) i = pb_pd m t P i := by
  unfold pb_pd
  have e : t + 1 - 1 - i = (t - 1 - i) + 1 := by omega
  have e2 : (P * m + b) / m = P := by
    rw [Nat.mul_comm, Nat.mul_add_div (by omega), Nat.div_eq_of_lt hb, Nat.add_zero]
  rw [e, Nat.pow_succ, Nat.mul_comm (m ^ (t - 1 - i)) m, ← Nat.div_div_eq_div_mul, e2]
theorem pb_pd_hi {m t P b : Nat} (hb : b < m) : pb_pd m (t + 1) (P * m + b) t = b := by
  unfold pb_pd
  rw [show t + 1 - 1 - t = 0 by omega, Nat.pow_zero, Nat.div_one, Nat.mul_comm, Nat.mul_add_mod]
  exact Nat.mod_eq_of_lt hb
theorem pb_pd_pre {m t k w i : Nat} (hi : i < t) : pb_pd m (t + k) w i = pb_pd m t (w / m ^ k) i := by
  unfold pb_pd
  rw [Nat.div_div_eq_div_mul, ← Nat.pow_add, show k + (t - 1 - i) = t + k - 1 - i by omega]
theorem pb_pre {m k P w : Nat} (hm : 0 < m) (h1 : P * m ^ k ≤ w) (h2 : w < (P + 1) * m ^ k) : w / m ^ k = P := by
  have hp : 0 < m ^ k := Nat.pow_pos hm
  exact Nat.div_eq_of_lt_le h1 h2
def pb_fold {α : Type} (f : α → Nat → α) : Nat → Nat → α → α
  | 0, _, a => a
  | c + 1, lo, a => pb_fold f c (lo + 1) (f a lo)
theorem pb_fold_add {α : Type} {f : α → Nat → α} : ∀ (c d lo : Nat) (a : α), pb_fold f (c + d) lo a = pb_fold f d (lo + c) (pb_fold f c lo a) := by
  intro c
  induction c with
  | zero => intro d lo a; rw [Nat.zero_add, Nat.add_zero]; rfl
  | succ c ih => intro d lo a; rw [show c + 1 + d = (c + d) + 1 by omega, pb_fold, pb_fold, ih, show lo + 1 + c = lo + (c + 1) by omega]
theorem pb_fold_last {α : Type} {f : α → Nat → α} (c lo : Nat) (a : α) : pb_fold f (c + 1) lo a = f (pb_fold f c lo a) (lo + c) := by
  rw [pb_fold_add c 1 lo a]
  rfl
theorem pb_fold_id {α : Type} {f : α → Nat → α} : ∀ (c lo : Nat) (a : α), (∀ w a, lo ≤ w → w < lo + c → f a w = a) → pb_fold f c lo a = a := by
  intro c
  induction c with
  | zero => intro lo a _; rfl
  | succ c ih => intro lo a h; rw [pb_fold, h lo a (by omega) (by omega)]; exact ih (lo + 1) a (fun w a h1 h2 => h w a (by omega) (by omega))
theorem pb_fold_congr {α : Type} {f g : α → Nat → α} : ∀ (c lo : Nat) (a : α), (∀ w a, lo ≤ w → w < lo + c → f a w = g a w) → pb_fold f c lo a = pb_fold g c lo a := by
  intro c
  induction c with
  | zero => intro lo a _; rfl
  | succ c ih => intro lo a h; rw [pb_fold, pb_fold, h lo a (by omega) (by omega)]; exact ih (lo + 1) _ (fun w a h1 h2 => h w a (by omega) (by omega))
theorem pb_cnt_last {g : Nat → Nat} : ∀ (j t : Nat), pb_cnt g (j + 1) t = pb_cnt g j t + g (t + j) := by
  intro j
  induction j with
  | zero => intro t; simp [pb_cnt]
  | succ j ih => intro t; rw [pb_cnt, ih (t + 1), pb_cnt, show t + 1 + j = t + (j + 1) by omega]; omega
theorem pb_cnt_le {g : Nat → Nat} {B : Nat} (h : ∀ i, g i ≤ B) : ∀ (j t : Nat), pb_cnt g j t ≤ B * j := by
  intro j
  induction j with
  | zero => intro t; rw [pb_cnt]; omega
  | succ j ih => intro t; rw [pb_cnt, Nat.mul_succ]; have := ih (t + 1); have := h t; omega
/-- a mask with one more -/
def pb_set (s e : Nat) : Nat := if pb_tb s e = true then s else s + 2 ^ e
theorem pb_setS : ∀ s, s < 64 → ∀ e, e < 6 → (nI s ||| (nI 1 <<< (nI e &&& 31)) = nI (pb_set s e) ∧ pb_set s e < 64 ∧ ∀ i, i < 6 → pb_tb (pb_set s e) i = (pb_tb s i || decide (i = e))) := by decide +kernel
theorem pb_bit0 {s e : Nat} (hs : s < 64) (he : e < 6) : (nI s >>> (nI e &&& 31)) &&& nI 1 = if pb_tb s e = true then nI 1 else nI 0 := (pb_bitS s hs e he).1
/-- the orders -/
def pb_inj (t : Nat) (g : Nat → Nat) : Prop := ∀ i j, i < t → j < t → g i = g j → i = j
/-- the mask of what stands ahead -/
def pb_msks (m s t : Nat) (g : Nat → Nat) : Prop := s < 64 ∧ ∀ b, b < m → (pb_tb s b = true ↔ ∃ i, i < t ∧ g i = b)
theorem pb_msks.step {m s t b : Nat} {g g' : Nat → Nat} (h : pb_msks m s t g) (hm : m ≤ 6) (hb : b < m) (h1 : ∀ i, i < t → g' i = g i) (h2 : g' t = b) : pb_msks m (pb_set s b) (t + 1) g' := by
  obtain ⟨_, h4, h5⟩ := pb_setS s h.1 b (by omega)
  refine ⟨h4, fun c hc => ?_⟩
  rw [h5 c (by omega), Bool.or_eq_true, h.2 c hc, decide_eq_true_iff]
  constructor
  · rintro (⟨i, hi, e⟩ | e)
    · exact ⟨i, by omega, by rw [h1 i hi, e]⟩
    · exact ⟨t, by omega, by rw [h2, e]⟩
  · rintro ⟨i, hi, e⟩
    by_cases ei : i = t
    · right; rw [ei, h2] at e; exact e.symm
    · left; exact ⟨i, by omega, by rw [← h1 i (by omega), e]⟩
theorem pb_msks.zero {m : Nat} {g : Nat → Nat} (hm : m ≤ 6) : pb_msks m 0 0 g := by
  refine ⟨by omega, fun b hb => ⟨fun h => ?_, fun ⟨i, hi, _⟩ => by omega⟩⟩
  have : pb_tb 0 b = false := by unfold pb_tb; simp
  rw [this] at h; cases h
theorem pb_inj.step {t b : Nat} {g g' : Nat → Nat} (h : pb_inj t g) (h1 : ∀ i, i < t → g' i = g i) (h2 : g' t = b) (h3 : ∀ i, i < t → g i ≠ b) : pb_inj (t + 1) g' := by
  intro i j hi hj e
  by_cases ei : i = t
  · by_cases ej : j = t
    · omega
    · rw [ei, h2, h1 j (by omega)] at e; exact absurd e.symm (h3 j (by omega))
  · by_cases ej : j = t
    · rw [ej, h2, h1 i (by omega)] at e; exact absurd e (h3 i (by omega))
    · rw [h1 i (by omega), h1 j (by omega)] at e; exact h i j (by omega) (by omega) e
/-! the reference's rows -/
theorem pb_rows {n m : Nat} {R : fm_M} (hm : m ≤ 6) (r0 : R.1 2 0 = nI m) (hn : 10 ≤ n) : fX9_rows n R = some (nI (m ^ m), R) := by
  have loop : ∀ (k t a : Nat), t ≤ m → m < t + k → fX9_rows_4 n k R (nI a) (nI t) = some (nI (a * m ^ (m - t)), R) := by
    intro k
    induction k with
    | zero => intro t a h1 h2; omega
    | succ k ih =>
      intro t a h1 h2
      rw [fX9_rows_4]
      by_cases ht : t = m
      · subst ht
        simp (disch := omega) only [pb_l0, pb_l1, pb_l2, pb_l3, pb_l4, pb_l5, pb_l6, pb_l7, pb_l8, pb_l9, pb_l10, pb_l12, pb_l14, pb_l20, pb_l32, pb_l36, pb_l48, pb_l56, pb_l57, pb_l59, pb_l60, pb_l72, pb_l99, pb_l100, pb_l111, pb_l116, pb_l200, pb_l255, pb_l504, pb_l560, pb_l1000, pb_l9999, pb_l10000, pb_l100000, pb_l1000000, nI_add, pk_mul, pb_cl, pb_b, pb_le_t, pb_le_f, pb_lt_t, pb_lt_f, pb_eq_t, pb_eq_f, r0, Nat.sub_self, Nat.pow_zero, Nat.mul_one]
      · simp (disch := omega) only [pb_l0, pb_l1, pb_l2, pb_l3, pb_l4, pb_l5, pb_l6, pb_l7, pb_l8, pb_l9, pb_l10, pb_l12, pb_l14, pb_l20, pb_l32, pb_l36, pb_l48, pb_l56, pb_l57, pb_l59, pb_l60, pb_l72, pb_l99, pb_l100, pb_l111, pb_l116, pb_l200, pb_l255, pb_l504, pb_l560, pb_l1000, pb_l9999, pb_l10000, pb_l100000, pb_l1000000, nI_add, pk_mul, pb_cl, pb_b, pb_le_t, pb_le_f, pb_lt_t, pb_lt_f, pb_eq_t, pb_eq_f, r0, fm_let]
        rw [ih (t + 1) _ (by omega) (by omega), show m - t = (m - (t + 1)) + 1 by omega, Nat.pow_succ, Nat.mul_assoc, Nat.mul_comm m]
  have h := loop n 0 1 (by omega) (by omega)
  rw [Nat.sub_zero, Nat.one_mul] at h
  exact h
theorem pb_isRow_loop {n m w : Nat} (hm : m ≤ 6) (hw : w < 46656) : ∀ (j k s : Nat) (is : Bool) (R : fm_M), R.1 2 0 = nI m → j ≤ m → j < k → s < 64 → (∀ b, b < m → (pb_tb s b = true ↔ ∃ i, j ≤ i ∧ i < m ∧ pb_pd m m w i = b)) → (is = true ↔ ∀ i i', j ≤ i → i < m → j ≤ i' → i' < m → pb_pd m m w i = pb_pd m m w i' → i = i') → (∀ i, j ≤ i → i < m → R.1 18 i = nI (pb_pd m m w i)) → ∃ R' is', fX9_isRow_17 n k R (nI (w / m ^ (m - j))) (nI s) (if is = true then nI 1 else nI 0) (nI j - nI 1) = some (if is' = true then nI 1 else nI 0, R') ∧ (is' = true ↔ pb_inj m (pb_pd m m w)) ∧ (∀ c, c ≠ 18 → R'.1 c = R.1 c) ∧ R'.2 = R.2 ∧ ∀ i, i < m → R'.1 18 i = nI (pb_pd m m w i) := by
  intro j
  induction j with
  | zero =>
    intro k s is R r0 h1 h2 h3 h4 h5 h6
    obtain ⟨k, rfl⟩ : ∃ i, k = i + 1 := ⟨k - 1, by omega⟩
    rw [fX9_isRow_17]
    have e : (nI 0 - nI 1 : Int32) < 0 := by decide
    rw [if_pos e]
    refine ⟨R, is, ?_, ?_, fun _ _ => rfl, rfl, fun i hi => h6 i (by omega) hi⟩
    · cases is <;> rfl
    · rw [h5]
      exact ⟨fun h i i' hi hi' e => h i i' (by omega) hi (by omega) hi' e, fun h i i' _ hi _ hi' e => h i i' hi hi' e⟩
  | succ j ih =>
    intro k s is R r0 h1 h2 h3 h4 h5 h6
    obtain ⟨k, rfl⟩ : ∃ i, k = i + 1 := ⟨k - 1, by omega⟩
    rw [fX9_isRow_17, show nI (j + 1) - nI 1 = nI j from nI_pred j]
    have e0 : ¬ nI j < 0 := nI_pos (by omega)
    have hd : w / m ^ (m - (j + 1)) % m = pb_pd m m w j := by unfold pb_pd; rw [show m - 1 - j = m - (j + 1) by omega]
    have hlt := pb_pd_lt (m := m) (t := m) (P := w) (i := j) (by omega)
    have hle : w / m ^ (m - (j + 1)) ≤ w := Nat.div_le_self _ _
    have hq : w / m ^ (m - (j + 1)) / m = w / m ^ (m - j) := by rw [Nat.div_div_eq_div_mul, ← Nat.pow_succ, show (m - (j + 1)).succ = m - j by omega]
    have er : nI (w / m ^ (m - (j + 1))) - nI (w / m ^ (m - (j + 1))) / nI m * nI m = nI (pb_pd m m w j) := by rw [pk_rem (by omega) (by omega) (by omega), hd]
    have eq' : nI (w / m ^ (m - (j + 1))) / nI m = nI (w / m ^ (m - j)) := by rw [pk_div (by omega) (by omega) (by omega), hq]
    rw [eq', pk_mul] at er
    have nz : ¬ nI m = 0 := nI_ne0 (by omega) (by omega)
    have em : nI j + -1 = nI j - nI 1 := by rw [Int32.sub_eq_add_neg]; rfl
    obtain ⟨z1, z2, z3⟩ := pb_setS s h3 _ (by omega : pb_pd m m w j < 6)
    have zb := pb_bit0 (s := s) h3 (by omega : pb_pd m m w j < 6)
    have key : ∀ is2 : Bool, (is2 = true ↔ (is = true ∧ pb_tb s (pb_pd m m w j) = false)) → ∃ R' is', fX9_isRow_17 n k (fm_wr R 18 j (nI (pb_pd m m w j))) (nI (w / m ^ (m - j))) (nI (pb_set s (pb_pd m m w j))) (if is2 = true then nI 1 else nI 0) (nI j - nI 1) = some (if is' = true then nI 1 else nI 0, R') ∧ (is' = true ↔ pb_inj m (pb_pd m m w)) ∧ (∀ c, c ≠ 18 → R'.1 c = R.1 c) ∧ R'.2 = R.2 ∧ ∀ i, i < m → R'.1 18 i = nI (pb_pd m m w i) := by
      intro is2 hi2
      have hmask : ∀ b, b < m → (pb_tb (pb_set s (pb_pd m m w j)) b = true ↔ ∃ i, j ≤ i ∧ i < m ∧ pb_pd m m w i = b) := by
        intro b hb
        rw [z3 b (by omega), Bool.or_eq_true, h4 b hb, decide_eq_true_iff]
        constructor
        · rintro (⟨i, a1, a2, a3⟩ | e)
          · exact ⟨i, by omega, a2, a3⟩
          · exact ⟨j, by omega, by omega, e.symm⟩
        · rintro ⟨i, a1, a2, a3⟩
          by_cases ei : i = j
          · right; rw [← a3, ei]
          · left; exact ⟨i, by omega, a2, a3⟩
      have hinj : is2 = true ↔ ∀ i i', j ≤ i → i < m → j ≤ i' → i' < m → pb_pd m m w i = pb_pd m m w i' → i = i' := by
        rw [hi2, h5]
        have hbit : pb_tb s (pb_pd m m w j) = false ↔ ∀ i, j + 1 ≤ i → i < m → pb_pd m m w i ≠ pb_pd m m w j := by
          constructor
          · intro hf i a1 a2 a3
            have := (h4 _ hlt).mpr ⟨i, a1, a2, a3⟩
            rw [hf] at this; cases this
          · intro hf
            cases hx : pb_tb s (pb_pd m m w j) with
            | false => rfl
            | true =>
              obtain ⟨i, a1, a2, a3⟩ := (h4 _ hlt).mp hx
              exact absurd a3 (hf i a1 a2)
        rw [hbit]
        constructor
        · rintro ⟨q1, q2⟩ i i' a1 a2 a3 a4 e
          by_cases ei : i = j
          · by_cases ei' : i' = j
            · omega
            · rw [ei] at e; exact absurd e.symm (q2 i' (by omega) a4)
          · by_cases ei' : i' = j
            · rw [ei'] at e; exact absurd e (q2 i (by omega) a2)
            · exact q1 i i' (by omega) a2 (by omega) a4 e
        · intro q
          exact ⟨fun i i' a1 a2 a3 a4 e => q i i' (by omega) a2 (by omega) a4 e, fun i a1 a2 e => by have := q i j (by omega) a2 (by omega) (by omega) e; omega⟩
      obtain ⟨R', is', g1, g2, g3, g4, g5⟩ := ih k (pb_set s (pb_pd m m w j)) is2 (fm_wr R 18 j (nI (pb_pd m m w j))) (by rw [pb_wr_n (by omega)]; exact r0) (by omega) (by omega) z2 hmask hinj (fun i a1 a2 => by
        rw [pb_wr_e]
        by_cases ei : i = j
        · subst ei; rw [pb_up_e]
        · rw [pb_up_n ei]; exact h6 i (by omega) a2)
      exact ⟨R', is', g1, g2, fun c hc => (g3 c hc).trans (pb_wr_n hc), g4, g5⟩
    rw [if_neg e0]
    cases is
    · have := key false ⟨fun h => (by cases h), fun h => (by cases h.1)⟩
      simp only [Bool.false_eq_true, if_false] at this
      simp (disch := omega) only [pb_l0, pb_l1, pb_l2, pb_l3, pb_l4, pb_l5, pb_l6, pb_l7, pb_l8, pb_l9, pb_l10, pb_l12, pb_l14, pb_l20, pb_l32, pb_l36, pb_l48, pb_l56, pb_l57, pb_l59, pb_l60, pb_l72, pb_l99, pb_l100, pb_l111, pb_l116, pb_l200, pb_l255, pb_l504, pb_l560, pb_l1000, pb_l9999, pb_l10000, pb_l100000, pb_l1000000, nI_add, pk_mul, pb_cl, pb_b, pb_le_t, pb_le_f, pb_lt_t, pb_lt_f, pb_eq_t, pb_eq_f, pb_wr_e, pb_wr_n, pb_row_e, pb_row_n, pb_up_e, pb_up_n, pb_wr_2, pb_row_2, r0, fm_nz, pb_ifn nz, er, eq', fm_let, Bool.false_eq_true, if_false, fX9_isRow_69, z1]
      rw [show nI j + -nI 1 = nI j - nI 1 from em]
      exact this
    · by_cases c : pb_tb s (pb_pd m m w j) = true
      · have := key false ⟨fun h => (by cases h), fun h => (by rw [c] at h; cases h.2)⟩
        simp only [Bool.false_eq_true, if_false] at this
        rw [if_pos c] at zb
        simp (disch := omega) only [pb_l0, pb_l1, pb_l2, pb_l3, pb_l4, pb_l5, pb_l6, pb_l7, pb_l8, pb_l9, pb_l10, pb_l12, pb_l14, pb_l20, pb_l32, pb_l36, pb_l48, pb_l56, pb_l57, pb_l59, pb_l60, pb_l72, pb_l99, pb_l100, pb_l111, pb_l116, pb_l200, pb_l255, pb_l504, pb_l560, pb_l1000, pb_l9999, pb_l10000, pb_l100000, pb_l1000000, nI_add, pk_mul, pb_cl, pb_b, pb_le_t, pb_le_f, pb_lt_t, pb_lt_f, pb_eq_t, pb_eq_f, pb_wr_e, pb_wr_n, pb_row_e, pb_row_n, pb_up_e, pb_up_n, pb_wr_2, pb_row_2, r0, fm_nz, pb_ifn nz, er, eq', fm_let, if_true, fX9_isRow_69, z1, zb]
        rw [show nI j + -nI 1 = nI j - nI 1 from em]
        exact this
      · have := key true ⟨fun h => ⟨rfl, (by simpa using c)⟩, fun h => rfl⟩
        simp only [if_true] at this
        rw [if_neg c] at zb
        simp (disch := omega) only [pb_l0, pb_l1, pb_l2, pb_l3, pb_l4, pb_l5, pb_l6, pb_l7, pb_l8, pb_l9, pb_l10, pb_l12, pb_l14, pb_l20, pb_l32, pb_l36, pb_l48, pb_l56, pb_l57, pb_l59, pb_l60, pb_l72, pb_l99, pb_l100, pb_l111, pb_l116, pb_l200, pb_l255, pb_l504, pb_l560, pb_l1000, pb_l9999, pb_l10000, pb_l100000, pb_l1000000, nI_add, pk_mul, pb_cl, pb_b, pb_le_t, pb_le_f, pb_lt_t, pb_lt_f, pb_eq_t, pb_eq_f, pb_wr_e, pb_wr_n, pb_row_e, pb_row_n, pb_up_e, pb_up_n, pb_wr_2, pb_row_2, r0, fm_nz, pb_ifn nz, er, eq', fm_let, if_true, z1, zb]
        rw [show nI j + -nI 1 = nI j - nI 1 from em]
        exact this
