/-! settles and begin -/
set_option maxRecDepth 100000
theorem pb_set26 {n : Nat} {Q : Option fm_M → Prop} : ∀ (k t : Nat) (R : fm_M), t ≤ 56 → 56 < t + k → (∀ R', (∀ c, c ≠ 11 → R'.1 c = R.1 c) → (∀ j, R'.1 11 j = if t ≤ j ∧ j < 56 then nI 0 else R.1 11 j) → R'.2 = R.2 → Q (fX9_settles_47 n n R' (nI 0))) → Q (fX9_settles_26 n k R (nI t)) := by
  intro k
  induction k with
  | zero => intro t R h1 h2; omega
  | succ k ih =>
    intro t R h1 h2 hQ
    rw [fX9_settles_26]
    by_cases ht : t = 56
    · simp (disch := omega) only [pb_l0, pb_l1, pb_l2, pb_l3, pb_l4, pb_l5, pb_l6, pb_l7, pb_l8, pb_l9, pb_l10, pb_l12, pb_l14, pb_l20, pb_l32, pb_l36, pb_l48, pb_l56, pb_l57, pb_l59, pb_l60, pb_l72, pb_l99, pb_l100, pb_l111, pb_l116, pb_l200, pb_l255, pb_l504, pb_l560, pb_l1000, pb_l9999, pb_l10000, pb_l100000, pb_l1000000, nI_add, pk_mul, pb_cl, pb_b, pb_le_t, pb_le_f, pb_lt_t, pb_lt_f, pb_eq_t, pb_eq_f]
      exact hQ R (fun _ _ => rfl) (fun j => by rw [if_neg (by omega)]) rfl
    · simp (disch := omega) only [pb_l0, pb_l1, pb_l2, pb_l3, pb_l4, pb_l5, pb_l6, pb_l7, pb_l8, pb_l9, pb_l10, pb_l12, pb_l14, pb_l20, pb_l32, pb_l36, pb_l48, pb_l56, pb_l57, pb_l59, pb_l60, pb_l72, pb_l99, pb_l100, pb_l111, pb_l116, pb_l200, pb_l255, pb_l504, pb_l560, pb_l1000, pb_l9999, pb_l10000, pb_l100000, pb_l1000000, nI_add, pk_mul, pb_cl, pb_b, pb_le_t, pb_le_f, pb_lt_t, pb_lt_f, pb_eq_t, pb_eq_f, fm_let]
      refine ih (t + 1) _ (by omega) (by omega) (fun R' w1 w2 w3 => hQ R' (fun c hc => (w1 c hc).trans (pb_wr_n hc)) (fun j => ?_) w3)
      rw [w2 j]
      by_cases e : j = t
      · subst e
        rw [if_neg (by omega), if_pos (by omega), pb_wr_e, pb_up_e]
      · by_cases e2 : t + 1 ≤ j ∧ j < 56
        · rw [if_pos e2, if_pos (by omega)]
        · rw [if_neg e2, if_neg (by omega), pb_wr_e, pb_up_n e]
def pb_mx (R : fm_M) (t : Nat) : Int32 := if R.1 4 (6 + t) ≤ R.1 3 (6 + t) then R.1 3 (6 + t) else R.1 4 (6 + t)
theorem pb_set47 {n : Nat} {R0 : fm_M} {Q : Option fm_M → Prop} (hQ : ∀ R', (∀ c, c ≠ 4 → c ≠ 5 → c ≠ 7 → c ≠ 8 → c ≠ 9 → c ≠ 11 → R'.1 c = R0.1 c) → (∀ c j, (c = 4 ∨ c = 5 ∨ c = 7 ∨ c = 8 ∨ c = 9) → j < 6 → R'.1 c j = R0.1 c (6 + j)) → (∀ j, R'.1 11 j = if 2 ≤ j ∧ j < 8 then nI (j - 2) else if 8 ≤ j ∧ j < 14 then pb_mx R0 (j - 8) else R0.1 11 j) → R'.2 = R0.2 → Q (fX9_settles_190 n n R' (nI 0))) : ∀ (k t : Nat) (R : fm_M), t ≤ 6 → 6 < t + k → (∀ c, c ≠ 4 → c ≠ 5 → c ≠ 7 → c ≠ 8 → c ≠ 9 → c ≠ 11 → R.1 c = R0.1 c) → (∀ c j, (c = 4 ∨ c = 5 ∨ c = 7 ∨ c = 8 ∨ c = 9) → j < t → R.1 c j = R0.1 c (6 + j)) → (∀ c j, (c = 4 ∨ c = 5 ∨ c = 7 ∨ c = 8 ∨ c = 9) → 6 ≤ j → R.1 c j = R0.1 c j) → (∀ j, R.1 11 j = if 2 ≤ j ∧ j < 2 + t then nI (j - 2) else if 8 ≤ j ∧ j < 8 + t then pb_mx R0 (j - 8) else R0.1 11 j) → R.2 = R0.2 → Q (fX9_settles_47 n k R (nI t)) := by
  intro k
  induction k with
  | zero => intro t R h1 h2; omega
  | succ k ih =>
    intro t R h1 h2 g1 g2 g3 g4 g5
    rw [fX9_settles_47]
    by_cases ht : t = 6
    · subst ht
      simp (disch := omega) only [pb_l0, pb_l1, pb_l2, pb_l3, pb_l4, pb_l5, pb_l6, pb_l7, pb_l8, pb_l9, pb_l10, pb_l12, pb_l14, pb_l20, pb_l32, pb_l36, pb_l48, pb_l56, pb_l57, pb_l59, pb_l60, pb_l72, pb_l99, pb_l100, pb_l111, pb_l116, pb_l200, pb_l255, pb_l504, pb_l560, pb_l1000, pb_l9999, pb_l10000, pb_l100000, pb_l1000000, nI_add, pk_mul, pb_cl, pb_b, pb_le_t, pb_le_f, pb_lt_t, pb_lt_f, pb_eq_t, pb_eq_f]
      exact hQ R g1 g2 g4 g5
    · have x3 : R.1 3 (6 + t) = R0.1 3 (6 + t) := by rw [g1 3 (by omega) (by omega) (by omega) (by omega) (by omega) (by omega)]
      have x4 := g3 4 (6 + t) (by omega) (by omega)
      have x5 := g3 5 (6 + t) (by omega) (by omega)
      have x7 := g3 7 (6 + t) (by omega) (by omega)
      have x8 := g3 8 (6 + t) (by omega) (by omega)
      have x9 := g3 9 (6 + t) (by omega) (by omega)
      simp (disch := omega) only [pb_l0, pb_l1, pb_l2, pb_l3, pb_l4, pb_l5, pb_l6, pb_l7, pb_l8, pb_l9, pb_l10, pb_l12, pb_l14, pb_l20, pb_l32, pb_l36, pb_l48, pb_l56, pb_l57, pb_l59, pb_l60, pb_l72, pb_l99, pb_l100, pb_l111, pb_l116, pb_l200, pb_l255, pb_l504, pb_l560, pb_l1000, pb_l9999, pb_l10000, pb_l100000, pb_l1000000, nI_add, pk_mul, pb_cl, pb_b, pb_le_t, pb_le_f, pb_lt_t, pb_lt_f, pb_eq_t, pb_eq_f, pb_wr_e, pb_wr_n, pb_row_e, pb_row_n, pb_up_e, pb_up_n, pb_wr_2, pb_row_2, fm_let, x3, x4, x5, x7, x8, x9]
      have key : ∀ v : Int32, v = pb_mx R0 t → Q (fX9_settles_47 n k (fm_wr (fm_wr (fm_wr (fm_wr (fm_wr (fm_wr (fm_wr R 4 t (R0.1 4 (6 + t))) 5 t (R0.1 5 (6 + t))) 7 t (R0.1 7 (6 + t))) 8 t (R0.1 8 (6 + t))) 9 t (R0.1 9 (6 + t))) 11 (2 + t) (nI t)) 11 (8 + t) v) (nI (t + 1))) := by
        intro v hv
        refine ih (t + 1) _ (by omega) (by omega) (fun c c4 c5 c7 c8 c9 c11 => ?_) (fun c j hc hj => ?_) (fun c j hc hj => ?_) (fun j => ?_) g5
        · rw [pb_wr_n c11, pb_wr_n c11, pb_wr_n c9, pb_wr_n c8, pb_wr_n c7, pb_wr_n c5, pb_wr_n c4]; exact g1 c c4 c5 c7 c8 c9 c11
        · rw [pb_wr_n (by omega), pb_wr_n (by omega)]
          by_cases ej : j = t
          · subst ej
            rcases hc with rfl | rfl | rfl | rfl | rfl <;> simp (disch := omega) only [pb_wr_e, pb_wr_n, pb_row_e, pb_row_n, pb_up_e, pb_up_n, pb_wr_2, pb_row_2]
          · rw [pb_wr_ne (by omega), pb_wr_ne (by omega), pb_wr_ne (by omega), pb_wr_ne (by omega), pb_wr_ne (by omega)]
            exact g2 c j hc (by omega)
        · rw [pb_wr_n (by omega), pb_wr_n (by omega), pb_wr_ne (by omega), pb_wr_ne (by omega), pb_wr_ne (by omega), pb_wr_ne (by omega), pb_wr_ne (by omega)]
          exact g3 c j hc hj
        · by_cases e1 : j = 8 + t
          · have z1 : ¬ (2 ≤ j ∧ j < 2 + (t + 1)) := by omega
            have z2 : 8 ≤ j ∧ j < 8 + (t + 1) := by omega
            rw [if_neg z1, if_pos z2, e1, pb_wr_e, pb_up_e, hv, show 8 + t - 8 = t by omega]
          · rw [pb_wr_ne (by omega)]
            by_cases e2 : j = 2 + t
            · have z1 : 2 ≤ j ∧ j < 2 + (t + 1) := by omega
              rw [if_pos z1, e2, pb_wr_e, pb_up_e, show 2 + t - 2 = t by omega]
            · rw [pb_wr_ne (by omega), pb_wr_n (by omega), pb_wr_n (by omega), pb_wr_n (by omega), pb_wr_n (by omega), pb_wr_n (by omega), g4 j]
              by_cases e3 : 2 ≤ j ∧ j < 2 + t
              · have z1 : 2 ≤ j ∧ j < 2 + (t + 1) := by omega
                rw [if_pos e3, if_pos z1]
              · have z1 : ¬ (2 ≤ j ∧ j < 2 + (t + 1)) := by omega
                rw [if_neg e3, if_neg z1]
                by_cases e4 : 8 ≤ j ∧ j < 8 + t
                · have z2 : 8 ≤ j ∧ j < 8 + (t + 1) := by omega
                  rw [if_pos e4, if_pos z2]
                · have z2 : ¬ (8 ≤ j ∧ j < 8 + (t + 1)) := by omega
                  rw [if_neg e4, if_neg z2]
      by_cases c : R0.1 4 (6 + t) ≤ R0.1 3 (6 + t)
      · simp only [pb_ifp c]
        exact key _ (by unfold pb_mx; rw [if_pos c])
      · simp only [pb_ifn c]
        exact key _ (by unfold pb_mx; rw [if_neg c])
theorem pb_set190 {n : Nat} {R0 : fm_M} {x : Nat → Nat → Nat} {Q : Option fm_M → Prop} (hx : ∀ j, j < 36 → R0.1 6 (36 + j) = nI (x (j / 6) (j % 6)) ∧ x (j / 6) (j % 6) ≤ 9) (hQ : ∀ R', (∀ c, c ≠ 6 → c ≠ 10 → R'.1 c = R0.1 c) → (∀ j, j < 36 → R'.1 6 j = R0.1 6 (36 + j)) → (∀ j, j < 36 → R'.1 10 j = nI (pb_d0 1000000 x (j / 6) (j % 6))) → R'.2 = R0.2 → Q (fX9_settles_260 n n R' (nI 0))) : ∀ (k t : Nat) (R : fm_M), t ≤ 36 → 36 < t + k → (∀ c, c ≠ 6 → c ≠ 10 → R.1 c = R0.1 c) → (∀ j, j < t → R.1 6 j = R0.1 6 (36 + j)) → (∀ j, 36 ≤ j → R.1 6 j = R0.1 6 j) → (∀ j, j < t → R.1 10 j = nI (pb_d0 1000000 x (j / 6) (j % 6))) → R.2 = R0.2 → Q (fX9_settles_190 n k R (nI t)) := by
  intro k
  induction k with
  | zero => intro t R h1 h2; omega
  | succ k ih =>
    intro t R h1 h2 g1 g2 g3 g4 g5
    rw [fX9_settles_190]
    by_cases ht : t = 36
    · subst ht
      simp (disch := omega) only [pb_l0, pb_l1, pb_l2, pb_l3, pb_l4, pb_l5, pb_l6, pb_l7, pb_l8, pb_l9, pb_l10, pb_l12, pb_l14, pb_l20, pb_l32, pb_l36, pb_l48, pb_l56, pb_l57, pb_l59, pb_l60, pb_l72, pb_l99, pb_l100, pb_l111, pb_l116, pb_l200, pb_l255, pb_l504, pb_l560, pb_l1000, pb_l9999, pb_l10000, pb_l100000, pb_l1000000, nI_add, pk_mul, pb_cl, pb_b, pb_le_t, pb_le_f, pb_lt_t, pb_lt_f, pb_eq_t, pb_eq_f]
      exact hQ R g1 g2 g4 g5
    · obtain ⟨x1, x2⟩ := hx t (by omega)
      have x6 : R.1 6 (36 + t) = nI (x (t / 6) (t % 6)) := by rw [g3 _ (by omega)]; exact x1
      have hd : nI t / nI 6 = nI (t / 6) := pk_div (by omega) (by omega) (by omega)
      have hr : nI t - nI (t / 6 * 6) = nI (t % 6) := by rw [pk_sub (by omega), show t - t / 6 * 6 = t % 6 by omega]
      have key : ∀ v : Int32, v = nI (pb_d0 1000000 x (t / 6) (t % 6)) → Q (fX9_settles_190 n k (fm_wr (fm_wr R 6 t (nI (x (t / 6) (t % 6)))) 10 t v) (nI (t + 1))) := by
        intro v hv
        refine ih (t + 1) _ (by omega) (by omega) (fun c c1 c2 => by rw [pb_wr_n c2, pb_wr_n c1]; exact g1 c c1 c2) (fun j hj => ?_) (fun j hj => by rw [pb_wr_n (by omega), pb_wr_ne (by omega)]; exact g3 j hj) (fun j hj => ?_) g5
        · rw [pb_wr_n (by omega), pb_wr_e]
          by_cases e : j = t
          · subst e; rw [pb_up_e, x1]
          · rw [pb_up_n e]; exact g2 j (by omega)
        · rw [pb_wr_e]
          by_cases e : j = t
          · subst e; rw [pb_up_e, hv]
          · rw [pb_up_n e, pb_wr_n (by omega)]; exact g4 j (by omega)
      by_cases e : t / 6 = t % 6
      · simp (disch := omega) only [pb_l0, pb_l1, pb_l2, pb_l3, pb_l4, pb_l5, pb_l6, pb_l7, pb_l8, pb_l9, pb_l10, pb_l12, pb_l14, pb_l20, pb_l32, pb_l36, pb_l48, pb_l56, pb_l57, pb_l59, pb_l60, pb_l72, pb_l99, pb_l100, pb_l111, pb_l116, pb_l200, pb_l255, pb_l504, pb_l560, pb_l1000, pb_l9999, pb_l10000, pb_l100000, pb_l1000000, nI_add, pk_mul, pb_cl, pb_b, pb_le_t, pb_le_f, pb_lt_t, pb_lt_f, pb_eq_t, pb_eq_f, pb_wr_e, pb_wr_n, pb_row_e, pb_row_n, pb_up_e, pb_up_n, pb_wr_2, pb_row_2, fm_let, x6, hd, hr]
        exact key _ (by unfold pb_d0; rw [if_pos e])
      · by_cases z : x (t / 6) (t % 6) = 0
        · simp (disch := omega) only [pb_l0, pb_l1, pb_l2, pb_l3, pb_l4, pb_l5, pb_l6, pb_l7, pb_l8, pb_l9, pb_l10, pb_l12, pb_l14, pb_l20, pb_l32, pb_l36, pb_l48, pb_l56, pb_l57, pb_l59, pb_l60, pb_l72, pb_l99, pb_l100, pb_l111, pb_l116, pb_l200, pb_l255, pb_l504, pb_l560, pb_l1000, pb_l9999, pb_l10000, pb_l100000, pb_l1000000, nI_add, pk_mul, pb_cl, pb_b, pb_le_t, pb_le_f, pb_lt_t, pb_lt_f, pb_eq_t, pb_eq_f, pb_wr_e, pb_wr_n, pb_row_e, pb_row_n, pb_up_e, pb_up_n, pb_wr_2, pb_row_2, fm_let, x6, hd, hr]
          exact key _ (by unfold pb_d0; rw [if_neg e, if_pos z])
        · simp (disch := omega) only [pb_l0, pb_l1, pb_l2, pb_l3, pb_l4, pb_l5, pb_l6, pb_l7, pb_l8, pb_l9, pb_l10, pb_l12, pb_l14, pb_l20, pb_l32, pb_l36, pb_l48, pb_l56, pb_l57, pb_l59, pb_l60, pb_l72, pb_l99, pb_l100, pb_l111, pb_l116, pb_l200, pb_l255, pb_l504, pb_l560, pb_l1000, pb_l9999, pb_l10000, pb_l100000, pb_l1000000, nI_add, pk_mul, pb_cl, pb_b, pb_le_t, pb_le_f, pb_lt_t, pb_lt_f, pb_eq_t, pb_eq_f, pb_wr_e, pb_wr_n, pb_row_e, pb_row_n, pb_up_e, pb_up_n, pb_wr_2, pb_row_2, fm_let, x6, hd, hr]
          exact key _ (by unfold pb_d0; rw [if_neg e, if_neg z])
theorem pb_set272 {n m : Nat} {D : Nat → Nat → Nat} {R0 : fm_M} {Q : Option fm_M → Prop} (hm : m < 6) (hd : D m m = 0) (hD : ∀ i j, D i j ≤ 1000000) (k260 : fm_M → Int32 → Option fm_M) (hQ : ∀ R', (∀ c, c ≠ 10 → R'.1 c = R0.1 c) → (∀ j, j < 36 → R'.1 10 j = nI (pb_fl D m (j / 6) (j % 6))) → R'.2 = R0.2 → Q (k260 R' (nI (m + 1)))) : ∀ (k t : Nat) (R : fm_M), t ≤ 36 → 36 < t + k → (∀ c, c ≠ 10 → R.1 c = R0.1 c) → (∀ j, j < 36 → R.1 10 j = nI (if j < t then pb_fl D m (j / 6) (j % 6) else D (j / 6) (j % 6))) → R.2 = R0.2 → Q (fX9_settles_272 n k260 k R (nI m) (nI t)) := by
  intro k
  induction k with
  | zero => intro t R h1 h2; omega
  | succ k ih =>
    intro t R h1 h2 g1 g2 g3
    rw [fX9_settles_272]
    by_cases ht : t = 36
    · subst ht
      simp (disch := omega) only [pb_l0, pb_l1, pb_l2, pb_l3, pb_l4, pb_l5, pb_l6, pb_l7, pb_l8, pb_l9, pb_l10, pb_l12, pb_l14, pb_l20, pb_l32, pb_l36, pb_l48, pb_l56, pb_l57, pb_l59, pb_l60, pb_l72, pb_l99, pb_l100, pb_l111, pb_l116, pb_l200, pb_l255, pb_l504, pb_l560, pb_l1000, pb_l9999, pb_l10000, pb_l100000, pb_l1000000, nI_add, pk_mul, pb_cl, pb_b, pb_le_t, pb_le_f, pb_lt_t, pb_lt_f, pb_eq_t, pb_eq_f]
      exact hQ R g1 (fun j hj => by rw [g2 j hj, if_pos hj]) g3
    · have hdv : nI t / nI 6 = nI (t / 6) := pk_div (by omega) (by omega) (by omega)
      have hr : nI t - nI (t / 6 * 6) = nI (t % 6) := by rw [pk_sub (by omega), show t - t / 6 * 6 = t % 6 by omega]
      have e1 : R.1 10 (t / 6 * 6 + m) = nI (D (t / 6) m) := by
        rw [g2 _ (by omega), show (t / 6 * 6 + m) / 6 = t / 6 by omega, show (t / 6 * 6 + m) % 6 = m by omega]
        split
        · rw [pb_fl_col hd]
        · rfl
      have e2 : R.1 10 (6 * m + t % 6) = nI (D m (t % 6)) := by
        rw [g2 _ (by omega), show (6 * m + t % 6) / 6 = m by omega, show (6 * m + t % 6) % 6 = t % 6 by omega]
        split
        · rw [pb_fl_row hd]
        · rfl
      have e3 : R.1 10 t = nI (D (t / 6) (t % 6)) := by rw [g2 t (by omega), if_neg (by omega)]
      have q1 := hD (t / 6) m
      have q2 := hD m (t % 6)
      have q3 := hD (t / 6) (t % 6)
      have key : ∀ v : Int32, v = nI (pb_fl D m (t / 6) (t % 6)) → Q (fX9_settles_272 n k260 k (fm_wr R 10 t v) (nI m) (nI (t + 1))) := by
        intro v hv
        refine ih (t + 1) _ (by omega) (by omega) (fun c c1 => by rw [pb_wr_n c1]; exact g1 c c1) (fun j hj => ?_) g3
        rw [pb_wr_e]
        by_cases e : j = t
        · subst e; rw [pb_up_e, if_pos (by omega), hv]
        · rw [pb_up_n e, g2 j hj]
          by_cases e4 : j < t
          · rw [if_pos e4, if_pos (by omega)]
          · rw [if_neg e4, if_neg (by omega)]
      by_cases c : D (t / 6) (t % 6) ≤ D (t / 6) m + D m (t % 6)
      · simp (disch := omega) only [pb_l0, pb_l1, pb_l2, pb_l3, pb_l4, pb_l5, pb_l6, pb_l7, pb_l8, pb_l9, pb_l10, pb_l12, pb_l14, pb_l20, pb_l32, pb_l36, pb_l48, pb_l56, pb_l57, pb_l59, pb_l60, pb_l72, pb_l99, pb_l100, pb_l111, pb_l116, pb_l200, pb_l255, pb_l504, pb_l560, pb_l1000, pb_l9999, pb_l10000, pb_l100000, pb_l1000000, nI_add, pk_mul, pb_cl, pb_b, pb_le_t, pb_le_f, pb_lt_t, pb_lt_f, pb_eq_t, pb_eq_f, fm_let, hdv, hr, e1, e2, e3]
        exact key _ (by unfold pb_fl; rw [show min (D (t / 6) (t % 6)) (D (t / 6) m + D m (t % 6)) = D (t / 6) (t % 6) by omega])
      · simp (disch := omega) only [pb_l0, pb_l1, pb_l2, pb_l3, pb_l4, pb_l5, pb_l6, pb_l7, pb_l8, pb_l9, pb_l10, pb_l12, pb_l14, pb_l20, pb_l32, pb_l36, pb_l48, pb_l56, pb_l57, pb_l59, pb_l60, pb_l72, pb_l99, pb_l100, pb_l111, pb_l116, pb_l200, pb_l255, pb_l504, pb_l560, pb_l1000, pb_l9999, pb_l10000, pb_l100000, pb_l1000000, nI_add, pk_mul, pb_cl, pb_b, pb_le_t, pb_le_f, pb_lt_t, pb_lt_f, pb_eq_t, pb_eq_f, fm_let, hdv, hr, e1, e2, e3]
        exact key _ (by unfold pb_fl; rw [show min (D (t / 6) (t % 6)) (D (t / 6) m + D m (t % 6)) = D (t / 6) m + D m (t % 6) by omega])
theorem pb_set260 {n m : Nat} {D : Nat → Nat → Nat} {R0 : fm_M} (hn : 50 ≤ n) (hm : m ≤ 6) (r0 : R0.1 2 0 = nI m) (hd : ∀ a, D a a = 0) (hD : ∀ i j, D i j ≤ 1000000) : ∀ (k t : Nat) (R : fm_M), t ≤ m → m < t + k → (∀ c, c ≠ 10 → R.1 c = R0.1 c) → (∀ j, j < 36 → R.1 10 j = nI (pb_fk D t (j / 6) (j % 6))) → R.2 = R0.2 → ∃ R', fX9_settles_260 n k R (nI t) = some R' ∧ (∀ c, c ≠ 10 → c ≠ 0 → c ≠ 14 → R'.1 c = R0.1 c) ∧ (∀ j, j < 36 → R'.1 10 j = nI (pb_fk D m (j / 6) (j % 6))) ∧ R'.1 0 3 = nI 0 ∧ R'.1 0 26 = nI 0 ∧ R'.1 0 23 = nI 0 ∧ R'.1 14 0 = nI 0 ∧ R'.1 14 1 = nI 0 ∧ R'.2 = R0.2 := by
  intro k
  induction k with
  | zero => intro t R h1 h2; omega
  | succ k ih =>
    intro t R h1 h2 g1 g2 g3
    have r0' : R.1 2 0 = nI m := by rw [g1 2 (by omega)]; exact r0
    rw [fX9_settles_260]
    by_cases ht : t = m
    · subst ht
      simp (disch := omega) only [pb_l0, pb_l1, pb_l2, pb_l3, pb_l4, pb_l5, pb_l6, pb_l7, pb_l8, pb_l9, pb_l10, pb_l12, pb_l14, pb_l20, pb_l32, pb_l36, pb_l48, pb_l56, pb_l57, pb_l59, pb_l60, pb_l72, pb_l99, pb_l100, pb_l111, pb_l116, pb_l200, pb_l255, pb_l504, pb_l560, pb_l1000, pb_l9999, pb_l10000, pb_l100000, pb_l1000000, nI_add, pk_mul, pb_cl, pb_b, pb_le_t, pb_le_f, pb_lt_t, pb_lt_f, pb_eq_t, pb_eq_f, fm_let, r0']
      refine ⟨_, rfl, fun c c1 c2 c3 => ?_, fun j hj => ?_, ?_, ?_, ?_, ?_, ?_, g3⟩
      · rw [pb_wr_n c3, pb_wr_n c3, pb_wr_n c2, pb_wr_n c2, pb_wr_n c2]; exact g1 c c1
      · rw [pb_wr_n (by omega), pb_wr_n (by omega), pb_wr_n (by omega), pb_wr_n (by omega), pb_wr_n (by omega)]; exact g2 j hj
      all_goals simp (disch := omega) only [pb_wr_e, pb_wr_n, pb_row_e, pb_row_n, pb_up_e, pb_up_n, pb_wr_2, pb_row_2]
    · simp (disch := omega) only [pb_l0, pb_l1, pb_l2, pb_l3, pb_l4, pb_l5, pb_l6, pb_l7, pb_l8, pb_l9, pb_l10, pb_l12, pb_l14, pb_l20, pb_l32, pb_l36, pb_l48, pb_l56, pb_l57, pb_l59, pb_l60, pb_l72, pb_l99, pb_l100, pb_l111, pb_l116, pb_l200, pb_l255, pb_l504, pb_l560, pb_l1000, pb_l9999, pb_l10000, pb_l100000, pb_l1000000, nI_add, pk_mul, pb_cl, pb_b, pb_le_t, pb_le_f, pb_lt_t, pb_lt_f, pb_eq_t, pb_eq_f, r0']
      exact pb_set272 (n := n) (R0 := R0) (Q := fun z => ∃ R', z = some R' ∧ (∀ c, c ≠ 10 → c ≠ 0 → c ≠ 14 → R'.1 c = R0.1 c) ∧ (∀ j, j < 36 → R'.1 10 j = nI (pb_fk D m (j / 6) (j % 6))) ∧ R'.1 0 3 = nI 0 ∧ R'.1 0 26 = nI 0 ∧ R'.1 0 23 = nI 0 ∧ R'.1 14 0 = nI 0 ∧ R'.1 14 1 = nI 0 ∧ R'.2 = R0.2) (by omega) (pb_fk_diag hd t t) (fun i j => Nat.le_trans (pb_fk_le t i j) (hD i j)) _ (fun R' w1 w2 w3 => ih (t + 1) R' (by omega) (by omega) w1 w2 w3) n 0 R (by omega) (by omega) g1 (fun j hj => by rw [g2 j hj, if_neg (by omega)]) g3
def pb_setP (mt : Nat) (x : Nat → Nat → Nat) (R R' : fm_M) : Prop := R'.1 2 0 = nI mt ∧ R'.1 2 1 = R.1 2 3 ∧ (∀ c j, (c = 4 ∨ c = 5 ∨ c = 7 ∨ c = 8 ∨ c = 9) → j < 6 → R'.1 c j = R.1 c (6 + j)) ∧ (∀ j, j < 36 → R'.1 6 j = R.1 6 (36 + j)) ∧ (∀ j, j < 36 → R'.1 10 j = nI (pb_fk (pb_d0 1000000 x) mt (j / 6) (j % 6))) ∧ (∀ j, j < 56 → R'.1 11 j = if 2 ≤ j ∧ j < 8 then nI (j - 2) else if 8 ≤ j ∧ j < 14 then pb_mx R (j - 8) else nI 0) ∧ (R'.1 0 3 = nI 0 ∧ R'.1 0 26 = nI 0 ∧ R'.1 0 23 = nI 0 ∧ R'.1 14 0 = nI 0 ∧ R'.1 14 1 = nI 0) ∧ R'.2 = R.2
theorem pb_settles {n mt : Nat} {x : Nat → Nat → Nat} {R : fm_M} (hn : 100 ≤ n) (hm : mt ≤ 6) (r2 : R.1 2 2 = nI mt) (hx : ∀ j, j < 36 → R.1 6 (36 + j) = nI (x (j / 6) (j % 6))) (hx9 : ∀ i j, x i j ≤ 9) : ∃ R', fX9_settles n R = some R' ∧ pb_setP mt x R R' := by
  unfold fX9_settles
  simp (disch := omega) only [pb_l0, pb_l1, pb_l2, pb_l3, pb_l4, pb_l5, pb_l6, pb_l7, pb_l8, pb_l9, pb_l10, pb_l12, pb_l14, pb_l20, pb_l32, pb_l36, pb_l48, pb_l56, pb_l57, pb_l59, pb_l60, pb_l72, pb_l99, pb_l100, pb_l111, pb_l116, pb_l200, pb_l255, pb_l504, pb_l560, pb_l1000, pb_l9999, pb_l10000, pb_l100000, pb_l1000000, nI_add, pk_mul, pb_cl, pb_b, pb_le_t, pb_le_f, pb_lt_t, pb_lt_f, pb_eq_t, pb_eq_f, fm_let, pb_wr_e, pb_wr_n, pb_row_e, pb_row_n, pb_up_e, pb_up_n, pb_wr_2, pb_row_2, r2]
  refine pb_set26 (n := n) (Q := fun z => ∃ R', z = some R' ∧ pb_setP mt x R R') n 0 _ (by omega) (by omega) (fun R1 a1 a2 a3 => ?_)
  refine pb_set47 (n := n) (R0 := R1) (Q := fun z => ∃ R', z = some R' ∧ pb_setP mt x R R') (fun R2 b1 b2 b3 b4 => ?_) n 0 R1 (by omega) (by omega) (fun _ _ _ _ _ _ _ => rfl) (fun c j _ hj => by omega) (fun _ _ _ _ => rfl) (fun j => by rw [if_neg (by omega), if_neg (by omega)]) rfl
  refine pb_set190 (n := n) (R0 := R2) (x := x) (Q := fun z => ∃ R', z = some R' ∧ pb_setP mt x R R') (fun j hj => ⟨?_, hx9 _ _⟩) (fun R3 c1 c2 c3 c4 => ?_) n 0 R2 (by omega) (by omega) (fun _ _ _ => rfl) (fun j hj => by omega) (fun _ _ => rfl) (fun j hj => by omega) rfl
  · rw [b1 6 (by omega) (by omega) (by omega) (by omega) (by omega) (by omega), a1 6 (by omega), pb_wr_n (by omega), pb_wr_n (by omega)]
    exact hx j hj
  · have e2 : R3.1 2 = (fm_wr (fm_wr R 2 0 (nI mt)) 2 1 (R.1 2 3)).1 2 := by rw [c1 2 (by omega) (by omega), b1 2 (by omega) (by omega) (by omega) (by omega) (by omega) (by omega), a1 2 (by omega)]
    obtain ⟨R', d1, d2, d3, d4, d5, d6, d7, d8, d9⟩ := pb_set260 (n := n) (m := mt) (D := pb_d0 1000000 x) (R0 := R3) (by omega) hm (by rw [e2]; simp (disch := omega) only [pb_wr_e, pb_wr_n, pb_row_e, pb_row_n, pb_up_e, pb_up_n, pb_wr_2, pb_row_2]) pb_d0_diag (pb_d0_le (by omega) hx9) n 0 R3 (by omega) (by omega) (fun _ _ => rfl) c3 rfl
    refine ⟨R', d1, ?_, ?_, fun c j hc hj => ?_, fun j hj => ?_, d3, fun j hj => ?_, ⟨d4, d5, d6, d7, d8⟩, ?_⟩
    · rw [d2 2 (by omega) (by omega) (by omega), e2]; simp (disch := omega) only [pb_wr_e, pb_wr_n, pb_row_e, pb_row_n, pb_up_e, pb_up_n, pb_wr_2, pb_row_2]
    · rw [d2 2 (by omega) (by omega) (by omega), e2]; simp (disch := omega) only [pb_wr_e, pb_wr_n, pb_row_e, pb_row_n, pb_up_e, pb_up_n, pb_wr_2, pb_row_2]
    · rw [d2 c (by omega) (by omega) (by omega), c1 c (by omega) (by omega), b2 c j hc hj, a1 c (by omega), pb_wr_n (by omega), pb_wr_n (by omega)]
    · rw [d2 6 (by omega) (by omega) (by omega), c2 j hj, b1 6 (by omega) (by omega) (by omega) (by omega) (by omega) (by omega), a1 6 (by omega), pb_wr_n (by omega), pb_wr_n (by omega)]
    · rw [d2 11 (by omega) (by omega) (by omega), c1 11 (by omega) (by omega), b3 j]
      have em : ∀ t, pb_mx R1 t = pb_mx R t := fun t => by
        unfold pb_mx
        rw [a1 4 (by omega), a1 3 (by omega), pb_wr_n (by omega), pb_wr_n (by omega), pb_wr_n (by omega), pb_wr_n (by omega)]
      rw [em, a2 j, if_pos (by omega : 0 ≤ j ∧ j < 56)]
    · rw [d9, c4, b4, a3]; rfl
/-! begin -/
theorem pb_fill {n bk a : Nat} {v : Int32} : ∀ (k t : Nat) (C : fm_M), t ≤ 6 → 6 < t + k → ∃ C', fJ1_fill_5 n bk a k C v (nI t) (nI 6) = some C' ∧ (∀ c, c ≠ a → C'.1 c = C.1 c) ∧ (∀ j, C'.1 a j = if t ≤ j ∧ j < 6 then v else C.1 a j) ∧ C'.2 = C.2 := by
  intro k
  induction k with
  | zero => intro t C h1 h2; omega
  | succ k ih =>
    intro t C h1 h2
    rw [fJ1_fill_5]
    by_cases ht : t = 6
    · simp (disch := omega) only [pb_l0, pb_l1, pb_l2, pb_l3, pb_l4, pb_l5, pb_l6, pb_l7, pb_l8, pb_l9, pb_l10, pb_l12, pb_l14, pb_l20, pb_l32, pb_l36, pb_l48, pb_l56, pb_l57, pb_l59, pb_l60, pb_l72, pb_l99, pb_l100, pb_l111, pb_l116, pb_l200, pb_l255, pb_l504, pb_l560, pb_l1000, pb_l9999, pb_l10000, pb_l100000, pb_l1000000, nI_add, pk_mul, pb_cl, pb_b, pb_le_t, pb_le_f, pb_lt_t, pb_lt_f, pb_eq_t, pb_eq_f]
      exact ⟨C, rfl, fun _ _ => rfl, fun j => by rw [if_neg (by omega)], rfl⟩
    · simp (disch := omega) only [pb_l0, pb_l1, pb_l2, pb_l3, pb_l4, pb_l5, pb_l6, pb_l7, pb_l8, pb_l9, pb_l10, pb_l12, pb_l14, pb_l20, pb_l32, pb_l36, pb_l48, pb_l56, pb_l57, pb_l59, pb_l60, pb_l72, pb_l99, pb_l100, pb_l111, pb_l116, pb_l200, pb_l255, pb_l504, pb_l560, pb_l1000, pb_l9999, pb_l10000, pb_l100000, pb_l1000000, nI_add, pk_mul, pb_cl, pb_b, pb_le_t, pb_le_f, pb_lt_t, pb_lt_f, pb_eq_t, pb_eq_f, fm_let]
      obtain ⟨C', e1, e2, e3, e4⟩ := ih (t + 1) (fm_wr C a t v) (by omega) (by omega)
      refine ⟨C', e1, fun c hc => (e2 c hc).trans (pb_wr_n hc), fun j => ?_, e4⟩
      rw [e3 j, pb_wr_e]
      by_cases e : j = t
      · subst e; rw [if_neg (by omega), if_pos (by omega), pb_up_e]
      · by_cases e2 : t + 1 ≤ j ∧ j < 6
        · rw [if_pos e2, if_pos (by omega)]
        · rw [if_neg e2, if_neg (by omega), pb_up_n e]
theorem pb_begin_loop {n bk : Nat} {C0 : fm_M} (hn : 10 ≤ n) (hbk : 193 ≤ bk) : ∀ (k t : Nat) (C : fm_M), t ≤ 6 → 6 < t + k → (∀ c, (c < 39 ∨ 50 ≤ c) → C.1 c = C0.1 c) → C.1 39 0 = nI 0 → C.1 39 1 = nI 0 → (∀ j, j < t → C.1 40 j = nI j ∧ C.1 41 j = (if C0.1 (bk + 1) j < C0.1 (bk + 2) j then C0.1 (bk + 2) j else C0.1 (bk + 1) j)) → (∀ i j, i < t → j < 6 → C.1 (44 + i) j = nI 0) → C.2 = C0.2 → ∃ C', fX2_begin_12 n bk 39 k C (nI t) = some C' ∧ (∀ c, (c < 39 ∨ 50 ≤ c) → C'.1 c = C0.1 c) ∧ C'.1 39 0 = nI 0 ∧ C'.1 39 1 = nI 0 ∧ (∀ j, j < 6 → C'.1 40 j = nI j ∧ C'.1 41 j = (if C0.1 (bk + 1) j < C0.1 (bk + 2) j then C0.1 (bk + 2) j else C0.1 (bk + 1) j)) ∧ (∀ i j, i < 6 → j < 6 → C'.1 (44 + i) j = nI 0) ∧ (∀ j, j < 6 → C'.1 42 j = nI 0) ∧ C'.2 = C0.2 := by
  intro k
  induction k with
  | zero => intro t C h1 h2; omega
  | succ k ih =>
    intro t C h1 h2 g1 g2 g3 g4 g5 g6
    rw [fX2_begin_12]
    by_cases ht : t = 6
    · subst ht
      obtain ⟨C', e1, e2, e3, e4⟩ := pb_fill (n := n) (bk := bk) (a := 39 + 3) (v := nI 0) n 0 C (by omega) (by omega)
      have e1' : fJ1_fill n bk (39 + 3) C (nI 0) = some C' := e1
      simp (disch := omega) only [pb_l0, pb_l1, pb_l2, pb_l3, pb_l4, pb_l5, pb_l6, pb_l7, pb_l8, pb_l9, pb_l10, pb_l12, pb_l14, pb_l20, pb_l32, pb_l36, pb_l48, pb_l56, pb_l57, pb_l59, pb_l60, pb_l72, pb_l99, pb_l100, pb_l111, pb_l116, pb_l200, pb_l255, pb_l504, pb_l560, pb_l1000, pb_l9999, pb_l10000, pb_l100000, pb_l1000000, nI_add, pk_mul, pb_cl, pb_b, pb_le_t, pb_le_f, pb_lt_t, pb_lt_f, pb_eq_t, pb_eq_f, e1', pb_bv]
      refine ⟨C', rfl, fun c hc => by rw [e2 c (by omega)]; exact g1 c hc, by rw [e2 39 (by omega)]; exact g2, by rw [e2 39 (by omega)]; exact g3, fun j hj => by rw [e2 40 (by omega), e2 41 (by omega)]; exact g4 j hj, fun i j hi hj => by rw [e2 _ (by omega)]; exact g5 i j hi hj, fun j hj => ?_, e4.trans g6⟩
      rw [show (42 : Nat) = 39 + 3 from rfl, e3 j, if_pos (by omega)]
    · have key : ∀ v : Int32, v = (if C0.1 (bk + 1) t < C0.1 (bk + 2) t then C0.1 (bk + 2) t else C0.1 (bk + 1) t) → ∃ C', (fm_bv (fJ1_fill n bk (39 + 5 + t) (fm_wr (fm_wr C (39 + 1) t (nI t)) (39 + 2) t v) (nI 0)) fun M15 => fX2_begin_12 n bk 39 k M15 (nI (t + 1))) = some C' ∧ (∀ c, (c < 39 ∨ 50 ≤ c) → C'.1 c = C0.1 c) ∧ C'.1 39 0 = nI 0 ∧ C'.1 39 1 = nI 0 ∧ (∀ j, j < 6 → C'.1 40 j = nI j ∧ C'.1 41 j = (if C0.1 (bk + 1) j < C0.1 (bk + 2) j then C0.1 (bk + 2) j else C0.1 (bk + 1) j)) ∧ (∀ i j, i < 6 → j < 6 → C'.1 (44 + i) j = nI 0) ∧ (∀ j, j < 6 → C'.1 42 j = nI 0) ∧ C'.2 = C0.2 := by
        intro v hv
        obtain ⟨C1, e1, e2, e3, e4⟩ := pb_fill (n := n) (bk := bk) (a := 39 + 5 + t) (v := nI 0) n 0 (fm_wr (fm_wr C (39 + 1) t (nI t)) (39 + 2) t v) (by omega) (by omega)
        have e1' : fJ1_fill n bk (39 + 5 + t) (fm_wr (fm_wr C (39 + 1) t (nI t)) (39 + 2) t v) (nI 0) = some C1 := e1
        rw [e1']
        simp only [pb_bv]
        refine ih (t + 1) C1 (by omega) (by omega) (fun c hc => by rw [e2 c (by omega), pb_wr_n (by omega), pb_wr_n (by omega)]; exact g1 c hc) (by rw [e2 39 (by omega), pb_wr_n (by omega), pb_wr_n (by omega)]; exact g2) (by rw [e2 39 (by omega), pb_wr_n (by omega), pb_wr_n (by omega)]; exact g3) (fun j hj => ?_) (fun i j hi hj => ?_) (e4.trans g6)
        · rw [e2 40 (by omega), e2 41 (by omega), pb_wr_n (by omega : 40 ≠ 39 + 2)]
          by_cases ej : j = t
          · subst ej
            exact ⟨by simp (disch := omega) only [pb_wr_e, pb_wr_n, pb_row_e, pb_row_n, pb_up_e, pb_up_n, pb_wr_2, pb_row_2], by simp (disch := omega) only [pb_wr_e, pb_wr_n, pb_row_e, pb_row_n, pb_up_e, pb_up_n, pb_wr_2, pb_row_2]; exact hv⟩
          · obtain ⟨z1, z2⟩ := g4 j (by omega)
            exact ⟨by rw [pb_wr_ne (by omega)]; exact z1, by rw [pb_wr_ne (by omega), pb_wr_ne (by omega)]; exact z2⟩
        · by_cases ei : i = t
          · subst ei
            rw [show 44 + i = 39 + 5 + i from rfl, e3 j, if_pos (by omega)]
          · rw [e2 _ (by omega), pb_wr_n (by omega), pb_wr_n (by omega)]; exact g5 i j (by omega) hj
      have x1 : C.1 (bk + 1) = C0.1 (bk + 1) := g1 _ (by omega)
      have x2 : C.1 (bk + 2) = C0.1 (bk + 2) := g1 _ (by omega)
      simp (disch := omega) only [pb_l0, pb_l1, pb_l2, pb_l3, pb_l4, pb_l5, pb_l6, pb_l7, pb_l8, pb_l9, pb_l10, pb_l12, pb_l14, pb_l20, pb_l32, pb_l36, pb_l48, pb_l56, pb_l57, pb_l59, pb_l60, pb_l72, pb_l99, pb_l100, pb_l111, pb_l116, pb_l200, pb_l255, pb_l504, pb_l560, pb_l1000, pb_l9999, pb_l10000, pb_l100000, pb_l1000000, nI_add, pk_mul, pb_cl, pb_b, pb_le_t, pb_le_f, pb_lt_t, pb_lt_f, pb_eq_t, pb_eq_f, pb_wr_e, pb_wr_n, pb_row_e, pb_row_n, pb_up_e, pb_up_n, pb_wr_2, pb_row_2, fm_let, x1, x2]
      exact key _ rfl
theorem pb_begin {n bk : Nat} {C : fm_M} (hn : 10 ≤ n) (hbk : 193 ≤ bk) : ∃ C', fX2_begin n bk 39 C = some C' ∧ (∀ c, (c < 39 ∨ 50 ≤ c) → C'.1 c = C.1 c) ∧ C'.2 = C.2 ∧ ∀ k, k < 56 → pb_pl C' 39 k = if 2 ≤ k ∧ k < 8 then nI (k - 2) else if 8 ≤ k ∧ k < 14 then (if C.1 (bk + 1) (k - 8) < C.1 (bk + 2) (k - 8) then C.1 (bk + 2) (k - 8) else C.1 (bk + 1) (k - 8)) else nI 0 := by
  unfold fX2_begin
  simp (disch := omega) only [pb_l0, pb_l1, pb_l2, pb_l3, pb_l4, pb_l5, pb_l6, pb_l7, pb_l8, pb_l9, pb_l10, pb_l12, pb_l14, pb_l20, pb_l32, pb_l36, pb_l48, pb_l56, pb_l57, pb_l59, pb_l60, pb_l72, pb_l99, pb_l100, pb_l111, pb_l116, pb_l200, pb_l255, pb_l504, pb_l560, pb_l1000, pb_l9999, pb_l10000, pb_l100000, pb_l1000000, nI_add, pk_mul, pb_cl, pb_b, pb_le_t, pb_le_f, pb_lt_t, pb_lt_f, pb_eq_t, pb_eq_f, fm_let]
  obtain ⟨C', e1, e2, e3, e4, e5, e6, e7, e8⟩ := pb_begin_loop (n := n) (bk := bk) (C0 := C) hn hbk n 0 (fm_wr (fm_wr C 39 0 (nI 0)) 39 1 (nI 0)) (by omega) (by omega) (fun c hc => by rw [pb_wr_n (by omega), pb_wr_n (by omega)]) (by simp (disch := omega) only [pb_wr_e, pb_wr_n, pb_row_e, pb_row_n, pb_up_e, pb_up_n, pb_wr_2, pb_row_2]) (by simp (disch := omega) only [pb_wr_e, pb_wr_n, pb_row_e, pb_row_n, pb_up_e, pb_up_n, pb_wr_2, pb_row_2]) (fun j hj => by omega) (fun i j hi => by omega) rfl
  refine ⟨C', e1, e2, e8, fun k hk => ?_⟩
  unfold pb_pl
  by_cases k1 : k < 2
  · have z1 : ¬ (2 ≤ k ∧ k < 8) := by omega
    have z2 : ¬ (8 ≤ k ∧ k < 14) := by omega
    rw [if_pos k1, if_neg z1, if_neg z2]
    have : k = 0 ∨ k = 1 := by omega
    rcases this with rfl | rfl
    · exact e3
    · exact e4
  · rw [if_neg k1]
    by_cases k2 : k < 8
    · have z1 : 2 ≤ k ∧ k < 8 := by omega
      rw [if_pos k2, if_pos z1]; exact (e5 (k - 2) (by omega)).1
    · have z1 : ¬ (2 ≤ k ∧ k < 8) := by omega
      rw [if_neg k2, if_neg z1]
      by_cases k3 : k < 14
      · have z2 : 8 ≤ k ∧ k < 14 := by omega
        rw [if_pos k3, if_pos z2]; exact (e5 (k - 8) (by omega)).2
      · have z2 : ¬ (8 ≤ k ∧ k < 14) := by omega
        rw [if_neg k3, if_neg z2]
        by_cases k4 : k < 20
        · rw [if_pos k4]; exact e7 (k - 14) (by omega)
        · rw [if_neg k4]; exact e6 ((k - 20) / 6) ((k - 20) % 6) (by omega) (by omega)
