/-! copies of plains: know, undo, keep, back -/
set_option maxRecDepth 100000
theorem pb_copy_loop {n bk a b : Nat} (hab : a + 11 ≤ b ∨ b + 11 ≤ a) : ∀ (k t : Nat) (C : fm_M), t ≤ 6 → 6 < t + k → ∃ C', fX2_copyOf_63 n bk a b k C (nI t) = some C' ∧ (∀ c, (c < a + 5 + t ∨ a + 11 ≤ c) → C'.1 c = C.1 c) ∧ (∀ i, t ≤ i → i < 6 → ∀ j, j < 6 → C'.1 (a + 5 + i) j = C.1 (b + 5 + i) j) ∧ C'.2 = C.2 := by
  intro k
  induction k with
  | zero => intro t C h1 h2; omega
  | succ k ih =>
    intro t C h1 h2
    rw [fX2_copyOf_63]
    by_cases ht : t = 6
    · simp (disch := omega) only [pb_l0, pb_l1, pb_l2, pb_l3, pb_l4, pb_l5, pb_l6, pb_l7, pb_l8, pb_l9, pb_l10, pb_l12, pb_l14, pb_l20, pb_l32, pb_l36, pb_l48, pb_l56, pb_l57, pb_l59, pb_l60, pb_l72, pb_l99, pb_l100, pb_l111, pb_l116, pb_l200, pb_l255, pb_l504, pb_l560, pb_l1000, pb_l9999, pb_l10000, pb_l100000, pb_l1000000, nI_add, pk_mul, pb_cl, pb_b, pb_le_t, pb_le_f, pb_lt_t, pb_lt_f, pb_eq_t, pb_eq_f]
      exact ⟨C, rfl, fun _ _ => rfl, fun i hi1 hi2 => by omega, rfl⟩
    · simp (disch := omega) only [pb_l0, pb_l1, pb_l2, pb_l3, pb_l4, pb_l5, pb_l6, pb_l7, pb_l8, pb_l9, pb_l10, pb_l12, pb_l14, pb_l20, pb_l32, pb_l36, pb_l48, pb_l56, pb_l57, pb_l59, pb_l60, pb_l72, pb_l99, pb_l100, pb_l111, pb_l116, pb_l200, pb_l255, pb_l504, pb_l560, pb_l1000, pb_l9999, pb_l10000, pb_l100000, pb_l1000000, nI_add, pk_mul, pb_cl, pb_b, pb_le_t, pb_le_f, pb_lt_t, pb_lt_f, pb_eq_t, pb_eq_f, fm_let]
      obtain ⟨C', e1, e2, e3, e4⟩ := ih (t + 1) (fm_row C (a + 5 + t) (va_cpy (C.1 (b + 5 + t)) (C.1 (a + 5 + t)) 0 0 6)) (by omega) (by omega)
      refine ⟨C', e1, fun c hc => ?_, fun i hi1 hi2 j hj => ?_, e4⟩
      · rw [e2 c (by omega), pb_row_n (by omega)]
      · by_cases e : i = t
        · subst e
          rw [e2 _ (by omega), pb_row_e, pk_cpy_in (by omega) (by omega), Nat.sub_zero, Nat.zero_add]
        · rw [e3 i (by omega) hi2 j hj, pb_row_n (by omega)]
theorem pb_copyOf {n bk a b : Nat} {C : fm_M} (hab : a + 11 ≤ b ∨ b + 11 ≤ a) (hn : 10 ≤ n) : ∃ C', fX2_copyOf n bk a b C = some C' ∧ (∀ c, (c < a ∨ a + 11 ≤ c) → C'.1 c = C.1 c) ∧ (∀ k, k < 56 → pb_pl C' a k = pb_pl C b k) ∧ C'.2 = C.2 := by
  unfold fX2_copyOf
  simp only [fm_let]
  generalize hC5 : fm_row _ (a + 3) _ = C5
  have q0 : C5.1 a 0 = C.1 b 0 := by subst hC5; simp (disch := omega) only [pb_wr_e, pb_wr_n, pb_row_e, pb_row_n, pb_up_e, pb_up_n, pb_wr_2, pb_row_2]
  have q1 : C5.1 a 1 = C.1 b 1 := by subst hC5; simp (disch := omega) only [pb_wr_e, pb_wr_n, pb_row_e, pb_row_n, pb_up_e, pb_up_n, pb_wr_2, pb_row_2]
  have q2 : ∀ j, j < 6 → C5.1 (a + 1) j = C.1 (b + 1) j := by
    intro j hj; subst hC5
    simp (disch := omega) only [pb_wr_e, pb_wr_n, pb_row_e, pb_row_n, pb_up_e, pb_up_n, pb_wr_2, pb_row_2]
    rw [pk_cpy_in (by omega) (by omega), Nat.sub_zero, Nat.zero_add]
  have q3 : ∀ j, j < 6 → C5.1 (a + 2) j = C.1 (b + 2) j := by
    intro j hj; subst hC5
    simp (disch := omega) only [pb_wr_e, pb_wr_n, pb_row_e, pb_row_n, pb_up_e, pb_up_n, pb_wr_2, pb_row_2]
    rw [pk_cpy_in (by omega) (by omega), Nat.sub_zero, Nat.zero_add]
  have q4 : ∀ j, j < 6 → C5.1 (a + 3) j = C.1 (b + 3) j := by
    intro j hj; subst hC5
    simp (disch := omega) only [pb_wr_e, pb_wr_n, pb_row_e, pb_row_n, pb_up_e, pb_up_n, pb_wr_2, pb_row_2]
    rw [pk_cpy_in (by omega) (by omega), Nat.sub_zero, Nat.zero_add]
  have q5 : ∀ c, (c < a ∨ a + 4 ≤ c) → C5.1 c = C.1 c := by
    intro c hc; subst hC5
    simp (disch := omega) only [pb_wr_e, pb_wr_n, pb_row_e, pb_row_n, pb_up_e, pb_up_n, pb_wr_2, pb_row_2]
  have q6 : C5.2 = C.2 := by subst hC5; rfl
  obtain ⟨C', e1, e2, e3, e4⟩ := pb_copy_loop (n := n) (bk := bk) hab n 0 C5 (by omega) (by omega)
  refine ⟨C', e1, fun c hc => ?_, fun k hk => ?_, e4.trans q6⟩
  · rw [e2 c (by omega), q5 c (by omega)]
  · unfold pb_pl
    by_cases k1 : k < 2
    · rw [if_pos k1, if_pos k1, e2 a (by omega)]
      have : k = 0 ∨ k = 1 := by omega
      rcases this with rfl | rfl
      · exact q0
      · exact q1
    · rw [if_neg k1, if_neg k1]
      by_cases k2 : k < 8
      · rw [if_pos k2, if_pos k2, e2 (a + 1) (by omega), q2 _ (by omega)]
      · rw [if_neg k2, if_neg k2]
        by_cases k3 : k < 14
        · rw [if_pos k3, if_pos k3, e2 (a + 2) (by omega), q3 _ (by omega)]
        · rw [if_neg k3, if_neg k3]
          by_cases k4 : k < 20
          · rw [if_pos k4, if_pos k4, e2 (a + 3) (by omega), q4 _ (by omega)]
          · rw [if_neg k4, if_neg k4, e3 _ (by omega) (by omega) _ (by omega), q5 _ (by omega)]
theorem pb_PR.copy {m a b : Nat} {C C' : fm_M} {r r' : Nat → Int32} (g : pb_PR m C b r) (h : ∀ k, k < 56 → pb_pl C' a k = pb_pl C b k) (hr : ∀ k, k < 56 → r' k = r k) (hm : m ≤ 6) : pb_PR m C' a r' := by
  obtain ⟨g1, b, g2, g3⟩ := g
  refine ⟨fun k hk hl => ?_, b, g2, fun t ht => ?_⟩
  · rw [h k hk, g1 k hk hl, hr k hk]
  · rw [hr (2 + t) (by omega), g3 t ht]
theorem pb_notes47 {n d : Nat} (hd : d < 10) : ∀ (k t : Nat) (R : fm_M), R.1 0 23 = nI d → t ≤ 56 → 56 < t + k → ∃ R', fX9_notes_47 n k R (nI t) = some R' ∧ (∀ c, c ≠ 15 → c ≠ 0 → R'.1 c = R.1 c) ∧ (∀ j, j ≠ 23 → R'.1 0 j = R.1 0 j) ∧ R'.1 0 23 = nI (d + 1) ∧ (∀ j, R'.1 15 j = if 56 * d + t ≤ j ∧ j < 56 * d + 56 then R.1 11 (j - 56 * d) else R.1 15 j) ∧ R'.2 = R.2 := by
  intro k
  induction k with
  | zero => intro t R h0 h1 h2; omega
  | succ k ih =>
    intro t R h0 h1 h2
    rw [fX9_notes_47]
    by_cases ht : t = 56
    · simp (disch := omega) only [pb_l0, pb_l1, pb_l2, pb_l3, pb_l4, pb_l5, pb_l6, pb_l7, pb_l8, pb_l9, pb_l10, pb_l12, pb_l14, pb_l20, pb_l32, pb_l36, pb_l48, pb_l56, pb_l57, pb_l59, pb_l60, pb_l72, pb_l99, pb_l100, pb_l111, pb_l116, pb_l200, pb_l255, pb_l504, pb_l560, pb_l1000, pb_l9999, pb_l10000, pb_l100000, pb_l1000000, nI_add, pk_mul, pb_cl, pb_b, pb_le_t, pb_le_f, pb_lt_t, pb_lt_f, pb_eq_t, pb_eq_f, fm_let, h0]
      refine ⟨_, rfl, fun c c1 c2 => ?_, fun j hj => ?_, ?_, fun j => ?_, rfl⟩
      · simp (disch := omega) only [pb_wr_e, pb_wr_n, pb_row_e, pb_row_n, pb_up_e, pb_up_n, pb_wr_2, pb_row_2]
      · simp (disch := omega) only [pb_wr_e, pb_wr_n, pb_row_e, pb_row_n, pb_up_e, pb_up_n, pb_wr_2, pb_row_2]
      · simp (disch := omega) only [pb_wr_e, pb_wr_n, pb_row_e, pb_row_n, pb_up_e, pb_up_n, pb_wr_2, pb_row_2]
      · rw [if_neg (by omega), pb_wr_n (by omega)]
    · simp (disch := omega) only [pb_l0, pb_l1, pb_l2, pb_l3, pb_l4, pb_l5, pb_l6, pb_l7, pb_l8, pb_l9, pb_l10, pb_l12, pb_l14, pb_l20, pb_l32, pb_l36, pb_l48, pb_l56, pb_l57, pb_l59, pb_l60, pb_l72, pb_l99, pb_l100, pb_l111, pb_l116, pb_l200, pb_l255, pb_l504, pb_l560, pb_l1000, pb_l9999, pb_l10000, pb_l100000, pb_l1000000, nI_add, pk_mul, pb_cl, pb_b, pb_le_t, pb_le_f, pb_lt_t, pb_lt_f, pb_eq_t, pb_eq_f, fm_let, h0]
      obtain ⟨R', e1, e2, e3, e4, e5, e6⟩ := ih (t + 1) (fm_wr R 15 (56 * d + t) (R.1 11 t)) (by simp (disch := omega) only [pb_wr_e, pb_wr_n, pb_row_e, pb_row_n, pb_up_e, pb_up_n, pb_wr_2, pb_row_2]; exact h0) (by omega) (by omega)
      refine ⟨R', e1, fun c c1 c2 => ?_, fun j hj => ?_, e4, fun j => ?_, e6⟩
      · rw [e2 c c1 c2, pb_wr_n (by omega)]
      · rw [e3 j hj, pb_wr_n (by omega)]
      · rw [e5 j]
        by_cases j1 : j = 56 * d + t
        · subst j1
          rw [if_neg (by omega), if_pos (by omega), pb_wr_e, pb_up_e, show 56 * d + t - 56 * d = t by omega]
        · by_cases j2 : 56 * d + (t + 1) ≤ j ∧ j < 56 * d + 56
          · rw [if_pos j2, if_pos (by omega), pb_wr_n (by omega)]
          · rw [if_neg j2, if_neg (by omega), pb_wr_e, pb_up_n j1]
theorem pb_notes11 {n : Nat} {Q : Option fm_M → Prop} : ∀ (k t : Nat) (R : fm_M), t ≤ 504 → 504 < t + k → (∀ R', (∀ c, c ≠ 15 → c ≠ 0 → R'.1 c = R.1 c) → (∀ j, j ≠ 23 → R'.1 0 j = R.1 0 j) → R'.1 0 23 = nI 9 → (∀ j, R'.1 15 j = if t ≤ j ∧ j < 504 then R.1 15 (j + 56) else R.1 15 j) → R'.2 = R.2 → Q (fX9_notes_47 n n R' (nI 0))) → Q (fX9_notes_11 n k R (nI t)) := by
  intro k
  induction k with
  | zero => intro t R h1 h2; omega
  | succ k ih =>
    intro t R h1 h2 hq
    rw [fX9_notes_11]
    by_cases ht : t = 504
    · simp (disch := omega) only [pb_l0, pb_l1, pb_l2, pb_l3, pb_l4, pb_l5, pb_l6, pb_l7, pb_l8, pb_l9, pb_l10, pb_l12, pb_l14, pb_l20, pb_l32, pb_l36, pb_l48, pb_l56, pb_l57, pb_l59, pb_l60, pb_l72, pb_l99, pb_l100, pb_l111, pb_l116, pb_l200, pb_l255, pb_l504, pb_l560, pb_l1000, pb_l9999, pb_l10000, pb_l100000, pb_l1000000, nI_add, pk_mul, pb_cl, pb_b, pb_le_t, pb_le_f, pb_lt_t, pb_lt_f, pb_eq_t, pb_eq_f, fm_let]
      refine hq _ (fun c c1 c2 => ?_) (fun j hj => ?_) ?_ (fun j => ?_) rfl
      · simp (disch := omega) only [pb_wr_e, pb_wr_n, pb_row_e, pb_row_n, pb_up_e, pb_up_n, pb_wr_2, pb_row_2]
      · simp (disch := omega) only [pb_wr_e, pb_wr_n, pb_row_e, pb_row_n, pb_up_e, pb_up_n, pb_wr_2, pb_row_2]
      · simp (disch := omega) only [pb_wr_e, pb_wr_n, pb_row_e, pb_row_n, pb_up_e, pb_up_n, pb_wr_2, pb_row_2]
      · rw [if_neg (by omega), pb_wr_n (by omega)]
    · simp (disch := omega) only [pb_l0, pb_l1, pb_l2, pb_l3, pb_l4, pb_l5, pb_l6, pb_l7, pb_l8, pb_l9, pb_l10, pb_l12, pb_l14, pb_l20, pb_l32, pb_l36, pb_l48, pb_l56, pb_l57, pb_l59, pb_l60, pb_l72, pb_l99, pb_l100, pb_l111, pb_l116, pb_l200, pb_l255, pb_l504, pb_l560, pb_l1000, pb_l9999, pb_l10000, pb_l100000, pb_l1000000, nI_add, pk_mul, pb_cl, pb_b, pb_le_t, pb_le_f, pb_lt_t, pb_lt_f, pb_eq_t, pb_eq_f, fm_let]
      refine ih (t + 1) _ (by omega) (by omega) (fun R' e2 e3 e4 e5 e6 => hq R' (fun c c1 c2 => ?_) (fun j hj => ?_) e4 (fun j => ?_) e6)
      · rw [e2 c c1 c2, pb_wr_n (by omega)]
      · rw [e3 j hj, pb_wr_n (by omega)]
      · rw [e5 j]
        by_cases j1 : j = t
        · subst j1
          rw [if_neg (by omega), if_pos (by omega), pb_wr_e, pb_up_e]
        · by_cases j2 : t + 1 ≤ j ∧ j < 504
          · rw [if_pos j2, if_pos (by omega), pb_wr_e, pb_up_n (by omega)]
          · rw [if_neg j2, if_neg (by omega), pb_wr_e, pb_up_n j1]
/-- what know and notes leave as it was -/
def pb_kn (C C' R R' : fm_M) : Prop := (∀ c, c ≠ 0 → c ≠ 3 → (c < 61 ∨ 171 ≤ c) → C'.1 c = C.1 c) ∧ (∀ j, j ≠ 6 → C'.1 0 j = C.1 0 j) ∧ C'.2 = C.2 ∧ (∀ c, c ≠ 0 → c ≠ 15 → R'.1 c = R.1 c) ∧ (∀ j, j ≠ 23 → R'.1 0 j = R.1 0 j) ∧ R'.2 = R.2
theorem pb_know49 {n bk m d : Nat} {p : Nat → Nat} {C R : fm_M} (hn : 60 ≤ n) (hm : m ≤ 6) (hd : d < 10) (h1 : pb_PR m C 39 (R.1 11)) (h2 : pb_U m d p C R) : ∃ C' R', fX0_know_49 n bk C = some C' ∧ fX9_notes_47 n n R (nI 0) = some R' ∧ pb_U m (d + 1) p C' R' ∧ pb_kn C C' R R' := by
  obtain ⟨u1, u2, u3, u4, u5, u6⟩ := h2
  obtain ⟨p1, p2, p3⟩ := u4 d hd
  obtain ⟨C1, e1, e2, e3, e4⟩ := pb_copyOf (n := n) (bk := bk) (a := 39 + 11 * p d) (b := 39) (C := C) (by omega) (by omega)
  obtain ⟨R', r1, r2, r3, r4, r5, r6⟩ := pb_notes47 (n := n) hd n 0 R u3 (by omega) (by omega)
  have hg : Nat.blt (p d) 14 = true := by rw [Nat.blt_eq]; omega
  refine ⟨fm_wr C1 0 6 (nI (d + 1)), R', ?_, r1, ⟨by omega, ?_, r4, fun j hj => ?_, u5, fun j hj => ?_⟩, fun c c1 c2 c3 => ?_, fun j hj => ?_, e4, fun c c1 c2 => r2 c c2 c1, r3, r6⟩
  · unfold fX0_know_49
    have e5 : C1.1 0 6 = nI d := by rw [e2 0 (by omega)]; exact u2
    simp (disch := omega) only [pb_l0, pb_l1, pb_l2, pb_l3, pb_l4, pb_l5, pb_l6, pb_l7, pb_l8, pb_l9, pb_l10, pb_l12, pb_l14, pb_l20, pb_l32, pb_l36, pb_l48, pb_l56, pb_l57, pb_l59, pb_l60, pb_l72, pb_l99, pb_l100, pb_l111, pb_l116, pb_l200, pb_l255, pb_l504, pb_l560, pb_l1000, pb_l9999, pb_l10000, pb_l100000, pb_l1000000, nI_add, pk_mul, pb_cl, pb_b, pb_le_t, pb_le_f, pb_lt_t, pb_lt_f, pb_eq_t, pb_eq_f, u2, p1, hg, fm_gd, e1, pb_bv, fm_let, e5]
  · simp (disch := omega) only [pb_wr_e, pb_wr_n, pb_row_e, pb_row_n, pb_up_e, pb_up_n, pb_wr_2, pb_row_2]
  · rw [pb_wr_n (by omega), e2 3 (by omega)]; exact u4 j hj
  · obtain ⟨p4, p5, p6⟩ := u4 j (by omega)
    by_cases ej : j = d
    · subst ej
      refine pb_PR.copy (C' := fm_wr C1 0 6 (nI (j + 1))) h1 (fun k hk => ?_) (fun k hk => ?_) hm
      · rw [pb_pl_same (C := C1) (fun c c1 c2 => pb_wr_n (by omega)) k hk]
        exact e3 k hk
      · rw [r5, if_pos (by omega), show 56 * j + k - 56 * j = k by omega]
    · have hne : p j ≠ p d := fun e => ej (u5 j d (by omega) hd e)
      refine (u6 j (by omega)).same (fun c c1 c2 => ?_) (fun k hk => ?_) hm
      · rw [pb_wr_n (by omega), e2 c (by omega)]
      · rw [r5, if_neg (by omega)]
  · rw [pb_wr_n c1, e2 c (by omega)]
  · rw [pb_wr_e, pb_up_n hj, e2 0 (by omega)]
theorem pb_know {n bk m d : Nat} {p : Nat → Nat} {C R : fm_M} (hn : 600 ≤ n) (hm : m ≤ 6) (h1 : pb_PR m C 39 (R.1 11)) (h2 : pb_U m d p C R) : ∃ C' R', fX0_know n bk C = some C' ∧ fX9_notes n R = some R' ∧ (∃ d' p', pb_U m d' p' C' R') ∧ pb_kn C C' R R' := by
  by_cases hd : d < 10
  · obtain ⟨C', R', a1, a2, a3, a4⟩ := pb_know49 (n := n) (bk := bk) (by omega) hm hd h1 h2
    refine ⟨C', R', ?_, ?_, ⟨_, _, a3⟩, a4⟩
    · unfold fX0_know
      simp (disch := omega) only [pb_l0, pb_l1, pb_l2, pb_l3, pb_l4, pb_l5, pb_l6, pb_l7, pb_l8, pb_l9, pb_l10, pb_l12, pb_l14, pb_l20, pb_l32, pb_l36, pb_l48, pb_l56, pb_l57, pb_l59, pb_l60, pb_l72, pb_l99, pb_l100, pb_l111, pb_l116, pb_l200, pb_l255, pb_l504, pb_l560, pb_l1000, pb_l9999, pb_l10000, pb_l100000, pb_l1000000, nI_add, pk_mul, pb_cl, pb_b, pb_le_t, pb_le_f, pb_lt_t, pb_lt_f, pb_eq_t, pb_eq_f, h2.2.1]
      exact a1
    · unfold fX9_notes
      simp (disch := omega) only [pb_l0, pb_l1, pb_l2, pb_l3, pb_l4, pb_l5, pb_l6, pb_l7, pb_l8, pb_l9, pb_l10, pb_l12, pb_l14, pb_l20, pb_l32, pb_l36, pb_l48, pb_l56, pb_l57, pb_l59, pb_l60, pb_l72, pb_l99, pb_l100, pb_l111, pb_l116, pb_l200, pb_l255, pb_l504, pb_l560, pb_l1000, pb_l9999, pb_l10000, pb_l100000, pb_l1000000, nI_add, pk_mul, pb_cl, pb_b, pb_le_t, pb_le_f, pb_lt_t, pb_lt_f, pb_eq_t, pb_eq_f, h2.2.2.1]
      exact a2
  · obtain ⟨u1, u2, u3, u4, u5, u6⟩ := h2
    have ed : d = 10 := by omega
    subst ed
    have hg : Nat.blt (p 0) 14 = true := by rw [Nat.blt_eq]; have := u4 0 (by omega); omega
    have hbf : fm_bfok C = true := by
      unfold fm_bfok
      rw [List.all_eq_true]
      intro j hj
      have := u4 j (List.mem_range.mp hj)
      rw [this.1, pb_cl (by omega), Nat.blt_eq]
      omega
    obtain ⟨p1, p2, p3⟩ := u4 0 (by omega)
    have ec : fX0_know n bk C = fX0_know_49 n bk (fm_wr (fm_wr (fm_row C 3 (va_cpy (C.1 3) (C.1 3) 1 0 9)) 3 9 (nI (p 0))) 0 6 (nI 9)) := by
      unfold fX0_know
      have e5 : (fm_wr (fm_row C 3 (va_cpy (C.1 3) (C.1 3) 1 0 9)) 3 9 (nI (p 0))).1 0 6 = nI 10 := by simp (disch := omega) only [pb_wr_e, pb_wr_n, pb_row_e, pb_row_n, pb_up_e, pb_up_n, pb_wr_2, pb_row_2]; exact u2
      simp (disch := omega) only [pb_l0, pb_l1, pb_l2, pb_l3, pb_l4, pb_l5, pb_l6, pb_l7, pb_l8, pb_l9, pb_l10, pb_l12, pb_l14, pb_l20, pb_l32, pb_l36, pb_l48, pb_l56, pb_l57, pb_l59, pb_l60, pb_l72, pb_l99, pb_l100, pb_l111, pb_l116, pb_l200, pb_l255, pb_l504, pb_l560, pb_l1000, pb_l9999, pb_l10000, pb_l100000, pb_l1000000, nI_add, pk_mul, pb_cl, pb_b, pb_le_t, pb_le_f, pb_lt_t, pb_lt_f, pb_eq_t, pb_eq_f, u2, p1, hg, hbf, fm_gd, fm_let, e5]
      rfl
    generalize hC2 : fm_wr (fm_wr (fm_row C 3 (va_cpy (C.1 3) (C.1 3) 1 0 9)) 3 9 (nI (p 0))) 0 6 (nI 9) = C2 at ec
    have k1 : ∀ c, c ≠ 0 → c ≠ 3 → C2.1 c = C.1 c := fun c c1 c2 => by subst hC2; simp (disch := omega) only [pb_wr_e, pb_wr_n, pb_row_e, pb_row_n, pb_up_e, pb_up_n, pb_wr_2, pb_row_2]
    have k2 : ∀ j, j ≠ 6 → C2.1 0 j = C.1 0 j := fun j hj => by subst hC2; simp (disch := omega) only [pb_wr_e, pb_wr_n, pb_row_e, pb_row_n, pb_up_e, pb_up_n, pb_wr_2, pb_row_2]
    have k3 : C2.1 0 6 = nI 9 := by subst hC2; simp (disch := omega) only [pb_wr_e, pb_wr_n, pb_row_e, pb_row_n, pb_up_e, pb_up_n, pb_wr_2, pb_row_2]
    have k4 : ∀ j, j < 9 → C2.1 3 j = C.1 3 (j + 1) := fun j hj => by
      subst hC2; simp (disch := omega) only [pb_wr_e, pb_wr_n, pb_row_e, pb_row_n, pb_up_e, pb_up_n, pb_wr_2, pb_row_2]
      rw [pk_cpy_in (by omega) (by omega), Nat.sub_zero, Nat.add_comm]
    have k5 : C2.1 3 9 = nI (p 0) := by subst hC2; simp (disch := omega) only [pb_wr_e, pb_wr_n, pb_row_e, pb_row_n, pb_up_e, pb_up_n, pb_wr_2, pb_row_2]
    have k6 : C2.2 = C.2 := by subst hC2; rfl
    rw [ec]
    unfold fX9_notes
    simp (disch := omega) only [pb_l0, pb_l1, pb_l2, pb_l3, pb_l4, pb_l5, pb_l6, pb_l7, pb_l8, pb_l9, pb_l10, pb_l12, pb_l14, pb_l20, pb_l32, pb_l36, pb_l48, pb_l56, pb_l57, pb_l59, pb_l60, pb_l72, pb_l99, pb_l100, pb_l111, pb_l116, pb_l200, pb_l255, pb_l504, pb_l560, pb_l1000, pb_l9999, pb_l10000, pb_l100000, pb_l1000000, nI_add, pk_mul, pb_cl, pb_b, pb_le_t, pb_le_f, pb_lt_t, pb_lt_f, pb_eq_t, pb_eq_f, u3]
    refine pb_notes11 (n := n) (Q := fun z => ∃ C' R', fX0_know_49 n bk C2 = some C' ∧ z = some R' ∧ (∃ d' p', pb_U m d' p' C' R') ∧ pb_kn C C' R R') n 0 R (by omega) (by omega) (fun R2 q1 q2 q3 q4 q5 => ?_)
    have g1 : pb_PR m C2 39 (R2.1 11) := h1.same (fun c c1 c2 => k1 c (by omega) (by omega)) (fun k _ => by rw [q1 11 (by omega) (by omega)]) hm
    have g2 : pb_U m 9 (fun j => if j < 9 then p (j + 1) else p 0) C2 R2 := by
      refine ⟨by omega, k3, q3, fun j hj => ?_, fun i j hi hj e => ?_, fun j hj => ?_⟩
      · by_cases j9 : j < 9
        · rw [k4 j j9]; simp only [pb_ifp j9]; exact u4 (j + 1) (by omega)
        · have : j = 9 := by omega
          subst this
          rw [k5]; simp only [pb_ifn j9]; exact ⟨trivial, p2, p3⟩
      · by_cases i9 : i < 9
        · by_cases j9 : j < 9
          · simp only [pb_ifp i9, pb_ifp j9] at e
            have := u5 _ _ (by omega) (by omega) e
            omega
          · simp only [pb_ifp i9, pb_ifn j9] at e
            have := u5 _ _ (by omega) (by omega) e
            omega
        · by_cases j9 : j < 9
          · simp only [pb_ifn i9, pb_ifp j9] at e
            have := u5 _ _ (by omega) (by omega) e
            omega
          · omega
      · simp only [pb_ifp hj]
        have hp := u4 (j + 1) (by omega)
        refine (u6 (j + 1) (by omega)).same (fun c c1 c2 => k1 c (by omega) (by omega)) (fun k hk => ?_) hm
        rw [q4, if_pos (by omega), show 56 * j + k + 56 = 56 * (j + 1) + k by omega]
    obtain ⟨C', R', a1, a2, a3, b1, b2, b3, b4, b5, b6⟩ := pb_know49 (n := n) (bk := bk) (by omega) hm (by omega) g1 g2
    exact ⟨C', R', a1, a2, ⟨_, _, a3⟩, fun c c1 c2 c3 => (b1 c c1 c2 c3).trans (k1 c c1 c2), fun j hj => (b2 j hj).trans (k2 j hj), b3.trans k6, fun c c1 c2 => (b4 c c1 c2).trans (q1 c c2 c1), fun j hj => (b5 j hj).trans (q2 j hj), b6.trans q5⟩
/-- what follows for the whole relation -/
theorem pb_know_R {n bk m o d f y : Nat} {p : Nat → Nat} {C R : fm_M} (hn : 600 ≤ n) (hB : pb_B m o bk C R) (hS : pb_S m d f y p C R) : ∃ C' R' d' p', fX0_know n bk C = some C' ∧ fX9_notes n R = some R' ∧ pb_B m o bk C' R' ∧ pb_S m d' f y p' C' R' ∧ R'.1 11 = R.1 11 := by
  obtain ⟨h1, h2, h3, h4, h5, h6⟩ := hS
  have hm := hB.1.1
  have hbk := hB.1.2.2
  obtain ⟨C', R', a1, a2, ⟨d', p', a3⟩, b1, b2, b3, b4, b5, b6⟩ := pb_know (n := n) (bk := bk) hn hm h1 h2
  refine ⟨C', R', d', p', a1, a2, hB.keep (fun c c1 c2 => b1 c (by omega) (by omega) (by omega)) (fun c hc => b4 c (by omega) (by omega)), ⟨?_, a3, ?_, ?_, ?_, ?_⟩, b4 11 (by omega) (by omega)⟩
  · exact h1.same (fun c c1 c2 => b1 c (by omega) (by omega) (by omega)) (fun k _ => by rw [b4 11 (by omega) (by omega)]) hm
  · exact h3.frame hm (b1 5 (by omega) (by omega) (by omega)) (fun c c1 c2 => b1 c (by omega) (by omega) (by omega)) (b4 14 (by omega) (by omega)) (b4 13 (by omega) (by omega))
  · exact h4.frame (b2 16 (by omega)) (b1 9 (by omega) (by omega) (by omega)) (b1 10 (by omega) (by omega) (by omega)) (b5 26 (by omega)) (b4 16 (by omega) (by omega)) (b4 17 (by omega) (by omega))
  · exact h5.frame (b2 10 (by omega)) (b1 6 (by omega) (by omega) (by omega)) (b5 3 (by omega)) (b4 1 (by omega) (by omega))
  · rw [b3, b6]; exact h6
theorem pb_undo_loop {n d : Nat} (hd : d < 10) : ∀ (k t : Nat) (R : fm_M), R.1 0 23 = nI d → t ≤ 56 → 56 < t + k → ∃ R', fX9_undo_27 n k R (nI t) = some (nI d, R') ∧ (∀ c, c ≠ 11 → R'.1 c = R.1 c) ∧ (∀ j, R'.1 11 j = if t ≤ j ∧ j < 56 then R.1 15 (56 * d + j) else R.1 11 j) ∧ R'.2 = R.2 := by
  intro k
  induction k with
  | zero => intro t R h0 h1 h2; omega
  | succ k ih =>
    intro t R h0 h1 h2
    rw [fX9_undo_27]
    by_cases ht : t = 56
    · simp (disch := omega) only [pb_l0, pb_l1, pb_l2, pb_l3, pb_l4, pb_l5, pb_l6, pb_l7, pb_l8, pb_l9, pb_l10, pb_l12, pb_l14, pb_l20, pb_l32, pb_l36, pb_l48, pb_l56, pb_l57, pb_l59, pb_l60, pb_l72, pb_l99, pb_l100, pb_l111, pb_l116, pb_l200, pb_l255, pb_l504, pb_l560, pb_l1000, pb_l9999, pb_l10000, pb_l100000, pb_l1000000, nI_add, pk_mul, pb_cl, pb_b, pb_le_t, pb_le_f, pb_lt_t, pb_lt_f, pb_eq_t, pb_eq_f, h0]
      exact ⟨_, rfl, fun c c1 => rfl, fun j => by rw [if_neg (by omega)], rfl⟩
    · simp (disch := omega) only [pb_l0, pb_l1, pb_l2, pb_l3, pb_l4, pb_l5, pb_l6, pb_l7, pb_l8, pb_l9, pb_l10, pb_l12, pb_l14, pb_l20, pb_l32, pb_l36, pb_l48, pb_l56, pb_l57, pb_l59, pb_l60, pb_l72, pb_l99, pb_l100, pb_l111, pb_l116, pb_l200, pb_l255, pb_l504, pb_l560, pb_l1000, pb_l9999, pb_l10000, pb_l100000, pb_l1000000, nI_add, pk_mul, pb_cl, pb_b, pb_le_t, pb_le_f, pb_lt_t, pb_lt_f, pb_eq_t, pb_eq_f, fm_let, h0]
      obtain ⟨R', e1, e2, e3, e4⟩ := ih (t + 1) (fm_wr R 11 t (R.1 15 (56 * d + t))) (by rw [pb_wr_n (by omega)]; exact h0) (by omega) (by omega)
      refine ⟨R', e1, fun c c1 => ?_, fun j => ?_, e4⟩
      · rw [e2 c c1, pb_wr_n c1]
      · rw [e3 j]
        by_cases j1 : j = t
        · subst j1
          rw [if_neg (by omega), if_pos (by omega), pb_wr_e, pb_up_e]
        · by_cases j2 : t + 1 ≤ j ∧ j < 56
          · rw [if_pos j2, if_pos (by omega), pb_wr_n (by omega)]
          · rw [if_neg j2, if_neg (by omega), pb_wr_e, pb_up_n j1]
theorem pb_undoop {n bk : Nat} {C R : fm_M} (h : pb_R bk C R) (hn : 60 ≤ n) : pb_ok bk (fX0_undo n bk C) (fX9_undo n R) := by
  have h' := h.thrown
  unfold fX9_undo fX0_undo
  simp only [fm_let, pb_l0]
  rw [pb_l0] at h'
  generalize fm_wr R 0 0 (nI 0) = R1 at h' ⊢
  clear h
  have hh := h'
  obtain ⟨m, o, d, f, y, p, hB, h1, ⟨u1, u2, u3, u4, u5, u6⟩, h3, h4, h5, h6⟩ := h'
  have hm := hB.1.1
  have hbk := hB.1.2.2
  by_cases hd : d = 0
  · simp (disch := omega) only [pb_l0, pb_l1, pb_l2, pb_l3, pb_l4, pb_l5, pb_l6, pb_l7, pb_l8, pb_l9, pb_l10, pb_l12, pb_l14, pb_l20, pb_l32, pb_l36, pb_l48, pb_l56, pb_l57, pb_l59, pb_l60, pb_l72, pb_l99, pb_l100, pb_l111, pb_l116, pb_l200, pb_l255, pb_l504, pb_l560, pb_l1000, pb_l9999, pb_l10000, pb_l100000, pb_l1000000, nI_add, pk_mul, pb_cl, pb_b, pb_le_t, pb_le_f, pb_lt_t, pb_lt_f, pb_eq_t, pb_eq_f, u2, u3]
    exact ⟨_, _, _, rfl, rfl, hh⟩
  · obtain ⟨e, he⟩ : ∃ e, d = e + 1 := ⟨d - 1, by omega⟩
    subst he
    have ee : nI (e + 1) - nI 1 = nI e := nI_pred e
    obtain ⟨p1, p2, p3⟩ := u4 e (by omega)
    have hg : Nat.blt (p e) 14 = true := by rw [Nat.blt_eq]; omega
    obtain ⟨C1, e1, e2, e3, e4⟩ := pb_copyOf (n := n) (bk := bk) (a := 39) (b := 39 + 11 * p e) (C := fm_wr C 0 6 (nI e)) (by omega) (by omega)
    obtain ⟨R', r1, r2, r3, r4⟩ := pb_undo_loop (n := n) (by omega : e < 10) n 0 (fm_wr R1 0 23 (nI e)) (by simp (disch := omega) only [pb_wr_e, pb_wr_n, pb_row_e, pb_row_n, pb_up_e, pb_up_n, pb_wr_2, pb_row_2]) (by omega) (by omega)
    have e5 : C1.1 0 6 = nI e := by rw [e2 0 (by omega)]; simp (disch := omega) only [pb_wr_e, pb_wr_n, pb_row_e, pb_row_n, pb_up_e, pb_up_n, pb_wr_2, pb_row_2]
    simp (disch := omega) only [pb_l0, pb_l1, pb_l2, pb_l3, pb_l4, pb_l5, pb_l6, pb_l7, pb_l8, pb_l9, pb_l10, pb_l12, pb_l14, pb_l20, pb_l32, pb_l36, pb_l48, pb_l56, pb_l57, pb_l59, pb_l60, pb_l72, pb_l99, pb_l100, pb_l111, pb_l116, pb_l200, pb_l255, pb_l504, pb_l560, pb_l1000, pb_l9999, pb_l10000, pb_l100000, pb_l1000000, nI_add, pk_mul, pb_cl, pb_b, pb_le_t, pb_le_f, pb_lt_t, pb_lt_f, pb_eq_t, pb_eq_f, u2, u3, ee, pb_wr_e, pb_wr_n, pb_row_e, pb_row_n, pb_up_e, pb_up_n, pb_wr_2, pb_row_2, p1, hg, fm_gd, e1, r1, pb_bv, e5]
    refine ⟨_, _, _, rfl, rfl, m, o, e, f, y, p, hB.keep (fun c c1 c2 => ?_) (fun c hc => ?_), ?_, ⟨by omega, e5, ?_, fun j hj => ?_, u5, fun j hj => ?_⟩, h3.frame hm ?_ (fun c c1 c2 => ?_) ?_ ?_, h4.frame ?_ ?_ ?_ ?_ ?_ ?_, h5.frame ?_ ?_ ?_ ?_, ?_⟩
    case refine_3 =>
      refine pb_PR.copy (u6 e (by omega)) (fun k hk => ?_) (fun k hk => ?_) hm
      · rw [e3 k hk]
        exact pb_pl_same (fun c c1 c2 => pb_wr_n (by omega)) k hk
      · rw [r3, if_pos (by omega), pb_wr_n (by omega)]
    case refine_5 => rw [e2 3 (by omega), pb_wr_n (by omega)]; exact u4 j hj
    case refine_6 =>
      have hp := u4 j (by omega)
      refine (u6 j (by omega)).same (fun c c1 c2 => ?_) (fun k hk => ?_) hm
      · rw [e2 c (by omega), pb_wr_n (by omega)]
      · rw [r2 15 (by omega), pb_wr_n (by omega)]
    case refine_21 => rw [e4, r4]; exact h6
    all_goals
      first
      | rw [e2 _ (by omega)]
      | rw [r2 _ (by omega)]
      simp (disch := omega) only [pb_wr_e, pb_wr_n, pb_row_e, pb_row_n, pb_up_e, pb_up_n, pb_wr_2, pb_row_2]
theorem pb_keep_loop {n i : Nat} (hi : i < 2) : ∀ (k t : Nat) (R : fm_M), t ≤ 56 → 56 < t + k → ∃ R', fX9_keep_18 n k R (nI i) (nI t) = some (R.1 11 0, R') ∧ (∀ c, c ≠ 13 → c ≠ 14 → R'.1 c = R.1 c) ∧ R'.1 14 = upd (R.1 14) i (nI 1) ∧ (∀ j, R'.1 13 j = if 56 * i + t ≤ j ∧ j < 56 * i + 56 then R.1 11 (j - 56 * i) else R.1 13 j) ∧ R'.2 = R.2 := by
  intro k
  induction k with
  | zero => intro t R h1 h2; omega
  | succ k ih =>
    intro t R h1 h2
    rw [fX9_keep_18]
    by_cases ht : t = 56
    · simp (disch := omega) only [pb_l0, pb_l1, pb_l2, pb_l3, pb_l4, pb_l5, pb_l6, pb_l7, pb_l8, pb_l9, pb_l10, pb_l12, pb_l14, pb_l20, pb_l32, pb_l36, pb_l48, pb_l56, pb_l57, pb_l59, pb_l60, pb_l72, pb_l99, pb_l100, pb_l111, pb_l116, pb_l200, pb_l255, pb_l504, pb_l560, pb_l1000, pb_l9999, pb_l10000, pb_l100000, pb_l1000000, nI_add, pk_mul, pb_cl, pb_b, pb_le_t, pb_le_f, pb_lt_t, pb_lt_f, pb_eq_t, pb_eq_f, fm_let, pb_wr_n]
      exact ⟨_, rfl, fun c c1 c2 => pb_wr_n c2, pb_wr_e, fun j => by rw [if_neg (by omega), pb_wr_n (by omega)], rfl⟩
    · simp (disch := omega) only [pb_l0, pb_l1, pb_l2, pb_l3, pb_l4, pb_l5, pb_l6, pb_l7, pb_l8, pb_l9, pb_l10, pb_l12, pb_l14, pb_l20, pb_l32, pb_l36, pb_l48, pb_l56, pb_l57, pb_l59, pb_l60, pb_l72, pb_l99, pb_l100, pb_l111, pb_l116, pb_l200, pb_l255, pb_l504, pb_l560, pb_l1000, pb_l9999, pb_l10000, pb_l100000, pb_l1000000, nI_add, pk_mul, pb_cl, pb_b, pb_le_t, pb_le_f, pb_lt_t, pb_lt_f, pb_eq_t, pb_eq_f, fm_let]
      obtain ⟨R', e1, e2, e3, e4, e5⟩ := ih (t + 1) (fm_wr R 13 (56 * i + t) (R.1 11 t)) (by omega) (by omega)
      refine ⟨R', ?_, fun c c1 c2 => ?_, ?_, fun j => ?_, e5⟩
      · rw [e1, pb_wr_n (by omega)]
      · rw [e2 c c1 c2, pb_wr_n c1]
      · rw [e3, pb_wr_n (by omega)]
      · rw [e4 j]
        by_cases j1 : j = 56 * i + t
        · subst j1
          rw [if_neg (by omega), if_pos (by omega), pb_wr_e, pb_up_e, show 56 * i + t - 56 * i = t by omega]
        · by_cases j2 : 56 * i + (t + 1) ≤ j ∧ j < 56 * i + 56
          · rw [if_pos j2, if_pos (by omega), pb_wr_n (by omega)]
          · rw [if_neg j2, if_neg (by omega), pb_wr_e, pb_up_n j1]
theorem pb_keepop {n bk : Nat} {C R : fm_M} (h : pb_R bk C R) (hn : 60 ≤ n) (l : Int32) : pb_ok bk (fX0_keep n bk C l) (fX9_keep n R l) := by
  have h' := h.thrown
  unfold fX9_keep fX0_keep
  simp only [fm_let, pb_l0, pb_l1]
  rw [pb_l0] at h'
  generalize fm_wr R 0 0 (nI 0) = R1 at h' ⊢
  clear h
  have hh := h'
  obtain ⟨m, o, d, f, y, p, hB, h1, h2, h3, h4, h5, h6⟩ := h'
  have hm := hB.1.1
  have hbk := hB.1.2.2
  rcases pb_in n bk C R1 0 1 (by omega) (by omega) l with ⟨i, _, hi, rfl, i0, i9⟩ | ⟨hv, i0, i9⟩
  · obtain ⟨C1, e1, e2, e3, e4⟩ := pb_copyOf (n := n) (bk := bk) (a := 171 + 11 * i) (b := 39) (C := C) (by omega) (by omega)
    obtain ⟨R', r1, r2, r3, r4, r5⟩ := pb_keep_loop (n := n) (by omega : i < 2) n 0 R1 (by omega) (by omega)
    have e5 : C1.1 39 0 = R1.1 11 0 := by rw [e2 39 (by omega)]; exact h1.term
    simp (disch := omega) only [pb_l0, pb_l1, pb_l2, pb_l3, pb_l4, pb_l5, pb_l6, pb_l7, pb_l8, pb_l9, pb_l10, pb_l12, pb_l14, pb_l20, pb_l32, pb_l36, pb_l48, pb_l56, pb_l57, pb_l59, pb_l60, pb_l72, pb_l99, pb_l100, pb_l111, pb_l116, pb_l200, pb_l255, pb_l504, pb_l560, pb_l1000, pb_l9999, pb_l10000, pb_l100000, pb_l1000000, nI_add, pk_mul, pb_cl, pb_b, pb_le_t, pb_le_f, pb_lt_t, pb_lt_f, pb_eq_t, pb_eq_f, i0, i9, pb_bi, e1, r1, pb_bv, pb_wr_n, e5]
    refine ⟨_, _, _, rfl, rfl, m, o, d, f, y, p, hB.keep (fun c c1 c2 => ?_) (fun c hc => ?_), h1.same (fun c c1 c2 => ?_) (fun k hk => ?_) hm, h2.frame hm ?_ ?_ (fun c c1 c2 => ?_) ?_ ?_, fun j hj => ?_, h4.frame ?_ ?_ ?_ ?_ ?_ ?_, h5.frame ?_ ?_ ?_ ?_, ?_⟩
    case refine_10 =>
      rw [pb_wr_e, r3, e2 5 (by omega)]
      by_cases ej : j = i
      · subst ej
        rw [pb_up_e, pb_up_e]
        refine ⟨rfl, Or.inr (pb_PR.copy h1 (fun k hk => ?_) (fun k hk => ?_) hm)⟩
        · rw [← e3 k hk]
          exact pb_pl_same (fun c c1 c2 => pb_wr_n (by omega)) k hk
        · rw [r4, if_pos (by omega), show 56 * j + k - 56 * j = k by omega]
      · rw [pb_up_n ej, pb_up_n ej]
        refine ⟨(h3 j hj).1, ?_⟩
        rcases (h3 j hj).2 with g | g
        · exact Or.inl g
        · refine Or.inr (g.same (fun c c1 c2 => ?_) (fun k hk => ?_) hm)
          · rw [pb_wr_n (by omega), e2 c (by omega)]
          · rw [r4, if_neg (by omega)]
    case refine_21 => show C1.2 = _; rw [e4, r5]; exact h6
    all_goals
      first
      | rw [r2 _ (by omega) (by omega)]
      | (rw [pb_wr_n (by omega)]; rw [e2 _ (by omega)])
  · simp (disch := omega) only [pb_l0, pb_l1, pb_l2, pb_l3, pb_l4, pb_l5, pb_l6, pb_l7, pb_l8, pb_l9, pb_l10, pb_l12, pb_l14, pb_l20, pb_l32, pb_l36, pb_l48, pb_l56, pb_l57, pb_l59, pb_l60, pb_l72, pb_l99, pb_l100, pb_l111, pb_l116, pb_l200, pb_l255, pb_l504, pb_l560, pb_l1000, pb_l9999, pb_l10000, pb_l100000, pb_l1000000, nI_add, pk_mul, pb_cl, pb_b, pb_le_t, pb_le_f, pb_lt_t, pb_lt_f, pb_eq_t, pb_eq_f, i0, i9, pb_bi]
    exact ⟨_, _, _, rfl, rfl, hh⟩
theorem pb_back_loop {n i : Nat} (hi : i < 2) : ∀ (k t : Nat) (R : fm_M), t ≤ 56 → 56 < t + k → ∃ R', fX9_back_30 n k R (nI i) (nI t) = some (R'.1 11 0, R') ∧ (∀ c, c ≠ 11 → c ≠ 0 → R'.1 c = R.1 c) ∧ R'.1 0 = upd (R.1 0) 23 (nI 0) ∧ (∀ j, R'.1 11 j = if t ≤ j ∧ j < 56 then R.1 13 (56 * i + j) else R.1 11 j) ∧ R'.2 = R.2 := by
  intro k
  induction k with
  | zero => intro t R h1 h2; omega
  | succ k ih =>
    intro t R h1 h2
    rw [fX9_back_30]
    by_cases ht : t = 56
    · simp (disch := omega) only [pb_l0, pb_l1, pb_l2, pb_l3, pb_l4, pb_l5, pb_l6, pb_l7, pb_l8, pb_l9, pb_l10, pb_l12, pb_l14, pb_l20, pb_l32, pb_l36, pb_l48, pb_l56, pb_l57, pb_l59, pb_l60, pb_l72, pb_l99, pb_l100, pb_l111, pb_l116, pb_l200, pb_l255, pb_l504, pb_l560, pb_l1000, pb_l9999, pb_l10000, pb_l100000, pb_l1000000, nI_add, pk_mul, pb_cl, pb_b, pb_le_t, pb_le_f, pb_lt_t, pb_lt_f, pb_eq_t, pb_eq_f, fm_let]
      exact ⟨_, rfl, fun c c1 c2 => pb_wr_n c2, pb_wr_e, fun j => by rw [if_neg (by omega), pb_wr_n (by omega)], rfl⟩
    · simp (disch := omega) only [pb_l0, pb_l1, pb_l2, pb_l3, pb_l4, pb_l5, pb_l6, pb_l7, pb_l8, pb_l9, pb_l10, pb_l12, pb_l14, pb_l20, pb_l32, pb_l36, pb_l48, pb_l56, pb_l57, pb_l59, pb_l60, pb_l72, pb_l99, pb_l100, pb_l111, pb_l116, pb_l200, pb_l255, pb_l504, pb_l560, pb_l1000, pb_l9999, pb_l10000, pb_l100000, pb_l1000000, nI_add, pk_mul, pb_cl, pb_b, pb_le_t, pb_le_f, pb_lt_t, pb_lt_f, pb_eq_t, pb_eq_f, fm_let]
      obtain ⟨R', e1, e2, e3, e4, e5⟩ := ih (t + 1) (fm_wr R 11 t (R.1 13 (56 * i + t))) (by omega) (by omega)
      refine ⟨R', e1, fun c c1 c2 => ?_, ?_, fun j => ?_, e5⟩
      · rw [e2 c c1 c2, pb_wr_n c1]
      · rw [e3, pb_wr_n (by omega)]
      · rw [e4 j]
        by_cases j1 : j = t
        · subst j1
          rw [if_neg (by omega), if_pos (by omega), pb_wr_e, pb_up_e]
        · by_cases j2 : t + 1 ≤ j ∧ j < 56
          · rw [if_pos j2, if_pos (by omega), pb_wr_n (by omega)]
          · rw [if_neg j2, if_neg (by omega), pb_wr_e, pb_up_n j1]
theorem pb_backop {n bk : Nat} {C R : fm_M} (h : pb_R bk C R) (hn : 60 ≤ n) (l : Int32) : pb_ok bk (fX0_back n bk C l) (fX9_back n R l) := by
  have h' := h.thrown
  unfold fX9_back fX0_back
  simp only [fm_let, pb_l0, pb_l1]
  rw [pb_l0] at h'
  generalize fm_wr R 0 0 (nI 0) = R1 at h' ⊢
  clear h
  have hh := h'
  obtain ⟨m, o, d, f, y, p, hB, h1, h2, h3, h4, h5, h6⟩ := h'
  have hm := hB.1.1
  have hbk := hB.1.2.2
  rcases pb_in n bk C R1 0 1 (by omega) (by omega) l with ⟨i, _, hi, rfl, i0, i9⟩ | ⟨hv, i0, i9⟩
  · obtain ⟨g1, g2⟩ := h3 i (by omega)
    by_cases z : R1.1 14 i = nI 0
    · simp (disch := omega) only [pb_l0, pb_l1, pb_l2, pb_l3, pb_l4, pb_l5, pb_l6, pb_l7, pb_l8, pb_l9, pb_l10, pb_l12, pb_l14, pb_l20, pb_l32, pb_l36, pb_l48, pb_l56, pb_l57, pb_l59, pb_l60, pb_l72, pb_l99, pb_l100, pb_l111, pb_l116, pb_l200, pb_l255, pb_l504, pb_l560, pb_l1000, pb_l9999, pb_l10000, pb_l100000, pb_l1000000, nI_add, pk_mul, pb_cl, pb_b, pb_le_t, pb_le_f, pb_lt_t, pb_lt_f, pb_eq_t, pb_eq_f, i0, i9, pb_bi, g1, pb_ifp z]
      exact ⟨_, _, _, rfl, rfl, hh⟩
    · obtain ⟨C1, e1, e2, e3, e4⟩ := pb_copyOf (n := n) (bk := bk) (a := 39) (b := 171 + 11 * i) (C := C) (by omega) (by omega)
      obtain ⟨R', r1, r2, r3, r4, r5⟩ := pb_back_loop (n := n) (by omega : i < 2) n 0 R1 (by omega) (by omega)
      have g3 : pb_PR m C (171 + 11 * i) (fun k => R1.1 13 (56 * i + k)) := by
        rcases g2 with g | g
        · exact absurd g z
        · exact g
      have g4 : pb_PR m C1 39 (R'.1 11) := pb_PR.copy g3 e3 (fun k hk => by rw [r4, if_pos (by omega)]) hm
      have e5 : C1.1 39 0 = R'.1 11 0 := g4.term
      simp (disch := omega) only [pb_l0, pb_l1, pb_l2, pb_l3, pb_l4, pb_l5, pb_l6, pb_l7, pb_l8, pb_l9, pb_l10, pb_l12, pb_l14, pb_l20, pb_l32, pb_l36, pb_l48, pb_l56, pb_l57, pb_l59, pb_l60, pb_l72, pb_l99, pb_l100, pb_l111, pb_l116, pb_l200, pb_l255, pb_l504, pb_l560, pb_l1000, pb_l9999, pb_l10000, pb_l100000, pb_l1000000, nI_add, pk_mul, pb_cl, pb_b, pb_le_t, pb_le_f, pb_lt_t, pb_lt_f, pb_eq_t, pb_eq_f, i0, i9, pb_bi, g1, pb_ifn z, e1, r1, pb_bv, pb_wr_n, e5]
      refine ⟨_, _, _, rfl, rfl, m, o, 0, f, y, p, hB.keep (fun c c1 c2 => ?_) (fun c hc => ?_), g4.same (fun c c1 c2 => ?_) (fun k hk => rfl) hm, ⟨by omega, ?_, ?_, fun j hj => ?_, h2.2.2.2.2.1, fun j hj => by omega⟩, h3.frame hm ?_ (fun c c1 c2 => ?_) ?_ ?_, h4.frame ?_ ?_ ?_ ?_ ?_ ?_, h5.frame ?_ ?_ ?_ ?_, ?_⟩
      case refine_4 => simp (disch := omega) only [pb_wr_e, pb_wr_n, pb_row_e, pb_row_n, pb_up_e, pb_up_n, pb_wr_2, pb_row_2]
      case refine_5 => rw [r3, pb_up_e]
      case refine_6 => rw [pb_wr_n (by omega), e2 3 (by omega)]; exact h2.2.2.2.1 j hj
      case refine_21 => show C1.2 = _; rw [e4, r5]; exact h6
      all_goals
        first
        | rw [r2 _ (by omega) (by omega)]
        | (rw [pb_wr_n (by omega)]; rw [e2 _ (by omega)])
        | (rw [pb_wr_n (by omega)]; done)
        | (rw [pb_wr_e, pb_up_n (by omega), e2 _ (by omega)])
        | (rw [r3, pb_up_n (by omega)])
  · simp (disch := omega) only [pb_l0, pb_l1, pb_l2, pb_l3, pb_l4, pb_l5, pb_l6, pb_l7, pb_l8, pb_l9, pb_l10, pb_l12, pb_l14, pb_l20, pb_l32, pb_l36, pb_l48, pb_l56, pb_l57, pb_l59, pb_l60, pb_l72, pb_l99, pb_l100, pb_l111, pb_l116, pb_l200, pb_l255, pb_l504, pb_l560, pb_l1000, pb_l9999, pb_l10000, pb_l100000, pb_l1000000, nI_add, pk_mul, pb_cl, pb_b, pb_le_t, pb_le_f, pb_lt_t, pb_lt_f, pb_eq_t, pb_eq_f, i0, i9, pb_bi]
    exact ⟨_, _, _, rfl, rfl, hh⟩
