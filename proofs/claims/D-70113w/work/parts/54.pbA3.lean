/-! oaths, crossed, count, trace, found, forget, rate -/
set_option maxRecDepth 100000
theorem pb_oaths_loop {n bk o : Nat} {C R : fm_M} {x : Int32} (ho : o ≤ 6) (c9 : C.1 bk 9 = nI o) (r1 : R.1 2 1 = nI o) (hs : ∀ t, t < 6 → C.1 42 t = R.1 11 (14 + t)) : ∀ (k t : Nat) (acc : Int32), t ≤ o → o < t + k → pb_sm C R (fX0_oaths_15 n bk k C x acc (nI t)) (fX9_oaths_20 n k R x acc (nI t)) := by
  intro k
  induction k with
  | zero => intro t acc h1 h2; omega
  | succ k ih =>
    intro t acc h1 h2
    rw [fX0_oaths_15, fX9_oaths_20]
    by_cases ht : t = o
    · simp (disch := omega) only [pb_l0, pb_l1, pb_l2, pb_l3, pb_l4, pb_l5, pb_l6, pb_l7, pb_l8, pb_l9, pb_l10, pb_l12, pb_l14, pb_l20, pb_l32, pb_l36, pb_l48, pb_l56, pb_l57, pb_l59, pb_l60, pb_l72, pb_l99, pb_l100, pb_l111, pb_l116, pb_l200, pb_l255, pb_l504, pb_l560, pb_l1000, pb_l9999, pb_l10000, pb_l100000, pb_l1000000, nI_add, pk_mul, pb_cl, pb_b, pb_le_t, pb_le_f, pb_lt_t, pb_lt_f, pb_eq_t, pb_eq_f, c9, r1]
      exact ⟨_, rfl, rfl⟩
    · simp (disch := omega) only [pb_l0, pb_l1, pb_l2, pb_l3, pb_l4, pb_l5, pb_l6, pb_l7, pb_l8, pb_l9, pb_l10, pb_l12, pb_l14, pb_l20, pb_l32, pb_l36, pb_l48, pb_l56, pb_l57, pb_l59, pb_l60, pb_l72, pb_l99, pb_l100, pb_l111, pb_l116, pb_l200, pb_l255, pb_l504, pb_l560, pb_l1000, pb_l9999, pb_l10000, pb_l100000, pb_l1000000, nI_add, pk_mul, pb_cl, pb_b, pb_le_t, pb_le_f, pb_lt_t, pb_lt_f, pb_eq_t, pb_eq_f, c9, r1, hs]
      by_cases hc : R.1 11 (14 + t) = x
      · simp only [pb_ifp hc]
        exact ih (t + 1) _ (by omega) (by omega)
      · simp only [pb_ifn hc]
        exact ih (t + 1) _ (by omega) (by omega)
theorem pb_oathsop {n bk : Nat} {C R : fm_M} (h : pb_R bk C R) (hn : 10 ≤ n) (l : Int32) : pb_ok bk (fX0_oaths n bk C l) (fX9_oaths n R l) := by
  have h' := h.thrown
  unfold fX9_oaths fX0_oaths
  simp only [fm_let, pb_l0, pb_l1, pb_l2, pb_l3]
  rw [pb_l0] at h'
  generalize fm_wr R 0 0 (nI 0) = R1 at h' ⊢
  clear h
  have hh := h'
  obtain ⟨m, o, d, f, y, p, ⟨⟨a1, a2, a3⟩, ⟨b1, b2, b3, b4⟩, c1, d1, e1, f1, g1⟩, s1, s2⟩ := h'
  rcases pb_in n bk C R1 0 2 (by omega) (by omega) l with ⟨v, _, hv, hl, i0, i9⟩ | ⟨hv, i0, i9⟩
  · obtain ⟨r, w0, w9⟩ := pb_oaths_loop (n := n) (bk := bk) (C := C) (R := R1) (x := l) a2 b3 b4 (fun t ht => s1.oath ht) n 0 (nI 0) (by omega) (by omega)
    simp (disch := omega) only [i0, i9, pb_bi, pb_l0, pb_l1, pb_l2, pb_l3, pb_l4, pb_l5, pb_l6, pb_l7, pb_l8, pb_l9, pb_l10, pb_l12, pb_l14, pb_l20, pb_l32, pb_l36, pb_l48, pb_l56, pb_l57, pb_l59, pb_l60, pb_l72, pb_l99, pb_l100, pb_l111, pb_l116, pb_l200, pb_l255, pb_l504, pb_l560, pb_l1000, pb_l9999, pb_l10000, pb_l100000, pb_l1000000, nI_add, pk_mul, pb_cl, pb_b, pb_le_t, pb_le_f, pb_lt_t, pb_lt_f, pb_eq_t, pb_eq_f, w0, w9]
    exact ⟨_, _, _, rfl, rfl, hh⟩
  · simp (disch := omega) only [i0, i9, pb_bi, pb_l0, pb_l1, pb_l2, pb_l3, pb_l4, pb_l5, pb_l6, pb_l7, pb_l8, pb_l9, pb_l10, pb_l12, pb_l14, pb_l20, pb_l32, pb_l36, pb_l48, pb_l56, pb_l57, pb_l59, pb_l60, pb_l72, pb_l99, pb_l100, pb_l111, pb_l116, pb_l200, pb_l255, pb_l504, pb_l560, pb_l1000, pb_l9999, pb_l10000, pb_l100000, pb_l1000000, nI_add, pk_mul, pb_cl, pb_b, pb_le_t, pb_le_f, pb_lt_t, pb_lt_f, pb_eq_t, pb_eq_f]
    exact ⟨_, _, _, rfl, rfl, hh⟩
theorem pb_crossed_in {n bk o i : Nat} {C R : fm_M} (k2 : fm_M → Int32 → Option (Int32 × fm_M)) (k7 : fm_M → Int32 → Option (Int32 × fm_M)) (ho : o ≤ 6) (hi : i < o) (c9 : C.1 bk 9 = nI o) (r1 : R.1 2 1 = nI o) (x1 : ∀ i, i < o → C.1 (bk + 18) i = R.1 7 i) (x2 : ∀ i, i < o → C.1 (bk + 19) i = R.1 8 i) (x3 : ∀ i, i < o → C.1 (bk + 20) i = R.1 9 i) (hk : pb_sm C R (k2 C (nI (i + 1))) (k7 R (nI (i + 1)))) : ∀ (k j : Nat), j ≤ o → o < j + k → pb_sm C R (fX0_crossed_17 n bk k2 k C (nI i) (nI j)) (fX9_crossed_21 n k7 k R (nI i) (nI j)) := by
  intro k
  induction k with
  | zero => intro t h1 h2; omega
  | succ k ih =>
    intro j h1 h2
    rw [fX0_crossed_17, fX9_crossed_21]
    by_cases ht : j = o
    · simp (disch := omega) only [pb_l0, pb_l1, pb_l2, pb_l3, pb_l4, pb_l5, pb_l6, pb_l7, pb_l8, pb_l9, pb_l10, pb_l12, pb_l14, pb_l20, pb_l32, pb_l36, pb_l48, pb_l56, pb_l57, pb_l59, pb_l60, pb_l72, pb_l99, pb_l100, pb_l111, pb_l116, pb_l200, pb_l255, pb_l504, pb_l560, pb_l1000, pb_l9999, pb_l10000, pb_l100000, pb_l1000000, nI_add, pk_mul, pb_cl, pb_b, pb_le_t, pb_le_f, pb_lt_t, pb_lt_f, pb_eq_t, pb_eq_f, c9, r1]
      exact hk
    · have ih' := ih (j + 1) (by omega) (by omega)
      simp (disch := omega) only [pb_l0, pb_l1, pb_l2, pb_l3, pb_l4, pb_l5, pb_l6, pb_l7, pb_l8, pb_l9, pb_l10, pb_l12, pb_l14, pb_l20, pb_l32, pb_l36, pb_l48, pb_l56, pb_l57, pb_l59, pb_l60, pb_l72, pb_l99, pb_l100, pb_l111, pb_l116, pb_l200, pb_l255, pb_l504, pb_l560, pb_l1000, pb_l9999, pb_l10000, pb_l100000, pb_l1000000, nI_add, pk_mul, pb_cl, pb_b, pb_le_t, pb_le_f, pb_lt_t, pb_lt_f, pb_eq_t, pb_eq_f, c9, r1, fX0_areCrossed, fX0_areCrossed_26, fX0_areCrossed_53, fX9_crossed_51, fX9_crossed_72, x1, x2, x3]
      by_cases h7 : R.1 7 i = R.1 7 j <;> by_cases h8 : R.1 8 i = R.1 8 j <;> by_cases h9 : R.1 9 i = R.1 9 j
      all_goals
        simp (disch := omega) only [h7, h8, h9, pb_l0, pb_l1, pb_l2, pb_l3, pb_l4, pb_l5, pb_l6, pb_l7, pb_l8, pb_l9, pb_l10, pb_l12, pb_l14, pb_l20, pb_l32, pb_l36, pb_l48, pb_l56, pb_l57, pb_l59, pb_l60, pb_l72, pb_l99, pb_l100, pb_l111, pb_l116, pb_l200, pb_l255, pb_l504, pb_l560, pb_l1000, pb_l9999, pb_l10000, pb_l100000, pb_l1000000, nI_add, pk_mul, pb_cl, pb_b, pb_le_t, pb_le_f, pb_lt_t, pb_lt_f, pb_eq_t, pb_eq_f, pb_bi, if_true, if_false]
        first
        | exact ih'
        | exact ⟨_, rfl, rfl⟩
theorem pb_crossed_loop {n bk o : Nat} {C R : fm_M} (hn : 20 ≤ n) (ho : o ≤ 6) (c9 : C.1 bk 9 = nI o) (r1 : R.1 2 1 = nI o) (x1 : ∀ i, i < o → C.1 (bk + 18) i = R.1 7 i) (x2 : ∀ i, i < o → C.1 (bk + 19) i = R.1 8 i) (x3 : ∀ i, i < o → C.1 (bk + 20) i = R.1 9 i) : ∀ (k i : Nat), i ≤ o → o < i + k → pb_sm C R (fX0_crossed_2 n bk k C (nI i)) (fX9_crossed_7 n k R (nI i)) := by
  intro k
  induction k with
  | zero => intro t h1 h2; omega
  | succ k ih =>
    intro i h1 h2
    rw [fX0_crossed_2, fX9_crossed_7]
    by_cases ht : i = o
    · simp (disch := omega) only [pb_l0, pb_l1, pb_l2, pb_l3, pb_l4, pb_l5, pb_l6, pb_l7, pb_l8, pb_l9, pb_l10, pb_l12, pb_l14, pb_l20, pb_l32, pb_l36, pb_l48, pb_l56, pb_l57, pb_l59, pb_l60, pb_l72, pb_l99, pb_l100, pb_l111, pb_l116, pb_l200, pb_l255, pb_l504, pb_l560, pb_l1000, pb_l9999, pb_l10000, pb_l100000, pb_l1000000, nI_add, pk_mul, pb_cl, pb_b, pb_le_t, pb_le_f, pb_lt_t, pb_lt_f, pb_eq_t, pb_eq_f, c9, r1]
      exact ⟨_, rfl, rfl⟩
    · simp (disch := omega) only [pb_l0, pb_l1, pb_l2, pb_l3, pb_l4, pb_l5, pb_l6, pb_l7, pb_l8, pb_l9, pb_l10, pb_l12, pb_l14, pb_l20, pb_l32, pb_l36, pb_l48, pb_l56, pb_l57, pb_l59, pb_l60, pb_l72, pb_l99, pb_l100, pb_l111, pb_l116, pb_l200, pb_l255, pb_l504, pb_l560, pb_l1000, pb_l9999, pb_l10000, pb_l100000, pb_l1000000, nI_add, pk_mul, pb_cl, pb_b, pb_le_t, pb_le_f, pb_lt_t, pb_lt_f, pb_eq_t, pb_eq_f, c9, r1]
      exact pb_crossed_in _ _ ho (by omega) c9 r1 x1 x2 x3 (ih (i + 1) (by omega) (by omega)) n (i + 1) (by omega) (by omega)
theorem pb_crossedop {n bk : Nat} {C R : fm_M} (h : pb_R bk C R) (hn : 20 ≤ n) : pb_ok bk (fX0_crossed n bk C) (fX9_crossed n R) := by
  have h' := h.thrown
  unfold fX9_crossed fX0_crossed
  simp only [fm_let, pb_l0]
  rw [pb_l0] at h'
  generalize fm_wr R 0 0 (nI 0) = R1 at h' ⊢
  clear h
  have hh := h'
  obtain ⟨m, o, d, f, y, p, ⟨⟨a1, a2, a3⟩, ⟨b1, b2, b3, b4⟩, c1, d1, e1, f1, g1⟩, s1, s2⟩ := h'
  obtain ⟨r, w0, w9⟩ := pb_crossed_loop (n := n) (bk := bk) (C := C) (R := R1) hn a2 b3 b4 (fun i hi => (g1 i hi).1) (fun i hi => (g1 i hi).2.1) (fun i hi => (g1 i hi).2.2.1) n 0 (by omega) (by omega)
  exact ⟨r, C, R1, w0, w9, hh⟩
/-! roads -/
def pb_cnt (g : Nat → Nat) : Nat → Nat → Nat
  | 0, _ => 0
  | j + 1, t => g t + pb_cnt g j (t + 1)
def pb_rg (R : fm_M) (k : Nat) : Nat := if R.1 6 k ≤ nI 0 then 0 else 1
theorem pb_roads9 {n : Nat} {R : fm_M} : ∀ (k t acc : Nat), t ≤ 36 → 36 < t + k → fX9_roads_4 n k R (nI acc) (nI t) = some (nI (acc + pb_cnt (pb_rg R) (36 - t) t) / nI 2, R) := by
  intro k
  induction k with
  | zero => intro t acc h1 h2; omega
  | succ k ih =>
    intro t acc h1 h2
    rw [fX9_roads_4]
    by_cases ht : t = 36
    · subst ht
      simp (disch := omega) only [pb_l0, pb_l1, pb_l2, pb_l3, pb_l4, pb_l5, pb_l6, pb_l7, pb_l8, pb_l9, pb_l10, pb_l12, pb_l14, pb_l20, pb_l32, pb_l36, pb_l48, pb_l56, pb_l57, pb_l59, pb_l60, pb_l72, pb_l99, pb_l100, pb_l111, pb_l116, pb_l200, pb_l255, pb_l504, pb_l560, pb_l1000, pb_l9999, pb_l10000, pb_l100000, pb_l1000000, nI_add, pk_mul, pb_cl, pb_b, pb_le_t, pb_le_f, pb_lt_t, pb_lt_f, pb_eq_t, pb_eq_f, Nat.sub_self, pb_cnt, Nat.add_zero]
    · obtain ⟨j, hj⟩ : ∃ j, 36 - t = j + 1 := ⟨36 - t - 1, by omega⟩
      have hj' : 36 - (t + 1) = j := by omega
      have ih' := fun a => ih (t + 1) a (by omega) (by omega)
      rw [hj'] at ih'
      rw [hj, pb_cnt, ← Nat.add_assoc]
      simp (disch := omega) only [pb_l0, pb_l1, pb_l2, pb_l3, pb_l4, pb_l5, pb_l6, pb_l7, pb_l8, pb_l9, pb_l10, pb_l12, pb_l14, pb_l20, pb_l32, pb_l36, pb_l48, pb_l56, pb_l57, pb_l59, pb_l60, pb_l72, pb_l99, pb_l100, pb_l111, pb_l116, pb_l200, pb_l255, pb_l504, pb_l560, pb_l1000, pb_l9999, pb_l10000, pb_l100000, pb_l1000000, nI_add, pk_mul, pb_cl, pb_b, pb_le_t, pb_le_f, pb_lt_t, pb_lt_f, pb_eq_t, pb_eq_f]
      by_cases c1 : R.1 6 t ≤ nI 0
      · rw [show pb_rg R t = 0 from if_pos c1]
        simp only [pb_ifp c1]
        exact ih' _
      · rw [show pb_rg R t = 1 from if_neg c1]
        simp only [pb_ifn c1]
        exact ih' _
theorem pb_roads_in {n bk a : Nat} {C R : fm_M} (k4 : fm_M → Int32 → Int32 → Option (Int32 × fm_M)) (ha : a < 6) (ht : ∀ a b, a < 6 → b < 6 → C.1 (bk + 5 + a) b = R.1 6 (6 * a + b)) : ∀ (k t acc : Nat), t ≤ a → a < t + k → fX1_roads_12 n bk bk k4 k C (nI acc) (nI a) (nI t) = k4 C (nI (acc + pb_cnt (fun b => pb_rg R (6 * a + b)) (a - t) t)) (nI (a + 1)) := by
  intro k
  induction k with
  | zero => intro t acc h1 h2; omega
  | succ k ih =>
    intro t acc h1 h2
    rw [fX1_roads_12]
    by_cases he : t = a
    · subst he
      simp (disch := omega) only [pb_l0, pb_l1, pb_l2, pb_l3, pb_l4, pb_l5, pb_l6, pb_l7, pb_l8, pb_l9, pb_l10, pb_l12, pb_l14, pb_l20, pb_l32, pb_l36, pb_l48, pb_l56, pb_l57, pb_l59, pb_l60, pb_l72, pb_l99, pb_l100, pb_l111, pb_l116, pb_l200, pb_l255, pb_l504, pb_l560, pb_l1000, pb_l9999, pb_l10000, pb_l100000, pb_l1000000, nI_add, pk_mul, pb_cl, pb_b, pb_le_t, pb_le_f, pb_lt_t, pb_lt_f, pb_eq_t, pb_eq_f, Nat.sub_self, pb_cnt, Nat.add_zero]
    · obtain ⟨j, hj⟩ : ∃ j, a - t = j + 1 := ⟨a - t - 1, by omega⟩
      have hj' : a - (t + 1) = j := by omega
      have ih' := fun b => ih (t + 1) b (by omega) (by omega)
      rw [hj'] at ih'
      rw [hj, pb_cnt, ← Nat.add_assoc]
      simp (disch := omega) only [pb_l0, pb_l1, pb_l2, pb_l3, pb_l4, pb_l5, pb_l6, pb_l7, pb_l8, pb_l9, pb_l10, pb_l12, pb_l14, pb_l20, pb_l32, pb_l36, pb_l48, pb_l56, pb_l57, pb_l59, pb_l60, pb_l72, pb_l99, pb_l100, pb_l111, pb_l116, pb_l200, pb_l255, pb_l504, pb_l560, pb_l1000, pb_l9999, pb_l10000, pb_l100000, pb_l1000000, nI_add, pk_mul, pb_cl, pb_b, pb_le_t, pb_le_f, pb_lt_t, pb_lt_f, pb_eq_t, pb_eq_f, ht]
      by_cases c1 : R.1 6 (6 * a + t) ≤ nI 0
      · rw [show pb_rg R (6 * a + t) = 0 from if_pos c1]
        simp only [pb_ifp c1]
        exact ih' _
      · rw [show pb_rg R (6 * a + t) = 1 from if_neg c1]
        simp only [pb_ifn c1]
        exact ih' _
theorem pb_roads0 {n bk : Nat} {C R : fm_M} (hn : 10 ≤ n) (ht : ∀ a b, a < 6 → b < 6 → C.1 (bk + 5 + a) b = R.1 6 (6 * a + b)) : ∀ (k a acc : Nat), a ≤ 6 → 6 < a + k → fX1_roads_4 n bk bk k C (nI acc) (nI a) = some (nI (acc + pb_cnt (fun a => pb_cnt (fun b => pb_rg R (6 * a + b)) a 0) (6 - a) a), C) := by
  intro k
  induction k with
  | zero => intro t acc h1 h2; omega
  | succ k ih =>
    intro t acc h1 h2
    rw [fX1_roads_4]
    by_cases he : t = 6
    · subst he
      simp (disch := omega) only [pb_l0, pb_l1, pb_l2, pb_l3, pb_l4, pb_l5, pb_l6, pb_l7, pb_l8, pb_l9, pb_l10, pb_l12, pb_l14, pb_l20, pb_l32, pb_l36, pb_l48, pb_l56, pb_l57, pb_l59, pb_l60, pb_l72, pb_l99, pb_l100, pb_l111, pb_l116, pb_l200, pb_l255, pb_l504, pb_l560, pb_l1000, pb_l9999, pb_l10000, pb_l100000, pb_l1000000, nI_add, pk_mul, pb_cl, pb_b, pb_le_t, pb_le_f, pb_lt_t, pb_lt_f, pb_eq_t, pb_eq_f, Nat.sub_self, pb_cnt, Nat.add_zero]
    · obtain ⟨j, hj⟩ : ∃ j, 6 - t = j + 1 := ⟨6 - t - 1, by omega⟩
      have hj' : 6 - (t + 1) = j := by omega
      simp (disch := omega) only [pb_l0, pb_l1, pb_l2, pb_l3, pb_l4, pb_l5, pb_l6, pb_l7, pb_l8, pb_l9, pb_l10, pb_l12, pb_l14, pb_l20, pb_l32, pb_l36, pb_l48, pb_l56, pb_l57, pb_l59, pb_l60, pb_l72, pb_l99, pb_l100, pb_l111, pb_l116, pb_l200, pb_l255, pb_l504, pb_l560, pb_l1000, pb_l9999, pb_l10000, pb_l100000, pb_l1000000, nI_add, pk_mul, pb_cl, pb_b, pb_le_t, pb_le_f, pb_lt_t, pb_lt_f, pb_eq_t, pb_eq_f]
      rw [pb_roads_in (R := R) _ (by omega) ht n 0 acc (by omega) (by omega), ih (t + 1) _ (by omega) (by omega), hj, hj', pb_cnt, ← Nat.add_assoc]
      rfl
theorem pb_roads {n bk : Nat} {C R : fm_M} (hn : 50 ≤ n) (ht : ∀ a b, a < 6 → b < 6 → C.1 (bk + 5 + a) b = R.1 6 (6 * a + b) ∧ R.1 6 (6 * b + a) = R.1 6 (6 * a + b)) (hd : ∀ a, a < 6 → R.1 6 (7 * a) = nI 0) : pb_sm C R (fX1_roads n bk bk C) (fX9_roads n R) := by
  have w0 := pb_roads0 (n := n) (bk := bk) (C := C) (R := R) (by omega) (fun a b h1 h2 => (ht a b h1 h2).1) n 0 0 (by omega) (by omega)
  have w9 := pb_roads9 (n := n) (R := R) n 0 0 (by omega) (by omega)
  have z : ∀ a, a < 6 → pb_rg R (7 * a) = 0 := fun a h => by unfold pb_rg; rw [hd a h]; rfl
  have sy : ∀ a b, a < 6 → b < 6 → pb_rg R (6 * b + a) = pb_rg R (6 * a + b) := fun a b h1 h2 => by unfold pb_rg; rw [(ht a b h1 h2).2]
  have le : ∀ k, pb_rg R k ≤ 1 := fun k => by unfold pb_rg; split <;> omega
  have z0 := z 0 (by omega); have z1 := z 1 (by omega); have z2 := z 2 (by omega); have z3 := z 3 (by omega); have z4 := z 4 (by omega); have z5 := z 5 (by omega)
  have y01 := sy 0 1 (by omega) (by omega); have y02 := sy 0 2 (by omega) (by omega); have y03 := sy 0 3 (by omega) (by omega); have y04 := sy 0 4 (by omega) (by omega); have y05 := sy 0 5 (by omega) (by omega)
  have y12 := sy 1 2 (by omega) (by omega); have y13 := sy 1 3 (by omega) (by omega); have y14 := sy 1 4 (by omega) (by omega); have y15 := sy 1 5 (by omega) (by omega)
  have y23 := sy 2 3 (by omega) (by omega); have y24 := sy 2 4 (by omega) (by omega); have y25 := sy 2 5 (by omega) (by omega)
  have y34 := sy 3 4 (by omega) (by omega); have y35 := sy 3 5 (by omega) (by omega); have y45 := sy 4 5 (by omega) (by omega)
  simp only [Nat.reduceMul, Nat.reduceAdd, Nat.zero_add, Nat.add_zero, Nat.mul_zero] at z0 z1 z2 z3 z4 z5 y01 y02 y03 y04 y05 y12 y13 y14 y15 y23 y24 y25 y34 y35 y45
  simp only [Nat.sub_zero, pb_cnt, Nat.reduceMul, Nat.reduceAdd, Nat.zero_add, Nat.add_zero, Nat.mul_zero] at w0 w9
  rw [z0, z1, z2, z3, z4, z5, ← y01, ← y02, ← y03, ← y04, ← y05, ← y12, ← y13, ← y14, ← y15, ← y23, ← y24, ← y25, ← y34, ← y35, ← y45] at w9
  have l6 := le 6; have l12 := le 12; have l13 := le 13; have l18 := le 18; have l19 := le 19; have l20 := le 20; have l24 := le 24; have l25 := le 25; have l26 := le 26; have l27 := le 27; have l30 := le 30; have l31 := le 31; have l32 := le 32; have l33 := le 33; have l34 := le 34
  rw [pk_div (by omega) (by omega) (by omega)] at w9
  refine ⟨_, w0, ?_⟩
  unfold fX9_roads
  rw [show (0 : Int32) = nI 0 from rfl, w9]
  congr 3
  omega
theorem pb_countop {n bk : Nat} {C R : fm_M} (h : pb_R bk C R) (hn : 50 ≤ n) (l : Int32) : pb_ok bk (fX0_count n bk C l) (fX9_count n R l) := by
  have h' := h.thrown
  unfold fX9_count fX0_count
  simp only [fm_let, pb_l0, pb_l1, pb_l2, pb_l3, pb_l4]
  rw [pb_l0] at h'
  generalize fm_wr R 0 0 (nI 0) = R1 at h' ⊢
  clear h
  have hh := h'
  obtain ⟨m, o, d, f, y, p, ⟨⟨a1, a2, a3⟩, ⟨b1, b2, b3, b4⟩, c1, d1, e1, f1, g1⟩, s1, s2, s3, s4, s5, s6⟩ := h'
  obtain ⟨r, w0, w9⟩ := pb_roads (n := n) (bk := bk) (C := C) (R := R1) hn d1 e1
  rw [w0, w9, b1, b2, b3, b4, s4.2.1, s4.2.2.1, s5.2.1, s5.2.2.1]
  simp only [pb_bi]
  by_cases c0 : l = nI 0
  · simp only [pb_ifp c0]; exact ⟨_, _, _, rfl, rfl, hh⟩
  · by_cases c1 : l = nI 1
    · simp only [pb_ifn c0, pb_ifp c1]; exact ⟨_, _, _, rfl, rfl, hh⟩
    · by_cases c2 : l = nI 2
      · simp only [pb_ifn c0, pb_ifn c1, pb_ifp c2]; exact ⟨_, _, _, rfl, rfl, hh⟩
      · by_cases c3 : l = nI 3
        · simp only [pb_ifn c0, pb_ifn c1, pb_ifn c2, pb_ifp c3]; exact ⟨_, _, _, rfl, rfl, hh⟩
        · by_cases c4 : l = nI 4
          · simp only [pb_ifn c0, pb_ifn c1, pb_ifn c2, pb_ifn c3, pb_ifp c4]; exact ⟨_, _, _, rfl, rfl, hh⟩
          · simp only [pb_ifn c0, pb_ifn c1, pb_ifn c2, pb_ifn c3, pb_ifn c4]; exact ⟨_, _, _, rfl, rfl, hh⟩
theorem pb_trace {n bk : Nat} {C R : fm_M} (h : pb_R bk C R) : ∃ r C' R', fX0_trace n bk C = some (r, C') ∧ fX9_trace n R = some (r, R') ∧ pb_R bk C' R' := by
  have h' := h.thrown
  obtain ⟨m, o, d, f, y, p, hB, s1, s2, s3, s4, s5, s6⟩ := h
  refine ⟨C.2, C, _, rfl, ?_, h'⟩
  rw [s6]
  rfl
theorem pb_forget {n bk : Nat} {C R : fm_M} (h : pb_R bk C R) : pb_ok bk (fX0_forget n bk C) (fX9_forget n R) := by
  have h' := h.thrown
  unfold fX9_forget fX0_forget
  simp only [fm_let, pb_l0]
  rw [pb_l0] at h'
  generalize fm_wr R 0 0 (nI 0) = R1 at h' ⊢
  clear h
  obtain ⟨m, o, d, f, y, p, hB, h1, h2, h3, ⟨y1, y2, y3, y4⟩, h5, h6⟩ := h'
  have hbk := hB.1.2.2
  rw [y2, y3]
  refine ⟨_, _, _, rfl, rfl, m, o, d, 0, y, p, hB.keep (fun c h1 h2 => ?_) (fun c hc => ?_), h1.same (fun c c1 c2 => ?_) (fun k _ => ?_) hB.1.1, h2.frame hB.1.1 ?_ ?_ (fun c c1 c2 => ?_) ?_ ?_, h3.frame hB.1.1 ?_ (fun c c1 c2 => ?_) ?_ ?_, ⟨by omega, ?_, ?_, fun k hk => by omega⟩, h5.frame ?_ ?_ ?_ ?_, h6⟩
  all_goals simp (disch := omega) only [pb_wr_e, pb_wr_n, pb_row_e, pb_row_n, pb_up_e, pb_up_n, pb_wr_2, pb_row_2]
theorem pb_found {n bk : Nat} {C R : fm_M} (h : pb_R bk C R) (l l2 : Int32) : pb_ok bk (fX0_found n bk C l l2) (fX9_found n R l l2) := by
  have h' := h.thrown
  unfold fX9_found fX0_found
  simp only [fm_let, pb_l0, pb_l1, pb_l5]
  rw [pb_l0] at h'
  generalize fm_wr R 0 0 (nI 0) = R1 at h' ⊢
  clear h
  have hh := h'
  obtain ⟨m, o, d, f, y, p, hB, h1, h2, h3, ⟨y1, y2, y3, y4⟩, h5, h6⟩ := h'
  have hbk := hB.1.2.2
  rcases pb_isTown (n := n) (bk := bk) hB.2.1.1 hB.2.1.2.1 hB.1.1 l with ⟨t, ht, rfl, e0, e9⟩ | ⟨e0, e9⟩
  · rcases pb_isTown (n := n) (bk := bk) hB.2.1.1 hB.2.1.2.1 hB.1.1 l2 with ⟨u, hu, rfl, k0, k9⟩ | ⟨k0, k9⟩
    · by_cases hf : f = 5
      · simp (disch := omega) only [e0, e9, k0, k9, pb_bi, pb_l0, pb_l1, pb_l2, pb_l3, pb_l4, pb_l5, pb_l6, pb_l7, pb_l8, pb_l9, pb_l10, pb_l12, pb_l14, pb_l20, pb_l32, pb_l36, pb_l48, pb_l56, pb_l57, pb_l59, pb_l60, pb_l72, pb_l99, pb_l100, pb_l111, pb_l116, pb_l200, pb_l255, pb_l504, pb_l560, pb_l1000, pb_l9999, pb_l10000, pb_l100000, pb_l1000000, nI_add, pk_mul, pb_cl, pb_b, pb_le_t, pb_le_f, pb_lt_t, pb_lt_f, pb_eq_t, pb_eq_f, y2, y3]
        exact ⟨_, _, _, rfl, rfl, hh⟩
      · simp (disch := omega) only [e0, e9, k0, k9, pb_bi, pb_l0, pb_l1, pb_l2, pb_l3, pb_l4, pb_l5, pb_l6, pb_l7, pb_l8, pb_l9, pb_l10, pb_l12, pb_l14, pb_l20, pb_l32, pb_l36, pb_l48, pb_l56, pb_l57, pb_l59, pb_l60, pb_l72, pb_l99, pb_l100, pb_l111, pb_l116, pb_l200, pb_l255, pb_l504, pb_l560, pb_l1000, pb_l9999, pb_l10000, pb_l100000, pb_l1000000, nI_add, pk_mul, pb_cl, pb_b, pb_le_t, pb_le_f, pb_lt_t, pb_lt_f, pb_eq_t, pb_eq_f, pb_wr_e, pb_wr_n, pb_row_e, pb_row_n, pb_up_e, pb_up_n, pb_wr_2, pb_row_2, y2, y3]
        refine ⟨_, _, _, rfl, rfl, m, o, d, f + 1, y, p, hB.keep (fun c h1 h2 => ?_) (fun c hc => ?_), h1.same (fun c c1 c2 => ?_) (fun k _ => ?_) hB.1.1, h2.frame hB.1.1 ?_ ?_ (fun c c1 c2 => ?_) ?_ ?_, h3.frame hB.1.1 ?_ (fun c c1 c2 => ?_) ?_ ?_, ⟨by omega, ?_, ?_, fun k hk => ?_⟩, h5.frame ?_ ?_ ?_ ?_, h6⟩
        case refine_16 =>
          by_cases e : k = f
          · subst e
            simp (disch := omega) only [pb_wr_e, pb_wr_n, pb_row_e, pb_row_n, pb_up_e, pb_up_n, pb_wr_2, pb_row_2]
            exact ⟨trivial, trivial, u, hu, rfl⟩
          · simp (disch := omega) only [pb_wr_e, pb_wr_n, pb_row_e, pb_row_n, pb_up_e, pb_up_n, pb_wr_2, pb_row_2]
            exact y4 k (by omega)
        all_goals simp (disch := omega) only [pb_wr_e, pb_wr_n, pb_row_e, pb_row_n, pb_up_e, pb_up_n, pb_wr_2, pb_row_2]
    · simp (disch := omega) only [e0, e9, k0, k9, pb_bi, pb_l0, pb_l1, pb_l2, pb_l3, pb_l4, pb_l5, pb_l6, pb_l7, pb_l8, pb_l9, pb_l10, pb_l12, pb_l14, pb_l20, pb_l32, pb_l36, pb_l48, pb_l56, pb_l57, pb_l59, pb_l60, pb_l72, pb_l99, pb_l100, pb_l111, pb_l116, pb_l200, pb_l255, pb_l504, pb_l560, pb_l1000, pb_l9999, pb_l10000, pb_l100000, pb_l1000000, nI_add, pk_mul, pb_cl, pb_b, pb_le_t, pb_le_f, pb_lt_t, pb_lt_f, pb_eq_t, pb_eq_f]
      exact ⟨_, _, _, rfl, rfl, hh⟩
  · simp (disch := omega) only [e0, e9, pb_bi, pb_l0, pb_l1, pb_l2, pb_l3, pb_l4, pb_l5, pb_l6, pb_l7, pb_l8, pb_l9, pb_l10, pb_l12, pb_l14, pb_l20, pb_l32, pb_l36, pb_l48, pb_l56, pb_l57, pb_l59, pb_l60, pb_l72, pb_l99, pb_l100, pb_l111, pb_l116, pb_l200, pb_l255, pb_l504, pb_l560, pb_l1000, pb_l9999, pb_l10000, pb_l100000, pb_l1000000, nI_add, pk_mul, pb_cl, pb_b, pb_le_t, pb_le_f, pb_lt_t, pb_lt_f, pb_eq_t, pb_eq_f]
    exact ⟨_, _, _, rfl, rfl, hh⟩
theorem pb_R.wl {bk : Nat} {C R : fm_M} (h : pb_R bk C R) (v : Int64) : pb_R bk (fm_wl C v) (fm_wl R v) := by
  obtain ⟨m, o, d, f, y, p, hB, s1, s2, s3, s4, s5, s6⟩ := h
  exact ⟨m, o, d, f, y, p, hB, s1, s2, s3, s4, s5, rfl⟩
theorem pb_wl_wl {M : fm_M} {a b : Int64} : fm_wl (fm_wl M a) b = fm_wl M b := rfl
theorem pb_wl_2 {M : fm_M} {a : Int64} : (fm_wl M a).2 = a := rfl
theorem pb_wl_1 {M : fm_M} {a : Int64} : (fm_wl M a).1 = M.1 := rfl
theorem pb_rate {n bk : Nat} {C R : fm_M} (h : pb_R bk C R) (hn : 10 ≤ n) (l l2 : Int32) : pb_ok bk (fX0_rate n bk C l l2) (fX9_rate n R l l2) := by
  have h' := h.thrown
  unfold fX9_rate fX0_rate
  simp only [fm_let, pb_l0, pb_l1, pb_l2, pb_l3, pb_l4, pb_l5]
  rw [pb_l0] at h'
  generalize fm_wr R 0 0 (nI 0) = R1 at h' ⊢
  clear h
  have hh := h'
  obtain ⟨m, o, d, f, y, p, ⟨⟨a1, a2, a3⟩, ⟨b1, b2, b3, b4⟩, c1, d1, e1, f1, g1⟩, s1, s2, s3, s4, s5, s6⟩ := h'
  rcases pb_in n bk C R1 0 5 (by omega) (by omega) l with ⟨v, _, hv, rfl, i0, i9⟩ | ⟨hv, i0, i9⟩
  · rcases pb_isTown (n := n) (bk := bk) b1 b2 a1 l2 with ⟨t, ht, rfl, e0, e9⟩ | ⟨e0, e9⟩
    · obtain ⟨u, hu, _, w0, w9⟩ := pb_where (n := n) (bk := bk) s1 a1 ht hn
      have w0' : ∀ z : Int64, fX2_where n bk 39 (fm_wl C z) (nI t) = some (nI u, fm_wl C z) := fun z => by
        obtain ⟨u', hu', g1', g2', g3'⟩ := pb_where (n := n) (bk := bk) (a := 39) (c := 11) (t := t) (C := fm_wl C z) (R := R1) s1 a1 ht hn
        rw [g3'] at w9
        have e : nI u' = nI u := by injection w9 with w; injection w
        rw [g2', e]
      have hw := (c1 t ht).1
      have hno := (c1 t ht).2.1
      have hbe : C.1 41 u = R1.1 11 (8 + u) := s1.bears hu a1
      have hte : C.1 39 0 = R1.1 11 0 := s1.term
      have : v = 0 ∨ v = 1 ∨ v = 2 ∨ v = 3 ∨ v = 4 ∨ v = 5 := by omega
      rcases this with rfl | rfl | rfl | rfl | rfl | rfl
      all_goals
        simp (disch := omega) only [i0, i9, e0, e9, pb_bi, pb_l0, pb_l1, pb_l2, pb_l3, pb_l4, pb_l5, pb_l6, pb_l7, pb_l8, pb_l9, pb_l10, pb_l12, pb_l14, pb_l20, pb_l32, pb_l36, pb_l48, pb_l56, pb_l57, pb_l59, pb_l60, pb_l72, pb_l99, pb_l100, pb_l111, pb_l116, pb_l200, pb_l255, pb_l504, pb_l560, pb_l1000, pb_l9999, pb_l10000, pb_l100000, pb_l1000000, nI_add, pk_mul, pb_cl, pb_b, pb_le_t, pb_le_f, pb_lt_t, pb_lt_f, pb_eq_t, pb_eq_f, fX9_rate_112, fX3_rate, fX4_rate, fX5_rate, fX6_rate, fX7_rate, fX8_rate, fm_let, w9, w0', pb_wl_wl, pb_wl_1, pb_wl_2, hw, hno, hbe, hte, s6, Int64.add_assoc, if_true]
        refine ⟨_, _, _, rfl, rfl, ?_⟩
        exact hh.wl _
    · simp (disch := omega) only [i0, i9, e0, e9, pb_bi, pb_l0, pb_l1, pb_l2, pb_l3, pb_l4, pb_l5, pb_l6, pb_l7, pb_l8, pb_l9, pb_l10, pb_l12, pb_l14, pb_l20, pb_l32, pb_l36, pb_l48, pb_l56, pb_l57, pb_l59, pb_l60, pb_l72, pb_l99, pb_l100, pb_l111, pb_l116, pb_l200, pb_l255, pb_l504, pb_l560, pb_l1000, pb_l9999, pb_l10000, pb_l100000, pb_l1000000, nI_add, pk_mul, pb_cl, pb_b, pb_le_t, pb_le_f, pb_lt_t, pb_lt_f, pb_eq_t, pb_eq_f]
      exact ⟨_, _, _, rfl, rfl, hh⟩
  · simp (disch := omega) only [i0, i9, pb_bi, pb_l0, pb_l1, pb_l2, pb_l3, pb_l4, pb_l5, pb_l6, pb_l7, pb_l8, pb_l9, pb_l10, pb_l12, pb_l14, pb_l20, pb_l32, pb_l36, pb_l48, pb_l56, pb_l57, pb_l59, pb_l60, pb_l72, pb_l99, pb_l100, pb_l111, pb_l116, pb_l200, pb_l255, pb_l504, pb_l560, pb_l1000, pb_l9999, pb_l10000, pb_l100000, pb_l1000000, nI_add, pk_mul, pb_cl, pb_b, pb_le_t, pb_le_f, pb_lt_t, pb_lt_f, pb_eq_t, pb_eq_f]
    exact ⟨_, _, _, rfl, rfl, hh⟩
