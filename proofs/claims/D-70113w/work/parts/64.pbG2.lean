/-! hang: the reference goes through all orders -/
set_option maxRecDepth 100000
theorem pb_isRow {n m w : Nat} {R : fm_M} (hm : m ≤ 6) (hw : w < 46656) (r0 : R.1 2 0 = nI m) (hn : 10 ≤ n) : ∃ R' is, fX9_isRow n R (nI w) = some (if is = true then nI 1 else nI 0, R') ∧ (is = true ↔ pb_inj m (pb_pd m m w)) ∧ (∀ c, c ≠ 18 → R'.1 c = R.1 c) ∧ R'.2 = R.2 ∧ ∀ i, i < m → R'.1 18 i = nI (pb_pd m m w i) := by
  obtain ⟨R', is', g1, g2⟩ := pb_isRow_loop (n := n) hm hw m n 0 true R r0 (by omega) (by omega) (by omega) (fun b hb => ⟨fun h => absurd h (by unfold pb_tb; simp), fun ⟨i, a1, a2, _⟩ => absurd a2 (by omega)⟩) ⟨fun _ i i' a1 a2 => absurd a2 (by omega), fun _ => rfl⟩ (fun i a1 a2 => absurd a2 (by omega))
  rw [Nat.sub_self, Nat.pow_zero, Nat.div_one] at g1
  refine ⟨R', is', ?_, g2⟩
  unfold fX9_isRow
  simp only [fm_let, r0]
  exact g1
def pb_rf (R : fm_M) (u t : Nat) : Nat := (R.1 10 (6 * u + t)).toNatClampNeg
def pb_wt (R : fm_M) (c : Nat) : Nat := (R.1 4 c).toNatClampNeg
def pb_ok1 (R : fm_M) (t c : Nat) : Prop := ¬ R.1 11 (8 + t) < R.1 4 c
def pb_e (R : fm_M) (b : Nat → Nat) (t c : Nat) : Nat := pb_rf R (pb_wh b c 6 0) t * pb_wt R c
def pb_fin (R : fm_M) (b : Nat → Nat) (t c : Nat) : Prop := pb_rf R (pb_wh b c 6 0) t ≤ 45
def pb_HD (m : Nat) (b : Nat → Nat) (R : fm_M) : Prop := m ≤ 6 ∧ pb_perm m b ∧ R.1 2 0 = nI m ∧ (∀ t, t < m → R.1 11 (2 + t) = nI (b t)) ∧ (∀ u t, u < m → t < m → (pb_rf R u t ≤ 45 ∧ R.1 10 (6 * u + t) = nI (pb_rf R u t)) ∨ (pb_rf R u t = 1000000 ∧ R.1 10 (6 * u + t) = nI 1000000)) ∧ ∀ c, c < m → pb_wt R c ≤ 99 ∧ R.1 4 c = nI (pb_wt R c)
def pb_V (m : Nat) (b : Nat → Nat) (R : fm_M) (w : Nat) : Prop := pb_inj m (pb_pd m m w) ∧ ∀ i, i < m → pb_ok1 R i (pb_pd m m w i) ∧ pb_fin R b i (pb_pd m m w i)
def pb_co (m : Nat) (b : Nat → Nat) (R : fm_M) (w : Nat) : Nat := pb_cnt (fun i => pb_e R b i (pb_pd m m w i)) m 0
noncomputable def pb_stp (m : Nat) (b : Nat → Nat) (R : fm_M) (a : Nat × Nat) (w : Nat) : Nat × Nat := @ite _ (pb_V m b R w ∧ pb_co m b R w < a.1) (Classical.propDecidable _) (pb_co m b R w, w) a
theorem pb_stp_n {m : Nat} {b : Nat → Nat} {R : fm_M} {a : Nat × Nat} {w : Nat} (h : ¬ (pb_V m b R w ∧ pb_co m b R w < a.1)) : pb_stp m b R a w = a := pb_ifn h
theorem pb_stp_p {m : Nat} {b : Nat → Nat} {R : fm_M} {a : Nat × Nat} {w : Nat} (h : pb_V m b R w ∧ pb_co m b R w < a.1) : pb_stp m b R a w = (pb_co m b R w, w) := pb_ifp h
theorem pb_cnt_le' {g : Nat → Nat} {B : Nat} : ∀ (j t : Nat), (∀ i, t ≤ i → i < t + j → g i ≤ B) → pb_cnt g j t ≤ B * j := by
  intro j
  induction j with
  | zero => intro t _; rw [pb_cnt]; omega
  | succ j ih => intro t h; rw [pb_cnt, Nat.mul_succ]; have := ih (t + 1) (fun i h1 h2 => h i (by omega) (by omega)); have := h t (by omega) (by omega); omega
theorem pb_e_le {m : Nat} {b : Nat → Nat} {R : fm_M} (H : pb_HD m b R) {t c : Nat} (hc : c < m) (hf : pb_fin R b t c) : pb_e R b t c ≤ 4455 := by
  have h1 := (H.2.2.2.2.2 c hc).1
  have := Nat.mul_le_mul hf h1
  exact this
theorem pb_co_le {m : Nat} {b : Nat → Nat} {R : fm_M} (H : pb_HD m b R) {w : Nat} (hV : ∀ i, i < m → pb_fin R b i (pb_pd m m w i)) : pb_co m b R w ≤ 26730 := by
  have h6 := H.1
  by_cases hm : m = 0
  · subst hm; show 0 ≤ _; omega
  · have := pb_cnt_le' (g := fun i => pb_e R b i (pb_pd m m w i)) (B := 4455) m 0 (fun i _ hi => pb_e_le H (pb_pd_lt (by omega)) (hV i (by omega)))
    have h2 : 4455 * m ≤ 4455 * 6 := Nat.mul_le_mul_left _ h6
    exact Nat.le_trans this h2
def pb_ag (R0 R : fm_M) : Prop := (∀ c, c ≠ 18 → c ≠ 19 → R.1 c = R0.1 c) ∧ R.2 = R0.2
theorem pb_isBorne {n m : Nat} {b : Nat → Nat} {R0 R : fm_M} {g : Nat → Nat} (H : pb_HD m b R0) (ha : pb_ag R0 R) (hn : 10 ≤ n) (hg : ∀ i, i < m → g i < m ∧ R.1 18 i = nI (g i)) : ∃ is, fX9_isBorne n R = some (if is = true then nI 1 else nI 0, R) ∧ (is = true ↔ ∀ i, i < m → pb_ok1 R0 i (g i)) := by
  obtain ⟨hm, hb, r0, hr, hrf, hwt⟩ := H
  have loop : ∀ (k t : Nat) (is : Bool), t ≤ m → m < t + k → (is = true ↔ ∀ i, i < t → pb_ok1 R0 i (g i)) → ∃ is', fX9_isBorne_4 n k R (if is = true then nI 1 else nI 0) (nI t) = some (if is' = true then nI 1 else nI 0, R) ∧ (is' = true ↔ ∀ i, i < m → pb_ok1 R0 i (g i)) := by
    intro k
    induction k with
    | zero => intro t is h1 h2; omega
    | succ k ih =>
      intro t is h1 h2 h3
      rw [fX9_isBorne_4, ha.1 2 (by omega) (by omega), ha.1 11 (by omega) (by omega), ha.1 4 (by omega) (by omega)]
      by_cases ht : t = m
      · subst ht
        cases is
        · simp (disch := omega) only [pb_l0, pb_l1, pb_l2, pb_l3, pb_l4, pb_l5, pb_l6, pb_l7, pb_l8, pb_l9, pb_l10, pb_l12, pb_l14, pb_l20, pb_l32, pb_l36, pb_l48, pb_l56, pb_l57, pb_l59, pb_l60, pb_l72, pb_l99, pb_l100, pb_l111, pb_l116, pb_l200, pb_l255, pb_l504, pb_l560, pb_l1000, pb_l9999, pb_l10000, pb_l100000, pb_l1000000, nI_add, pk_mul, pb_cl, pb_b, pb_le_t, pb_le_f, pb_lt_t, pb_lt_f, pb_eq_t, pb_eq_f, r0, Bool.false_eq_true, if_false, pb_bz0]
          exact ⟨false, rfl, h3⟩
        · simp (disch := omega) only [pb_l0, pb_l1, pb_l2, pb_l3, pb_l4, pb_l5, pb_l6, pb_l7, pb_l8, pb_l9, pb_l10, pb_l12, pb_l14, pb_l20, pb_l32, pb_l36, pb_l48, pb_l56, pb_l57, pb_l59, pb_l60, pb_l72, pb_l99, pb_l100, pb_l111, pb_l116, pb_l200, pb_l255, pb_l504, pb_l560, pb_l1000, pb_l9999, pb_l10000, pb_l100000, pb_l1000000, nI_add, pk_mul, pb_cl, pb_b, pb_le_t, pb_le_f, pb_lt_t, pb_lt_f, pb_eq_t, pb_eq_f, r0, if_true, pb_bz1]
          exact ⟨true, rfl, h3⟩
      · obtain ⟨g1, g2⟩ := hg t (by omega)
        have nxt : ∀ is2 : Bool, (is2 = true ↔ (is = true ∧ pb_ok1 R0 t (g t))) → (is2 = true ↔ ∀ i, i < t + 1 → pb_ok1 R0 i (g i)) := by
          intro is2 h
          rw [h, h3]
          constructor
          · rintro ⟨a1, a2⟩ i hi
            by_cases ei : i = t
            · rw [ei]; exact a2
            · exact a1 i (by omega)
          · intro a
            exact ⟨fun i hi => a i (by omega), a t (by omega)⟩
        cases is
        · have := ih (t + 1) false (by omega) (by omega) (nxt false ⟨fun h => (by cases h), fun h => (by cases h.1)⟩)
          simp only [Bool.false_eq_true, if_false] at this
          simp (disch := omega) only [pb_l0, pb_l1, pb_l2, pb_l3, pb_l4, pb_l5, pb_l6, pb_l7, pb_l8, pb_l9, pb_l10, pb_l12, pb_l14, pb_l20, pb_l32, pb_l36, pb_l48, pb_l56, pb_l57, pb_l59, pb_l60, pb_l72, pb_l99, pb_l100, pb_l111, pb_l116, pb_l200, pb_l255, pb_l504, pb_l560, pb_l1000, pb_l9999, pb_l10000, pb_l100000, pb_l1000000, nI_add, pk_mul, pb_cl, pb_b, pb_le_t, pb_le_f, pb_lt_t, pb_lt_f, pb_eq_t, pb_eq_f, r0, Bool.false_eq_true, if_false]
          exact this
        · by_cases c : R0.1 11 (8 + t) < R0.1 4 (g t)
          · have := ih (t + 1) false (by omega) (by omega) (nxt false ⟨fun h => (by cases h), fun h => absurd c h.2⟩)
            simp only [Bool.false_eq_true, if_false] at this
            simp (disch := omega) only [pb_l0, pb_l1, pb_l2, pb_l3, pb_l4, pb_l5, pb_l6, pb_l7, pb_l8, pb_l9, pb_l10, pb_l12, pb_l14, pb_l20, pb_l32, pb_l36, pb_l48, pb_l56, pb_l57, pb_l59, pb_l60, pb_l72, pb_l99, pb_l100, pb_l111, pb_l116, pb_l200, pb_l255, pb_l504, pb_l560, pb_l1000, pb_l9999, pb_l10000, pb_l100000, pb_l1000000, nI_add, pk_mul, pb_cl, pb_b, pb_le_t, pb_le_f, pb_lt_t, pb_lt_f, pb_eq_t, pb_eq_f, r0, if_true, g2, pb_ifp c]
            exact this
          · have := ih (t + 1) true (by omega) (by omega) (nxt true ⟨fun _ => ⟨rfl, c⟩, fun _ => rfl⟩)
            simp only [if_true] at this
            simp (disch := omega) only [pb_l0, pb_l1, pb_l2, pb_l3, pb_l4, pb_l5, pb_l6, pb_l7, pb_l8, pb_l9, pb_l10, pb_l12, pb_l14, pb_l20, pb_l32, pb_l36, pb_l48, pb_l56, pb_l57, pb_l59, pb_l60, pb_l72, pb_l99, pb_l100, pb_l111, pb_l116, pb_l200, pb_l255, pb_l504, pb_l560, pb_l1000, pb_l9999, pb_l10000, pb_l100000, pb_l1000000, nI_add, pk_mul, pb_cl, pb_b, pb_le_t, pb_le_f, pb_lt_t, pb_lt_f, pb_eq_t, pb_eq_f, r0, if_true, g2, pb_ifn c]
            exact this
  exact loop n 0 true (by omega) (by omega) ⟨fun _ i hi => by omega, fun _ => rfl⟩
theorem pb_costRow {n m : Nat} {b : Nat → Nat} {R0 R : fm_M} {g : Nat → Nat} (H : pb_HD m b R0) (ha : pb_ag R0 R) (hn : 10 ≤ n) (hg : ∀ i, i < m → g i < m ∧ R.1 18 i = nI (g i)) : ∃ x, fX9_costOfRow n R = some (nI x, R) ∧ (((∀ i, i < m → pb_fin R0 b i (g i)) ∧ x = pb_cnt (fun i => pb_e R0 b i (g i)) m 0) ∨ ((¬ ∀ i, i < m → pb_fin R0 b i (g i)) ∧ x = 1000000)) := by
  have H0 := H
  obtain ⟨hm, hb, r0, hr, hrf, hwt⟩ := H
  have hr' : ∀ t, t < m → R.1 11 (2 + t) = nI (b t) := fun t ht => by rw [ha.1 11 (by omega) (by omega)]; exact hr t ht
  have loop : ∀ (k t x : Nat), t ≤ m → m < t + k → (((∀ i, i < t → pb_fin R0 b i (g i)) ∧ x = pb_cnt (fun i => pb_e R0 b i (g i)) t 0) ∨ ((¬ ∀ i, i < t → pb_fin R0 b i (g i)) ∧ x = 1000000)) → ∃ y, fX9_costOfRow_4 n k R (nI x) (nI t) = some (nI y, R) ∧ (((∀ i, i < m → pb_fin R0 b i (g i)) ∧ y = pb_cnt (fun i => pb_e R0 b i (g i)) m 0) ∨ ((¬ ∀ i, i < m → pb_fin R0 b i (g i)) ∧ y = 1000000)) := by
    intro k
    induction k with
    | zero => intro t x h1 h2; omega
    | succ k ih =>
      intro t x h1 h2 h3
      rw [fX9_costOfRow_4]
      have e2 : R.1 2 0 = nI m := by rw [ha.1 2 (by omega) (by omega)]; exact r0
      by_cases ht : t = m
      · subst ht
        simp (disch := omega) only [pb_l0, pb_l1, pb_l2, pb_l3, pb_l4, pb_l5, pb_l6, pb_l7, pb_l8, pb_l9, pb_l10, pb_l12, pb_l14, pb_l20, pb_l32, pb_l36, pb_l48, pb_l56, pb_l57, pb_l59, pb_l60, pb_l72, pb_l99, pb_l100, pb_l111, pb_l116, pb_l200, pb_l255, pb_l504, pb_l560, pb_l1000, pb_l9999, pb_l10000, pb_l100000, pb_l1000000, nI_add, pk_mul, pb_cl, pb_b, pb_le_t, pb_le_f, pb_lt_t, pb_lt_f, pb_eq_t, pb_eq_f, e2]
        exact ⟨x, rfl, h3⟩
      · obtain ⟨g1, g2⟩ := hg t (by omega)
        obtain ⟨u1, u2, u3⟩ := pb_where9 (n := n) (c := 11) (R := R) hb hm g1 hr' hn
        have e10 : R.1 10 = R0.1 10 := ha.1 10 (by omega) (by omega)
        have e4 : R.1 4 = R0.1 4 := ha.1 4 (by omega) (by omega)
        obtain ⟨w1, w2⟩ := hwt _ g1
        rcases hrf _ t u1 (by omega) with ⟨v1, v2⟩ | ⟨v1, v2⟩
        · have hfin : pb_fin R0 b t (g t) := v1
          rcases h3 with ⟨p1, p2⟩ | ⟨p1, p2⟩
          · have p1' : ∀ i, i < t + 1 → pb_fin R0 b i (g i) := fun i hi => by
              by_cases ei : i = t
              · rw [ei]; exact hfin
              · exact p1 i (by omega)
            have hx : x ≤ 4455 * t := by
              rw [p2]
              exact pb_cnt_le' t 0 (fun i _ hi => pb_e_le H0 (hg i (by omega)).1 (p1 i (by omega)))
            simp (disch := omega) only [pb_l0, pb_l1, pb_l2, pb_l3, pb_l4, pb_l5, pb_l6, pb_l7, pb_l8, pb_l9, pb_l10, pb_l12, pb_l14, pb_l20, pb_l32, pb_l36, pb_l48, pb_l56, pb_l57, pb_l59, pb_l60, pb_l72, pb_l99, pb_l100, pb_l111, pb_l116, pb_l200, pb_l255, pb_l504, pb_l560, pb_l1000, pb_l9999, pb_l10000, pb_l100000, pb_l1000000, nI_add, pk_mul, pb_cl, pb_b, pb_le_t, pb_le_f, pb_lt_t, pb_lt_f, pb_eq_t, pb_eq_f, e2, g2, u3, pb_bi, e10, v2, fm_let, e4, w2]
            refine ih (t + 1) _ (by omega) (by omega) (Or.inl ⟨p1', ?_⟩)
            rw [pb_cnt_last, Nat.zero_add, p2, Nat.mul_comm]
            rfl
          · simp (disch := omega) only [pb_l0, pb_l1, pb_l2, pb_l3, pb_l4, pb_l5, pb_l6, pb_l7, pb_l8, pb_l9, pb_l10, pb_l12, pb_l14, pb_l20, pb_l32, pb_l36, pb_l48, pb_l56, pb_l57, pb_l59, pb_l60, pb_l72, pb_l99, pb_l100, pb_l111, pb_l116, pb_l200, pb_l255, pb_l504, pb_l560, pb_l1000, pb_l9999, pb_l10000, pb_l100000, pb_l1000000, nI_add, pk_mul, pb_cl, pb_b, pb_le_t, pb_le_f, pb_lt_t, pb_lt_f, pb_eq_t, pb_eq_f, e2, g2, u3, pb_bi, e10, v2, fm_let, p2]
            exact ih (t + 1) _ (by omega) (by omega) (Or.inr ⟨fun h => p1 (fun i hi => h i (by omega)), rfl⟩)
        · simp (disch := omega) only [pb_l0, pb_l1, pb_l2, pb_l3, pb_l4, pb_l5, pb_l6, pb_l7, pb_l8, pb_l9, pb_l10, pb_l12, pb_l14, pb_l20, pb_l32, pb_l36, pb_l48, pb_l56, pb_l57, pb_l59, pb_l60, pb_l72, pb_l99, pb_l100, pb_l111, pb_l116, pb_l200, pb_l255, pb_l504, pb_l560, pb_l1000, pb_l9999, pb_l10000, pb_l100000, pb_l1000000, nI_add, pk_mul, pb_cl, pb_b, pb_le_t, pb_le_f, pb_lt_t, pb_lt_f, pb_eq_t, pb_eq_f, e2, g2, u3, pb_bi, e10, v2, fm_let]
          refine ih (t + 1) _ (by omega) (by omega) (Or.inr ⟨fun h => ?_, rfl⟩)
          have := h t (by omega)
          unfold pb_fin at this
          omega
  exact loop n 0 0 (by omega) (by omega) (Or.inl ⟨fun i hi => by omega, rfl⟩)
theorem pb_hang64 {n m : Nat} {l1 l2 l3 : Int32} (hm : m ≤ 6) (k25 : fm_M → Int32 → Int32 → Int32 → Option (Int32 × fm_M)) : ∀ (k t : Nat) (R : fm_M), R.1 2 0 = nI m → (∀ i, i < t → R.1 19 i = R.1 18 i) → t ≤ m → m < t + k → ∃ R', fX9_hang_64 n k25 k R l1 l2 l3 (nI t) = k25 R' l1 l2 (l3 + nI 1) ∧ (∀ c, c ≠ 19 → R'.1 c = R.1 c) ∧ R'.2 = R.2 ∧ ∀ i, i < m → R'.1 19 i = R.1 18 i := by
  intro k
  induction k with
  | zero => intro t R h0 h1 h2 h3; omega
  | succ k ih =>
    intro t R r0 hd h1 h2
    rw [fX9_hang_64]
    by_cases ht : t = m
    · subst ht
      simp (disch := omega) only [pb_l0, pb_l1, pb_l2, pb_l3, pb_l4, pb_l5, pb_l6, pb_l7, pb_l8, pb_l9, pb_l10, pb_l12, pb_l14, pb_l20, pb_l32, pb_l36, pb_l48, pb_l56, pb_l57, pb_l59, pb_l60, pb_l72, pb_l99, pb_l100, pb_l111, pb_l116, pb_l200, pb_l255, pb_l504, pb_l560, pb_l1000, pb_l9999, pb_l10000, pb_l100000, pb_l1000000, nI_add, pk_mul, pb_cl, pb_b, pb_le_t, pb_le_f, pb_lt_t, pb_lt_f, pb_eq_t, pb_eq_f, r0]
      exact ⟨R, rfl, fun _ _ => rfl, rfl, hd⟩
    · simp (disch := omega) only [pb_l0, pb_l1, pb_l2, pb_l3, pb_l4, pb_l5, pb_l6, pb_l7, pb_l8, pb_l9, pb_l10, pb_l12, pb_l14, pb_l20, pb_l32, pb_l36, pb_l48, pb_l56, pb_l57, pb_l59, pb_l60, pb_l72, pb_l99, pb_l100, pb_l111, pb_l116, pb_l200, pb_l255, pb_l504, pb_l560, pb_l1000, pb_l9999, pb_l10000, pb_l100000, pb_l1000000, nI_add, pk_mul, pb_cl, pb_b, pb_le_t, pb_le_f, pb_lt_t, pb_lt_f, pb_eq_t, pb_eq_f, r0, fm_let]
      obtain ⟨R', e1, e2, e3, e4⟩ := ih (t + 1) (fm_wr R 19 t (R.1 18 t)) (by rw [pb_wr_n (by omega)]; exact r0) (fun i hi => by
        rw [pb_wr_e, pb_wr_n (by omega)]
        by_cases ei : i = t
        · subst ei; rw [pb_up_e]
        · rw [pb_up_n ei]; exact hd i (by omega)) (by omega) (by omega)
      exact ⟨R', e1, fun c hc => (e2 c hc).trans (pb_wr_n hc), e3, fun i hi => by rw [e4 i hi, pb_wr_n (by omega)]⟩
/-- the answer -/
def pb_ans (m : Nat) (l : Int32) (a : Nat × Nat) : Int32 := if a.1 = 100000 then -nI 9 else if l = -nI 1 then nI a.1 else nI (pb_pd m m a.2 l.toNatClampNeg)
theorem pb_hang9 {n m : Nat} {b : Nat → Nat} {R0 : fm_M} {l : Int32} (H : pb_HD m b R0) (hn : 10 ≤ n) (hl : l = -nI 1 ∨ (∃ t, t < m ∧ l = nI t)) : ∀ (k w : Nat) (R : fm_M) (a : Nat × Nat), w ≤ m ^ m → m ^ m < w + k → pb_ag R0 R → (a.1 = 100000 ∨ (a.1 ≤ 26730 ∧ ∀ i, i < m → R.1 19 i = nI (pb_pd m m a.2 i))) → ∃ R', fX9_hang_25 n k R l (nI (if a.1 = 100000 then 1000000 else a.1)) (nI w) = some (pb_ans m l (pb_fold (pb_stp m b R0) (m ^ m - w) w a), R') ∧ pb_ag R0 R' := by
  have H0 := H
  obtain ⟨hm, hb, r0, hr, hrf, hwt⟩ := H
  have hmm : m ^ m ≤ 46656 := by
    have : m = 0 ∨ m = 1 ∨ m = 2 ∨ m = 3 ∨ m = 4 ∨ m = 5 ∨ m = 6 := by omega
    rcases this with rfl | rfl | rfl | rfl | rfl | rfl | rfl <;> decide
  intro k
  induction k with
  | zero => intro w R a h1 h2; omega
  | succ k ih =>
    intro w R a h1 h2 ha h3
    have e2 : R.1 2 0 = nI m := by rw [ha.1 2 (by omega) (by omega)]; exact r0
    rw [fX9_hang_25, pb_rows hm e2 hn]
    simp only [pb_bi]
    by_cases hw : w = m ^ m
    · subst hw
      rw [Nat.sub_self]
      simp (disch := omega) only [pb_l0, pb_l1, pb_l2, pb_l3, pb_l4, pb_l5, pb_l6, pb_l7, pb_l8, pb_l9, pb_l10, pb_l12, pb_l14, pb_l20, pb_l32, pb_l36, pb_l48, pb_l56, pb_l57, pb_l59, pb_l60, pb_l72, pb_l99, pb_l100, pb_l111, pb_l116, pb_l200, pb_l255, pb_l504, pb_l560, pb_l1000, pb_l9999, pb_l10000, pb_l100000, pb_l1000000, nI_add, pk_mul, pb_cl, pb_b, pb_le_t, pb_le_f, pb_lt_t, pb_lt_f, pb_eq_t, pb_eq_f]
      refine ⟨R, ?_, ha⟩
      unfold pb_ans
      rw [pb_fold]
      rcases h3 with h3 | ⟨h3, h4⟩
      · simp (disch := omega) only [pb_ifp h3, pb_l0, pb_l1, pb_l2, pb_l3, pb_l4, pb_l5, pb_l6, pb_l7, pb_l8, pb_l9, pb_l10, pb_l12, pb_l14, pb_l20, pb_l32, pb_l36, pb_l48, pb_l56, pb_l57, pb_l59, pb_l60, pb_l72, pb_l99, pb_l100, pb_l111, pb_l116, pb_l200, pb_l255, pb_l504, pb_l560, pb_l1000, pb_l9999, pb_l10000, pb_l100000, pb_l1000000, nI_add, pk_mul, pb_cl, pb_b, pb_le_t, pb_le_f, pb_lt_t, pb_lt_f, pb_eq_t, pb_eq_f, if_true]
      · have e : ¬ a.1 = 100000 := by omega
        simp (disch := omega) only [pb_ifn e, pb_l0, pb_l1, pb_l2, pb_l3, pb_l4, pb_l5, pb_l6, pb_l7, pb_l8, pb_l9, pb_l10, pb_l12, pb_l14, pb_l20, pb_l32, pb_l36, pb_l48, pb_l56, pb_l57, pb_l59, pb_l60, pb_l72, pb_l99, pb_l100, pb_l111, pb_l116, pb_l200, pb_l255, pb_l504, pb_l560, pb_l1000, pb_l9999, pb_l10000, pb_l100000, pb_l1000000, nI_add, pk_mul, pb_cl, pb_b, pb_le_t, pb_le_f, pb_lt_t, pb_lt_f, pb_eq_t, pb_eq_f]
        rcases hl with hl | ⟨t, ht, hl⟩
        · simp only [pb_ifp hl]
        · have hl1 := pb_nm1 (s := t) (by omega)
          rw [hl]
          simp (disch := omega) only [pb_ifn hl1, pb_l0, pb_l1, pb_l2, pb_l3, pb_l4, pb_l5, pb_l6, pb_l7, pb_l8, pb_l9, pb_l10, pb_l12, pb_l14, pb_l20, pb_l32, pb_l36, pb_l48, pb_l56, pb_l57, pb_l59, pb_l60, pb_l72, pb_l99, pb_l100, pb_l111, pb_l116, pb_l200, pb_l255, pb_l504, pb_l560, pb_l1000, pb_l9999, pb_l10000, pb_l100000, pb_l1000000, nI_add, pk_mul, pb_cl, pb_b, pb_le_t, pb_le_f, pb_lt_t, pb_lt_f, pb_eq_t, pb_eq_f, h4]
    · have hf : m ^ m - w = (m ^ m - (w + 1)) + 1 := by omega
      obtain ⟨R1, is, q1, q2, q3, q4, q5⟩ := pb_isRow (n := n) (w := w) hm (by omega) e2 hn
      have ha1 : pb_ag R0 R1 := ⟨fun c c1 c2 => (q3 c c1).trans (ha.1 c c1 c2), q4.trans ha.2⟩
      have h31 : a.1 = 100000 ∨ (a.1 ≤ 26730 ∧ ∀ i, i < m → R1.1 19 i = nI (pb_pd m m a.2 i)) := by
        rcases h3 with h3 | ⟨h3, h4⟩
        · exact Or.inl h3
        · exact Or.inr ⟨h3, fun i hi => by rw [q3 19 (by omega)]; exact h4 i hi⟩
      rw [hf, pb_fold]
      have no : pb_stp m b R0 a w = a → ∃ R', fX9_hang_25 n k R1 l (nI (if a.1 = 100000 then 1000000 else a.1)) (nI (w + 1)) = some (pb_ans m l (pb_fold (pb_stp m b R0) (m ^ m - (w + 1)) (w + 1) (pb_stp m b R0 a w)), R') ∧ pb_ag R0 R' := by
        intro e
        rw [e]
        exact ih (w + 1) R1 a (by omega) (by omega) ha1 h31
      simp (disch := omega) only [q1, pb_bi, pb_l0, pb_l1, pb_l2, pb_l3, pb_l4, pb_l5, pb_l6, pb_l7, pb_l8, pb_l9, pb_l10, pb_l12, pb_l14, pb_l20, pb_l32, pb_l36, pb_l48, pb_l56, pb_l57, pb_l59, pb_l60, pb_l72, pb_l99, pb_l100, pb_l111, pb_l116, pb_l200, pb_l255, pb_l504, pb_l560, pb_l1000, pb_l9999, pb_l10000, pb_l100000, pb_l1000000, nI_add, pk_mul, pb_cl, pb_b, pb_le_t, pb_le_f, pb_lt_t, pb_lt_f, pb_eq_t, pb_eq_f]
      cases is
      · simp (disch := omega) only [Bool.false_eq_true, if_false, pb_l0, pb_l1, pb_l2, pb_l3, pb_l4, pb_l5, pb_l6, pb_l7, pb_l8, pb_l9, pb_l10, pb_l12, pb_l14, pb_l20, pb_l32, pb_l36, pb_l48, pb_l56, pb_l57, pb_l59, pb_l60, pb_l72, pb_l99, pb_l100, pb_l111, pb_l116, pb_l200, pb_l255, pb_l504, pb_l560, pb_l1000, pb_l9999, pb_l10000, pb_l100000, pb_l1000000, nI_add, pk_mul, pb_cl, pb_b, pb_le_t, pb_le_f, pb_lt_t, pb_lt_f, pb_eq_t, pb_eq_f]
        exact no (pb_stp_n (fun h => by have := q2.mpr h.1.1; cases this))
      · simp (disch := omega) only [if_true, pb_l0, pb_l1, pb_l2, pb_l3, pb_l4, pb_l5, pb_l6, pb_l7, pb_l8, pb_l9, pb_l10, pb_l12, pb_l14, pb_l20, pb_l32, pb_l36, pb_l48, pb_l56, pb_l57, pb_l59, pb_l60, pb_l72, pb_l99, pb_l100, pb_l111, pb_l116, pb_l200, pb_l255, pb_l504, pb_l560, pb_l1000, pb_l9999, pb_l10000, pb_l100000, pb_l1000000, nI_add, pk_mul, pb_cl, pb_b, pb_le_t, pb_le_f, pb_lt_t, pb_lt_f, pb_eq_t, pb_eq_f]
        have hinj := q2.mp rfl
        have hm0 : 0 < m ∨ m = 0 := by omega
        have hg : ∀ i, i < m → pb_pd m m w i < m ∧ R1.1 18 i = nI (pb_pd m m w i) := fun i hi => ⟨pb_pd_lt (by omega), q5 i hi⟩
        obtain ⟨is2, b1, b2⟩ := pb_isBorne (n := n) (g := pb_pd m m w) H0 ha1 hn hg
        simp (disch := omega) only [b1, pb_bi]
        cases is2
        · simp (disch := omega) only [Bool.false_eq_true, if_false, pb_l0, pb_l1, pb_l2, pb_l3, pb_l4, pb_l5, pb_l6, pb_l7, pb_l8, pb_l9, pb_l10, pb_l12, pb_l14, pb_l20, pb_l32, pb_l36, pb_l48, pb_l56, pb_l57, pb_l59, pb_l60, pb_l72, pb_l99, pb_l100, pb_l111, pb_l116, pb_l200, pb_l255, pb_l504, pb_l560, pb_l1000, pb_l9999, pb_l10000, pb_l100000, pb_l1000000, nI_add, pk_mul, pb_cl, pb_b, pb_le_t, pb_le_f, pb_lt_t, pb_lt_f, pb_eq_t, pb_eq_f]
          exact no (pb_stp_n (fun h => by have := b2.mpr (fun i hi => (h.1.2 i hi).1); cases this))
        · simp (disch := omega) only [if_true, pb_l0, pb_l1, pb_l2, pb_l3, pb_l4, pb_l5, pb_l6, pb_l7, pb_l8, pb_l9, pb_l10, pb_l12, pb_l14, pb_l20, pb_l32, pb_l36, pb_l48, pb_l56, pb_l57, pb_l59, pb_l60, pb_l72, pb_l99, pb_l100, pb_l111, pb_l116, pb_l200, pb_l255, pb_l504, pb_l560, pb_l1000, pb_l9999, pb_l10000, pb_l100000, pb_l1000000, nI_add, pk_mul, pb_cl, pb_b, pb_le_t, pb_le_f, pb_lt_t, pb_lt_f, pb_eq_t, pb_eq_f]
          have hok := b2.mp rfl
          obtain ⟨x, c1, c2⟩ := pb_costRow (n := n) (g := pb_pd m m w) H0 ha1 hn hg
          simp (disch := omega) only [c1, pb_bi]
          have ham : a.1 ≤ 100000 := by omega
          rcases c2 with ⟨c2, c3⟩ | ⟨c2, c3⟩
          · have hV : pb_V m b R0 w := ⟨hinj, fun i hi => ⟨hok i hi, c2 i hi⟩⟩
            have hx : x = pb_co m b R0 w := c3
            have hxl := pb_co_le H0 (w := w) c2
            rw [← hx] at hxl
            by_cases hlt : x < a.1
            · have e1 : pb_stp m b R0 a w = (x, w) := by rw [hx]; exact pb_stp_p ⟨hV, by rw [← hx]; exact hlt⟩
              have hne : ¬ nI (if a.1 = 100000 then 1000000 else a.1) ≤ nI x := by
                rw [nI_leI (by split <;> omega) (by omega)]
                split <;> omega
              simp only [pb_ifn hne]
              have e3 : R1.1 2 0 = nI m := by rw [ha1.1 2 (by omega) (by omega)]; exact r0
              obtain ⟨R2, d1, d2, d3, d4⟩ := pb_hang64 (n := n) (l1 := l) (l2 := nI x) (l3 := nI w) hm (fX9_hang_25 n k) n 0 R1 e3 (fun i hi => by omega) (by omega) (by omega)
              rw [d1, nI_add, e1]
              have ex : (if x = 100000 then 1000000 else x) = x := if_neg (by omega)
              have := ih (w + 1) R2 (x, w) (by omega) (by omega) ⟨fun c c1 c2 => (d2 c c2).trans (ha1.1 c c1 c2), d3.trans ha1.2⟩ (Or.inr ⟨hxl, fun i hi => by rw [d4 i hi]; exact q5 i hi⟩)
              rw [ex] at this
              exact this
            · have hle : nI (if a.1 = 100000 then 1000000 else a.1) ≤ nI x := by
                rw [nI_leI (by split <;> omega) (by omega)]
                split <;> omega
              simp only [pb_ifp hle]
              exact no (pb_stp_n (fun h => hlt (by rw [hx]; exact h.2)))
          · have hle : nI (if a.1 = 100000 then 1000000 else a.1) ≤ nI x := by
              rw [nI_leI (by split <;> omega) (by omega), c3]
              split <;> omega
            simp only [pb_ifp hle]
            exact no (pb_stp_n (fun h => c2 (fun i hi => (h.1.2 i hi).2)))
