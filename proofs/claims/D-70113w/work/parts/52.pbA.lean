/-! operations that read, or write a cell or two -/
set_option maxRecDepth 100000
theorem pb_byte : ∀ v, v < 256 → (nI v).toInt8.toInt32.toInt8.toInt32 &&& 255 = nI v := by decide +kernel
theorem pb_type {n bk : Nat} {C R : fm_M} (h : pb_R bk C R) (l : Int32) : pb_ok bk (fX0_type n bk C l) (fX9_type n R l) := by
  have h' := h.thrown
  unfold fX9_type fX0_type
  simp only [fm_let, pb_l0, pb_l255]
  rw [pb_l0] at h'
  generalize fm_wr R 0 0 (nI 0) = R1 at h' ⊢
  clear h
  rcases pb_in n bk C R1 0 255 (by omega) (by omega) l with ⟨v, _, hv, rfl, e0, e9⟩ | ⟨_, e0, e9⟩
  · obtain ⟨m, o, d, f, y, p, hB, h1, h2, h3, h4, ⟨y1, y2, y3, y4⟩, h6⟩ := h'
    have hbk := hB.1.2.2
    by_cases hy : y = 200
    · simp (disch := omega) only [e0, e9, pb_bi, pb_l0, pb_l1, pb_l2, pb_l3, pb_l4, pb_l5, pb_l6, pb_l7, pb_l8, pb_l9, pb_l10, pb_l12, pb_l14, pb_l20, pb_l32, pb_l36, pb_l48, pb_l56, pb_l57, pb_l59, pb_l60, pb_l72, pb_l99, pb_l100, pb_l111, pb_l116, pb_l200, pb_l255, pb_l504, pb_l560, pb_l1000, pb_l9999, pb_l10000, pb_l100000, pb_l1000000, nI_add, pk_mul, pb_cl, pb_b, pb_le_t, pb_le_f, pb_lt_t, pb_lt_f, pb_eq_t, pb_eq_f, y2, y3]
      exact ⟨_, _, _, rfl, rfl, m, o, d, f, y, p, hB, h1, h2, h3, h4, ⟨y1, y2, y3, y4⟩, h6⟩
    · simp (disch := omega) only [e0, e9, pb_bi, pb_l0, pb_l1, pb_l2, pb_l3, pb_l4, pb_l5, pb_l6, pb_l7, pb_l8, pb_l9, pb_l10, pb_l12, pb_l14, pb_l20, pb_l32, pb_l36, pb_l48, pb_l56, pb_l57, pb_l59, pb_l60, pb_l72, pb_l99, pb_l100, pb_l111, pb_l116, pb_l200, pb_l255, pb_l504, pb_l560, pb_l1000, pb_l9999, pb_l10000, pb_l100000, pb_l1000000, nI_add, pk_mul, pb_cl, pb_b, pb_le_t, pb_le_f, pb_lt_t, pb_lt_f, pb_eq_t, pb_eq_f, pb_wr_e, pb_wr_n, pb_row_e, pb_row_n, pb_up_e, pb_up_n, pb_wr_2, pb_row_2, y2, y3]
      refine ⟨_, _, _, rfl, rfl, m, o, d, f, y + 1, p, hB.keep (fun c h1 h2 => ?_) (fun c hc => ?_), h1.same (fun c c1 c2 => ?_) (fun k _ => ?_) hB.1.1, h2.frame hB.1.1 ?_ ?_ (fun c c1 c2 => ?_) ?_ ?_, h3.frame hB.1.1 ?_ (fun c c1 c2 => ?_) ?_ ?_, h4.frame ?_ ?_ ?_ ?_ ?_ ?_, ⟨by omega, ?_, ?_, fun k hk => ?_⟩, h6⟩
      rotate_right
      · by_cases e : k = y
        · subst e
          exact ⟨v, by omega, by simp (disch := omega) only [pb_wr_e, pb_wr_n, pb_row_e, pb_row_n, pb_up_e, pb_up_n, pb_wr_2, pb_row_2], by simp (disch := omega) only [pb_wr_e, pb_wr_n, pb_row_e, pb_row_n, pb_up_e, pb_up_n, pb_wr_2, pb_row_2]; exact pb_byte v (by omega)⟩
        · obtain ⟨c, c1, c2, c3⟩ := y4 k (by omega)
          exact ⟨c, c1, by simp (disch := omega) only [pb_wr_e, pb_wr_n, pb_row_e, pb_row_n, pb_up_e, pb_up_n, pb_wr_2, pb_row_2]; exact c2, by simp (disch := omega) only [pb_wr_e, pb_wr_n, pb_row_e, pb_row_n, pb_up_e, pb_up_n, pb_wr_2, pb_row_2]; exact c3⟩
      all_goals simp (disch := omega) only [pb_wr_e, pb_wr_n, pb_row_e, pb_row_n, pb_up_e, pb_up_n, pb_wr_2, pb_row_2]
  · simp (disch := omega) only [e0, e9, pb_bi, pb_l0, pb_l1, pb_l2, pb_l3, pb_l4, pb_l5, pb_l6, pb_l7, pb_l8, pb_l9, pb_l10, pb_l12, pb_l14, pb_l20, pb_l32, pb_l36, pb_l48, pb_l56, pb_l57, pb_l59, pb_l60, pb_l72, pb_l99, pb_l100, pb_l111, pb_l116, pb_l200, pb_l255, pb_l504, pb_l560, pb_l1000, pb_l9999, pb_l10000, pb_l100000, pb_l1000000, nI_add, pk_mul, pb_cl, pb_b, pb_le_t, pb_le_f, pb_lt_t, pb_lt_f, pb_eq_t, pb_eq_f]
    exact ⟨_, _, _, rfl, rfl, h'⟩
theorem pb_clear {n bk : Nat} {C R : fm_M} (h : pb_R bk C R) : pb_ok bk (fX0_clear n bk C) (fX9_clear n R) := by
  have h' := h.thrown
  unfold fX9_clear fX0_clear
  simp only [fm_let, pb_l0]
  rw [pb_l0] at h'
  generalize fm_wr R 0 0 (nI 0) = R1 at h' ⊢
  clear h
  obtain ⟨m, o, d, f, y, p, hB, h1, h2, h3, h4, ⟨y1, y2, y3, y4⟩, h6⟩ := h'
  have hbk := hB.1.2.2
  rw [y2, y3]
  refine ⟨_, _, _, rfl, rfl, m, o, d, f, 0, p, hB.keep (fun c h1 h2 => ?_) (fun c hc => ?_), h1.same (fun c c1 c2 => ?_) (fun k _ => ?_) hB.1.1, h2.frame hB.1.1 ?_ ?_ (fun c c1 c2 => ?_) ?_ ?_, h3.frame hB.1.1 ?_ (fun c c1 c2 => ?_) ?_ ?_, h4.frame ?_ ?_ ?_ ?_ ?_ ?_, ⟨by omega, ?_, ?_, fun k hk => by omega⟩, h6⟩
  all_goals simp (disch := omega) only [pb_wr_e, pb_wr_n, pb_row_e, pb_row_n, pb_up_e, pb_up_n, pb_wr_2, pb_row_2]
/-! masks -/
def pb_msk (D : Nat → Bool) : Nat → Nat → Int32 → Int32
  | 0, _, acc => acc
  | j + 1, t, acc => pb_msk D j (t + 1) (if D t = true then acc ||| (nI 1 <<< (nI t &&& 31)) else acc)
theorem pb_or0 (x : Int32) : x ||| nI 0 = x := Int32.or_zero
def pb_sm {α : Type} (C R : fm_M) (a b : Option (α × fm_M)) : Prop := ∃ r, a = some (r, C) ∧ b = some (r, R)
theorem pb_fits_loop {n bk m b : Nat} {C R : fm_M} (hm : m ≤ 6) (hb : b < m) (c8 : C.1 bk 8 = nI m) (r0 : R.1 2 0 = nI m) (hw : ∀ t, t < m → C.1 (bk + 2) t = R.1 4 t) (hs : ∀ t, t < m → C.1 41 t = R.1 11 (8 + t)) : ∀ (k t : Nat) (acc : Int32), t ≤ m → m < t + k → pb_sm C R (fX0_fits_4 n bk k C (nI b) acc (nI t)) (fX9_fits_4 n k R (nI b) acc (nI t)) := by
  intro k
  induction k with
  | zero => intro t acc h1 h2; omega
  | succ k ih =>
    intro t acc h1 h2
    rw [fX0_fits_4, fX9_fits_4]
    by_cases ht : t = m
    · simp (disch := omega) only [pb_l0, pb_l1, pb_l2, pb_l3, pb_l4, pb_l5, pb_l6, pb_l7, pb_l8, pb_l9, pb_l10, pb_l12, pb_l14, pb_l20, pb_l32, pb_l36, pb_l48, pb_l56, pb_l57, pb_l59, pb_l60, pb_l72, pb_l99, pb_l100, pb_l111, pb_l116, pb_l200, pb_l255, pb_l504, pb_l560, pb_l1000, pb_l9999, pb_l10000, pb_l100000, pb_l1000000, nI_add, pk_mul, pb_cl, pb_b, pb_le_t, pb_le_f, pb_lt_t, pb_lt_f, pb_eq_t, pb_eq_f, c8, r0]
      exact ⟨_, rfl, rfl⟩
    · simp (disch := omega) only [pb_l0, pb_l1, pb_l2, pb_l3, pb_l4, pb_l5, pb_l6, pb_l7, pb_l8, pb_l9, pb_l10, pb_l12, pb_l14, pb_l20, pb_l32, pb_l36, pb_l48, pb_l56, pb_l57, pb_l59, pb_l60, pb_l72, pb_l99, pb_l100, pb_l111, pb_l116, pb_l200, pb_l255, pb_l504, pb_l560, pb_l1000, pb_l9999, pb_l10000, pb_l100000, pb_l1000000, nI_add, pk_mul, pb_cl, pb_b, pb_le_t, pb_le_f, pb_lt_t, pb_lt_f, pb_eq_t, pb_eq_f, c8, r0, fm_let, hw, hs]
      by_cases hc : R.1 11 (8 + t) < R.1 4 b
      · simp only [pb_ifp hc]
        exact ih (t + 1) _ (by omega) (by omega)
      · simp only [pb_ifn hc]
        exact ih (t + 1) _ (by omega) (by omega)
/-- dumb: the reference's test -/
def pb_dm1 (R : fm_M) (t e : Nat) : Bool := decide (¬ R.1 6 (6 * t + e) ≤ nI 0) && decide (R.1 5 (R.1 11 (2 + e)).toNatClampNeg = R.1 5 (R.1 11 (2 + t)).toNatClampNeg)
def pb_dmF (R : fm_M) (t : Nat) : Nat → Nat → Bool
  | 0, _ => false
  | j + 1, e => pb_dm1 R t e || pb_dmF R t j (e + 1)
def pb_dm (R : fm_M) (m t : Nat) : Bool := pb_dmF R t m 0
theorem pb_isDumb_loop {n m t : Nat} {R : fm_M} {b : Nat → Nat} (hm : m ≤ 6) (ht : t < m) (r0 : R.1 2 0 = nI m) (hb : ∀ t, t < m → b t < m) (hr : ∀ t, t < m → R.1 11 (2 + t) = nI (b t)) : ∀ (k e : Nat) (x : Bool), e ≤ m → m < e + k → fX9_isDumb_4 n k R (nI t) (if x = true then nI 1 else nI 0) (nI e) = some (if (x || pb_dmF R t (m - e) e) = true then nI 1 else nI 0, R) := by
  intro k
  induction k with
  | zero => intro e x h1 h2; omega
  | succ k ih =>
    intro e x h1 h2
    rw [fX9_isDumb_4]
    by_cases he : e = m
    · subst he
      rw [Nat.sub_self]
      cases x
      · simp (disch := omega) only [pb_l0, pb_l1, pb_l2, pb_l3, pb_l4, pb_l5, pb_l6, pb_l7, pb_l8, pb_l9, pb_l10, pb_l12, pb_l14, pb_l20, pb_l32, pb_l36, pb_l48, pb_l56, pb_l57, pb_l59, pb_l60, pb_l72, pb_l99, pb_l100, pb_l111, pb_l116, pb_l200, pb_l255, pb_l504, pb_l560, pb_l1000, pb_l9999, pb_l10000, pb_l100000, pb_l1000000, nI_add, pk_mul, pb_cl, pb_b, pb_le_t, pb_le_f, pb_lt_t, pb_lt_f, pb_eq_t, pb_eq_f, r0, Bool.false_eq_true, if_false, pb_dmF, Bool.or_false, pb_bz0]
      · simp (disch := omega) only [pb_l0, pb_l1, pb_l2, pb_l3, pb_l4, pb_l5, pb_l6, pb_l7, pb_l8, pb_l9, pb_l10, pb_l12, pb_l14, pb_l20, pb_l32, pb_l36, pb_l48, pb_l56, pb_l57, pb_l59, pb_l60, pb_l72, pb_l99, pb_l100, pb_l111, pb_l116, pb_l200, pb_l255, pb_l504, pb_l560, pb_l1000, pb_l9999, pb_l10000, pb_l100000, pb_l1000000, nI_add, pk_mul, pb_cl, pb_b, pb_le_t, pb_le_f, pb_lt_t, pb_lt_f, pb_eq_t, pb_eq_f, r0, if_true, pb_dmF, Bool.or_false, pb_bz1]
    · obtain ⟨j, hj⟩ : ∃ j, m - e = j + 1 := ⟨m - e - 1, by omega⟩
      have hj' : m - (e + 1) = j := by omega
      have hbe := hb e (by omega)
      have hbt := hb t ht
      have ih' := fun x => ih (e + 1) x (by omega) (by omega)
      have iht := ih' true
      have ihf := ih' false
      rw [hj'] at iht ihf
      simp only [if_true, Bool.false_eq_true, if_false, Bool.true_or, Bool.false_or] at iht ihf
      rw [hj, pb_dmF, pb_dm1]
      cases x
      · simp (disch := omega) only [pb_l0, pb_l1, pb_l2, pb_l3, pb_l4, pb_l5, pb_l6, pb_l7, pb_l8, pb_l9, pb_l10, pb_l12, pb_l14, pb_l20, pb_l32, pb_l36, pb_l48, pb_l56, pb_l57, pb_l59, pb_l60, pb_l72, pb_l99, pb_l100, pb_l111, pb_l116, pb_l200, pb_l255, pb_l504, pb_l560, pb_l1000, pb_l9999, pb_l10000, pb_l100000, pb_l1000000, nI_add, pk_mul, pb_cl, pb_b, pb_le_t, pb_le_f, pb_lt_t, pb_lt_f, pb_eq_t, pb_eq_f, r0, Bool.false_eq_true, if_false, Bool.false_or, hr]
        by_cases c1 : R.1 6 (6 * t + e) ≤ nI 0
        · simp only [c1, not_true_eq_false, decide_false, Bool.false_and, Bool.false_or, if_true]
          exact ihf
        · simp only [c1, not_false_eq_true, decide_true, Bool.true_and, if_false]
          by_cases c2 : R.1 5 (b e) = R.1 5 (b t)
          · simp only [c2, decide_true, Bool.true_or, if_true]
            exact iht
          · simp only [pb_ifn c2, c2, decide_false, Bool.false_or]
            exact ihf
      · simp (disch := omega) only [pb_l0, pb_l1, pb_l2, pb_l3, pb_l4, pb_l5, pb_l6, pb_l7, pb_l8, pb_l9, pb_l10, pb_l12, pb_l14, pb_l20, pb_l32, pb_l36, pb_l48, pb_l56, pb_l57, pb_l59, pb_l60, pb_l72, pb_l99, pb_l100, pb_l111, pb_l116, pb_l200, pb_l255, pb_l504, pb_l560, pb_l1000, pb_l9999, pb_l10000, pb_l100000, pb_l1000000, nI_add, pk_mul, pb_cl, pb_b, pb_le_t, pb_le_f, pb_lt_t, pb_lt_f, pb_eq_t, pb_eq_f, r0, if_true, Bool.true_or]
        exact iht
theorem pb_isDumb {n m t : Nat} {R : fm_M} {b : Nat → Nat} (hm : m ≤ 6) (ht : t < m) (r0 : R.1 2 0 = nI m) (hb : ∀ t, t < m → b t < m) (hr : ∀ t, t < m → R.1 11 (2 + t) = nI (b t)) (hn : 10 ≤ n) : fX9_isDumb n R (nI t) = some (if pb_dm R m t = true then nI 1 else nI 0, R) := by
  have h := pb_isDumb_loop (n := n) hm ht r0 hb hr n 0 false (by omega) (by omega)
  exact h
theorem pb_dumb_in {n bk m a : Nat} {C R : fm_M} {b : Nat → Nat} (k4 : fm_M → Int32 → Int32 → Option (Int32 × fm_M)) (hm : m ≤ 6) (ha : a < m) (c8 : C.1 bk 8 = nI m) (hb : ∀ t, t < m → b t < m) (hr : ∀ t, t < m → R.1 11 (2 + t) = nI (b t)) (hc : ∀ t, t < m → C.1 40 t = nI (b t)) (ht : ∀ a b, a < 6 → b < 6 → C.1 (bk + 5 + a) b = R.1 6 (6 * a + b)) (hn : ∀ t, t < m → C.1 (bk + 3) t = R.1 5 t) : ∀ (k e : Nat) (acc : Int32), e ≤ m → m < e + k → fX2_dumb_20 n bk 39 k4 k C acc (nI a) (nI e) = k4 C (if pb_dmF R a (m - e) e = true then acc ||| (nI 1 <<< (nI a &&& 31)) else acc) (nI (a + 1)) := by
  intro k
  induction k with
  | zero => intro e x h1 h2; omega
  | succ k ih =>
    intro e acc h1 h2
    rw [fX2_dumb_20]
    by_cases he : e = m
    · subst he
      rw [Nat.sub_self]
      simp (disch := omega) only [pb_l0, pb_l1, pb_l2, pb_l3, pb_l4, pb_l5, pb_l6, pb_l7, pb_l8, pb_l9, pb_l10, pb_l12, pb_l14, pb_l20, pb_l32, pb_l36, pb_l48, pb_l56, pb_l57, pb_l59, pb_l60, pb_l72, pb_l99, pb_l100, pb_l111, pb_l116, pb_l200, pb_l255, pb_l504, pb_l560, pb_l1000, pb_l9999, pb_l10000, pb_l100000, pb_l1000000, nI_add, pk_mul, pb_cl, pb_b, pb_le_t, pb_le_f, pb_lt_t, pb_lt_f, pb_eq_t, pb_eq_f, c8, pb_dmF, Bool.false_eq_true, if_false]
    · obtain ⟨j, hj⟩ : ∃ j, m - e = j + 1 := ⟨m - e - 1, by omega⟩
      have hj' : m - (e + 1) = j := by omega
      have hbe := hb e (by omega)
      have hba := hb a ha
      have ih' := fun acc => ih (e + 1) acc (by omega) (by omega)
      rw [hj'] at ih'
      rw [hj, pb_dmF, pb_dm1]
      simp (disch := omega) only [pb_l0, pb_l1, pb_l2, pb_l3, pb_l4, pb_l5, pb_l6, pb_l7, pb_l8, pb_l9, pb_l10, pb_l12, pb_l14, pb_l20, pb_l32, pb_l36, pb_l48, pb_l56, pb_l57, pb_l59, pb_l60, pb_l72, pb_l99, pb_l100, pb_l111, pb_l116, pb_l200, pb_l255, pb_l504, pb_l560, pb_l1000, pb_l9999, pb_l10000, pb_l100000, pb_l1000000, nI_add, pk_mul, pb_cl, pb_b, pb_le_t, pb_le_f, pb_lt_t, pb_lt_f, pb_eq_t, pb_eq_f, c8, hc, ht, hn, hr, fm_let, pb_or0]
      by_cases c1 : R.1 6 (6 * a + e) ≤ nI 0
      · simp only [c1, not_true_eq_false, decide_false, Bool.false_and, Bool.false_or, if_true]
        exact ih' acc
      · simp only [c1, not_false_eq_true, decide_true, Bool.true_and, if_false]
        by_cases c2 : R.1 5 (b a) = R.1 5 (b e)
        · simp only [c2, decide_true, Bool.true_or, if_true]
          rw [ih']
          have e2 : (acc ||| (nI 1 <<< (nI a &&& 31))) ||| (nI 1 <<< (nI a &&& 31)) = acc ||| (nI 1 <<< (nI a &&& 31)) := by rw [Int32.or_assoc, Int32.or_self]
          rw [e2]
          split <;> rfl
        · have c3 : ¬ R.1 5 (b e) = R.1 5 (b a) := fun h => c2 h.symm
          simp only [pb_ifn c2, c3, decide_false, Bool.false_or]
          exact ih' acc
theorem pb_dumb_loop {n bk m : Nat} {C R : fm_M} {b : Nat → Nat} (hn : 10 ≤ n) (hm : m ≤ 6) (c8 : C.1 bk 8 = nI m) (hb : ∀ t, t < m → b t < m) (hr : ∀ t, t < m → R.1 11 (2 + t) = nI (b t)) (hc : ∀ t, t < m → C.1 40 t = nI (b t)) (ht : ∀ a b, a < 6 → b < 6 → C.1 (bk + 5 + a) b = R.1 6 (6 * a + b)) (hno : ∀ t, t < m → C.1 (bk + 3) t = R.1 5 t) : ∀ (k a : Nat) (acc : Int32), a ≤ m → m < a + k → fX2_dumb_4 n bk 39 k C acc (nI a) = some (pb_msk (pb_dm R m) (m - a) a acc, C) := by
  intro k
  induction k with
  | zero => intro e x h1 h2; omega
  | succ k ih =>
    intro a acc h1 h2
    rw [fX2_dumb_4]
    by_cases he : a = m
    · subst he
      rw [Nat.sub_self]
      simp (disch := omega) only [pb_l0, pb_l1, pb_l2, pb_l3, pb_l4, pb_l5, pb_l6, pb_l7, pb_l8, pb_l9, pb_l10, pb_l12, pb_l14, pb_l20, pb_l32, pb_l36, pb_l48, pb_l56, pb_l57, pb_l59, pb_l60, pb_l72, pb_l99, pb_l100, pb_l111, pb_l116, pb_l200, pb_l255, pb_l504, pb_l560, pb_l1000, pb_l9999, pb_l10000, pb_l100000, pb_l1000000, nI_add, pk_mul, pb_cl, pb_b, pb_le_t, pb_le_f, pb_lt_t, pb_lt_f, pb_eq_t, pb_eq_f, c8, pb_msk]
    · obtain ⟨j, hj⟩ : ∃ j, m - a = j + 1 := ⟨m - a - 1, by omega⟩
      have hj' : m - (a + 1) = j := by omega
      rw [hj, pb_msk]
      simp (disch := omega) only [pb_l0, pb_l1, pb_l2, pb_l3, pb_l4, pb_l5, pb_l6, pb_l7, pb_l8, pb_l9, pb_l10, pb_l12, pb_l14, pb_l20, pb_l32, pb_l36, pb_l48, pb_l56, pb_l57, pb_l59, pb_l60, pb_l72, pb_l99, pb_l100, pb_l111, pb_l116, pb_l200, pb_l255, pb_l504, pb_l560, pb_l1000, pb_l9999, pb_l10000, pb_l100000, pb_l1000000, nI_add, pk_mul, pb_cl, pb_b, pb_le_t, pb_le_f, pb_lt_t, pb_lt_f, pb_eq_t, pb_eq_f, c8]
      have g := pb_dumb_in (n := n) (bk := bk) (C := C) (R := R) (fX2_dumb_4 n bk 39 k) hm (by omega : a < m) c8 hb hr hc ht hno n 0 acc (by omega) (by omega)
      rw [g, ih (a + 1) _ (by omega) (by omega), hj']
      rfl
theorem pb_homes_loop {n bk m : Nat} {C R : fm_M} (hm : m ≤ 6) (c8 : C.1 bk 8 = nI m) (hc : ∀ t, t < m → C.1 40 t = R.1 11 (2 + t)) : ∀ (k a : Nat) (acc : Int32), a ≤ m → m < a + k → fX2_homes_4 n bk 39 k C acc (nI a) = some (pb_msk (fun t => decide (R.1 11 (2 + t) = nI t)) (m - a) a acc, C) := by
  intro k
  induction k with
  | zero => intro e x h1 h2; omega
  | succ k ih =>
    intro a acc h1 h2
    rw [fX2_homes_4]
    by_cases he : a = m
    · subst he
      rw [Nat.sub_self]
      simp (disch := omega) only [pb_l0, pb_l1, pb_l2, pb_l3, pb_l4, pb_l5, pb_l6, pb_l7, pb_l8, pb_l9, pb_l10, pb_l12, pb_l14, pb_l20, pb_l32, pb_l36, pb_l48, pb_l56, pb_l57, pb_l59, pb_l60, pb_l72, pb_l99, pb_l100, pb_l111, pb_l116, pb_l200, pb_l255, pb_l504, pb_l560, pb_l1000, pb_l9999, pb_l10000, pb_l100000, pb_l1000000, nI_add, pk_mul, pb_cl, pb_b, pb_le_t, pb_le_f, pb_lt_t, pb_lt_f, pb_eq_t, pb_eq_f, c8, pb_msk]
    · obtain ⟨j, hj⟩ : ∃ j, m - a = j + 1 := ⟨m - a - 1, by omega⟩
      have hj' : m - (a + 1) = j := by omega
      rw [hj, pb_msk]
      simp (disch := omega) only [pb_l0, pb_l1, pb_l2, pb_l3, pb_l4, pb_l5, pb_l6, pb_l7, pb_l8, pb_l9, pb_l10, pb_l12, pb_l14, pb_l20, pb_l32, pb_l36, pb_l48, pb_l56, pb_l57, pb_l59, pb_l60, pb_l72, pb_l99, pb_l100, pb_l111, pb_l116, pb_l200, pb_l255, pb_l504, pb_l560, pb_l1000, pb_l9999, pb_l10000, pb_l100000, pb_l1000000, nI_add, pk_mul, pb_cl, pb_b, pb_le_t, pb_le_f, pb_lt_t, pb_lt_f, pb_eq_t, pb_eq_f, c8, hc, fm_let, pb_or0]
      by_cases c1 : R.1 11 (2 + a) = nI a
      · simp only [pb_ifp c1, c1, decide_true, if_true]
        rw [ih (a + 1) _ (by omega) (by omega), hj']
      · simp only [pb_ifn c1, c1, decide_false, Bool.false_eq_true, if_false]
        rw [ih (a + 1) _ (by omega) (by omega), hj']
