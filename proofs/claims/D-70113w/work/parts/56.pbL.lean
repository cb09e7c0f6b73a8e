/-! the lot: both draw the same permutation -/
set_option maxRecDepth 100000
def pb_nth : Nat → Int32 → Int32 → Int32 → Option Int32
  | 0, _, _, _ => none
  | f + 1, s, k, q => if ((s >>> (q &&& 31)) &&& nI 1) = nI 1 then pb_nth f s (k - nI 0) (q + nI 1) else if k ≤ nI 0 then some q else pb_nth f s (k - nI 1) (q + nI 1)
theorem pb_lot60 {n bk : Nat} {C : fm_M} {z : Int32} {t : Nat} (ht : t < 6) (k4 : fm_M → Int32 → Int32 → Int32 → Option fm_M) (s r : Int32) : ∀ (f k : Nat) (x q : Int32), f ≤ k → pb_nth f s x q = some r → fX0_lotOf_60 n bk k4 k C z s (nI t) x q = k4 (fm_wr C 2 t r) z (s ||| (nI 1 <<< (r &&& 31))) (nI (t + 1)) := by
  intro f
  induction f with
  | zero => intro k x q _ h; cases h
  | succ f ih =>
    intro k x q hk h
    obtain ⟨k, rfl⟩ : ∃ j, k = j + 1 := ⟨k - 1, by omega⟩
    rw [pb_nth] at h
    rw [fX0_lotOf_60]
    simp only [pb_l0, pb_l1, fX0_lotOf_75]
    by_cases c1 : ((s >>> (q &&& 31)) &&& nI 1) = nI 1
    · rw [if_pos c1] at h
      simp only [pb_ifp c1]
      exact ih k _ _ (by omega) h
    · rw [if_neg c1] at h
      simp only [pb_ifn c1]
      by_cases c2 : x ≤ nI 0
      · rw [if_pos c2] at h
        injection h with h
        subst h
        simp (disch := omega) only [pb_ifp c2, pb_l0, pb_l1, pb_l2, pb_l3, pb_l4, pb_l5, pb_l6, pb_l7, pb_l8, pb_l9, pb_l10, pb_l12, pb_l14, pb_l20, pb_l32, pb_l36, pb_l48, pb_l56, pb_l57, pb_l59, pb_l60, pb_l72, pb_l99, pb_l100, pb_l111, pb_l116, pb_l200, pb_l255, pb_l504, pb_l560, pb_l1000, pb_l9999, pb_l10000, pb_l100000, pb_l1000000, nI_add, pk_mul, pb_cl, pb_b, pb_le_t, pb_le_f, pb_lt_t, pb_lt_f, pb_eq_t, pb_eq_f, fm_let]
      · rw [if_neg c2] at h
        simp only [pb_ifn c2]
        exact ih k _ _ (by omega) h
theorem pb_draws60 {n : Nat} {R : fm_M} {z : Int32} {t : Nat} (ht : t < 6) (k4 : fm_M → Int32 → Int32 → Int32 → Option fm_M) (s r : Int32) : ∀ (f k : Nat) (x q : Int32), f ≤ k → pb_nth f s x q = some r → fX9_draws_60 n k4 k R z s (nI t) x q = k4 (fm_wr R 18 t r) z (s ||| (nI 1 <<< (r &&& 31))) (nI (t + 1)) := by
  intro f
  induction f with
  | zero => intro k x q _ h; cases h
  | succ f ih =>
    intro k x q hk h
    obtain ⟨k, rfl⟩ : ∃ j, k = j + 1 := ⟨k - 1, by omega⟩
    rw [pb_nth] at h
    rw [fX9_draws_60]
    simp only [pb_l0, pb_l1, fX9_draws_75]
    by_cases c1 : ((s >>> (q &&& 31)) &&& nI 1) = nI 1
    · rw [if_pos c1] at h
      simp only [pb_ifp c1]
      exact ih k _ _ (by omega) h
    · rw [if_neg c1] at h
      simp only [pb_ifn c1]
      by_cases c2 : x ≤ nI 0
      · rw [if_pos c2] at h
        injection h with h
        subst h
        simp (disch := omega) only [pb_ifp c2, pb_l0, pb_l1, pb_l2, pb_l3, pb_l4, pb_l5, pb_l6, pb_l7, pb_l8, pb_l9, pb_l10, pb_l12, pb_l14, pb_l20, pb_l32, pb_l36, pb_l48, pb_l56, pb_l57, pb_l59, pb_l60, pb_l72, pb_l99, pb_l100, pb_l111, pb_l116, pb_l200, pb_l255, pb_l504, pb_l560, pb_l1000, pb_l9999, pb_l10000, pb_l100000, pb_l1000000, nI_add, pk_mul, pb_cl, pb_b, pb_le_t, pb_le_f, pb_lt_t, pb_lt_f, pb_eq_t, pb_eq_f, fm_let]
      · rw [if_neg c2] at h
        simp only [pb_ifn c2]
        exact ih k _ _ (by omega) h
def pb_pop (s : Nat) : Nat := s % 2 + s / 2 % 2 + s / 4 % 2 + s / 8 % 2 + s / 16 % 2 + s / 32 % 2
def pb_tb (s i : Nat) : Bool := s / 2 ^ i % 2 == 1
theorem pb_nth_ok0 : ∀ m, m < 7 → ∀ s, s < 2 ^ m → ∀ r, r < m - pb_pop s → ((List.range m).any fun q => decide (pb_nth 8 (nI s) (nI r) (nI 0) = some (nI q) ∧ pb_tb s q = false ∧ nI s ||| (nI 1 <<< (nI q &&& 31)) = nI (s + 2 ^ q) ∧ s + 2 ^ q < 2 ^ m ∧ pb_pop (s + 2 ^ q) = pb_pop s + 1 ∧ ∀ i, i < m → pb_tb (s + 2 ^ q) i = (pb_tb s i || decide (i = q)))) = true := by decide +kernel
theorem pb_nth_ok (m : Nat) (hm : m < 7) (s : Nat) (hs : s < 2 ^ m) (r : Nat) (hr : r < m - pb_pop s) : ∃ q, q < m ∧ (pb_nth 8 (nI s) (nI r) (nI 0) = some (nI q) ∧ pb_tb s q = false ∧ nI s ||| (nI 1 <<< (nI q &&& 31)) = nI (s + 2 ^ q) ∧ s + 2 ^ q < 2 ^ m ∧ pb_pop (s + 2 ^ q) = pb_pop s + 1 ∧ ∀ i, i < m → pb_tb (s + 2 ^ q) i = (pb_tb s i || decide (i = q))) := by
  have h := pb_nth_ok0 m hm s hs r hr
  rw [List.any_eq_true] at h
  obtain ⟨q, hq, e⟩ := h
  exact ⟨q, List.mem_range.mp hq, of_decide_eq_true e⟩
theorem pb_full : ∀ m, m < 7 → ∀ s, s < 2 ^ m → pb_pop s = m → ∀ i, i < m → pb_tb s i = true := by decide +kernel
def pb_kk (z t m : Nat) : Nat := ((7919 * z + 6151 * t + 1) * (7919 * z + 6151 * t + 1) % 65521 / 16) % (m - t)
/-- the lot as both make it -/
def pb_Lot (m : Nat) (C R C' R' : fm_M) : Prop := ∃ q, pb_perm m q ∧ (∀ j, j < m → C'.1 2 j = nI (q j) ∧ R'.1 18 j = nI (q j)) ∧ (∀ c, c ≠ 2 → C'.1 c = C.1 c) ∧ C'.2 = C.2 ∧ (∀ c, c ≠ 18 → R'.1 c = R.1 c) ∧ R'.2 = R.2
theorem pb_sq {z t : Nat} (hz : z ≤ 9999) (ht : t < 6) : (7919 * z + 6151 * t + 1) * (7919 * z + 6151 * t + 1) < 2 ^ 62 := by
  have h1 : 7919 * z + 6151 * t + 1 ≤ 80000000 := by omega
  have h2 := Nat.mul_le_mul h1 h1
  have h3 : 80000000 * 80000000 < 2 ^ 62 := by decide
  omega
theorem pb_lot_loop {n bk m z : Nat} (hn : 10 ≤ n) (hm : m ≤ 6) (hz : z ≤ 9999) (hbk : bk ≠ 2) : ∀ (k t s : Nat) (C R : fm_M) (q : Nat → Nat), C.1 bk 8 = nI m → R.1 2 0 = nI m → t ≤ m → m < t + k → s < 2 ^ m → pb_pop s = t → (∀ j, j < t → C.1 2 j = nI (q j) ∧ R.1 18 j = nI (q j) ∧ q j < m ∧ pb_tb s (q j) = true) → (∀ i j, i < t → j < t → q i = q j → i = j) → (∀ i, i < m → pb_tb s i = true → ∃ j, j < t ∧ q j = i) → ∃ C' R', fX0_lotOf_4 n bk k C (nI z) (nI s) (nI t) = some C' ∧ fX9_draws_4 n k R (nI z) (nI s) (nI t) = some R' ∧ pb_Lot m C R C' R' := by
  intro k
  induction k with
  | zero => intro t s C R q h0 h1 h2 h3; omega
  | succ k ih =>
    intro t s C R q c8 r0 h1 h2 hs hp hq1 hq2 hq3
    rw [fX0_lotOf_4, fX9_draws_4]
    by_cases ht : t = m
    · subst ht
      simp (disch := omega) only [pb_l0, pb_l1, pb_l2, pb_l3, pb_l4, pb_l5, pb_l6, pb_l7, pb_l8, pb_l9, pb_l10, pb_l12, pb_l14, pb_l20, pb_l32, pb_l36, pb_l48, pb_l56, pb_l57, pb_l59, pb_l60, pb_l72, pb_l99, pb_l100, pb_l111, pb_l116, pb_l200, pb_l255, pb_l504, pb_l560, pb_l1000, pb_l9999, pb_l10000, pb_l100000, pb_l1000000, nI_add, pk_mul, pb_cl, pb_b, pb_le_t, pb_le_f, pb_lt_t, pb_lt_f, pb_eq_t, pb_eq_f, c8, r0]
      refine ⟨C, R, rfl, rfl, q, ⟨fun j hj => (hq1 j hj).2.2.1, hq2, fun i hi => hq3 i hi (pb_full t (by omega) s hs hp i hi)⟩, fun j hj => ⟨(hq1 j hj).1, (hq1 j hj).2.1⟩, fun _ _ => rfl, rfl, fun _ _ => rfl, rfl⟩
    · have hsq := pb_sq (z := z) (t := t) hz (by omega)
      obtain ⟨v, v1, v2, v3, v4, v5, v6, v7⟩ := pb_nth_ok m (by omega) s hs (pb_kk z t m) (by rw [hp]; exact Nat.mod_lt _ (by omega))
      have hlt : (7919 * z + 6151 * t + 1) * (7919 * z + 6151 * t + 1) % 65521 < 65521 := Nat.mod_lt _ (by omega)
      have hlt2 : (7919 * z + 6151 * t + 1) * (7919 * z + 6151 * t + 1) % 65521 / 16 ≤ (7919 * z + 6151 * t + 1) * (7919 * z + 6151 * t + 1) % 65521 := Nat.div_le_self _ _
      have es : nI m - nI t = nI (m - t) := pk_sub (by omega)
      have L7919 : (7919 : Int64) = lN 7919 := rfl
      have L6151 : (6151 : Int64) = lN 6151 := rfl
      have L1 : (1 : Int64) = lN 1 := rfl
      have L16 : (16 : Int64) = lN 16 := rfl
      have L65 : (65521 : Int64) = lN 65521 := rfl
      have I16 : (16 : Int32) = nI 16 := rfl
      have nz0 : ¬ nI (m - t) = 0 := nI_ne0 (by omega) (by omega)
      have nz1 : ¬ lN (m - t) = 0 := by
        rw [show (0 : Int64) = lN 0 from rfl, lN_eq (by omega) (by omega)]; omega
      have x3 : ∀ a b c d : Int64, a = lN 7919 → b = lN z → c = lN 6151 → d = lN t → (a * b + c * d + lN 1) * (a * b + c * d + lN 1) - (a * b + c * d + lN 1) * (a * b + c * d + lN 1) / lN 65521 * lN 65521 = lN ((7919 * z + 6151 * t + 1) * (7919 * z + 6151 * t + 1) % 65521) := by
        intro a b c d ha hb hc hd
        subst ha hb hc hd
        rw [lN_mul, lN_mul, lN_add, lN_add, lN_mul, pk_lRem (by omega) (by omega) (by omega)]
      have y3 := x3 _ _ _ _ rfl (nI_l (by omega : z < 2 ^ 31)) rfl (nI_l (by omega : t < 2 ^ 31))
      have hk1 : nI ((7919 * z + 6151 * t + 1) * (7919 * z + 6151 * t + 1) % 65521) / nI 16 - nI ((7919 * z + 6151 * t + 1) * (7919 * z + 6151 * t + 1) % 65521) / nI 16 / nI (m - t) * nI (m - t) = nI (pb_kk z t m) := by
        rw [pk_div (by omega) (by omega) (by omega), pk_rem (by omega) (by omega) (by omega)]; rfl
      have hk2 : lN ((7919 * z + 6151 * t + 1) * (7919 * z + 6151 * t + 1) % 65521) / lN 16 - lN ((7919 * z + 6151 * t + 1) * (7919 * z + 6151 * t + 1) % 65521) / lN 16 / lN (m - t) * lN (m - t) = lN (pb_kk z t m) := by
        rw [pk_lDiv (by omega) (by omega) (by omega), pk_lRem (by omega) (by omega) (by omega)]; rfl
      have em : (nI (m - t)).toInt64 = lN (m - t) := nI_l (by omega)
      simp (disch := omega) only [pb_l0, pb_l1, pb_l2, pb_l3, pb_l4, pb_l5, pb_l6, pb_l7, pb_l8, pb_l9, pb_l10, pb_l12, pb_l14, pb_l20, pb_l32, pb_l36, pb_l48, pb_l56, pb_l57, pb_l59, pb_l60, pb_l72, pb_l99, pb_l100, pb_l111, pb_l116, pb_l200, pb_l255, pb_l504, pb_l560, pb_l1000, pb_l9999, pb_l10000, pb_l100000, pb_l1000000, nI_add, pk_mul, pb_cl, pb_b, pb_le_t, pb_le_f, pb_lt_t, pb_lt_f, pb_eq_t, pb_eq_f, c8, r0, es, fm_let, L7919, L6151, L1, L16, L65, I16, y3, lN_i, fm_nz, fm_nzl, pb_ifn nz0, em, pb_ifn nz1, hk1, hk2]
      rw [pb_lot60 (by omega) _ _ _ 8 n _ _ (by omega) v2, pb_draws60 (by omega) _ _ _ 8 n _ _ (by omega) v2, v4]
      have H1 : ∀ j, j < t + 1 → (fm_wr C 2 t (nI v)).1 2 j = nI ((fun j => if j = t then v else q j) j) ∧ (fm_wr R 18 t (nI v)).1 18 j = nI ((fun j => if j = t then v else q j) j) ∧ (fun j => if j = t then v else q j) j < m ∧ pb_tb (s + 2 ^ v) ((fun j => if j = t then v else q j) j) = true := by
        intro j hj
        by_cases ej : j = t
        · subst ej
          simp only [if_true]
          refine ⟨by rw [pb_wr_e, pb_up_e], by rw [pb_wr_e, pb_up_e], v1, ?_⟩
          rw [v7 v v1]; simp
        · obtain ⟨w1, w2, w3, w4⟩ := hq1 j (by omega)
          simp only [pb_ifn ej]
          refine ⟨by rw [pb_wr_e, pb_up_n ej]; exact w1, by rw [pb_wr_e, pb_up_n ej]; exact w2, w3, ?_⟩
          rw [v7 _ w3, w4]; rfl
      have H2 : ∀ i j, i < t + 1 → j < t + 1 → (fun j => if j = t then v else q j) i = (fun j => if j = t then v else q j) j → i = j := by
        intro i j hi hj e
        by_cases ei : i = t
        · by_cases ej : j = t
          · omega
          · exfalso
            simp only [pb_ifp ei, pb_ifn ej] at e
            have := (hq1 j (by omega)).2.2.2
            rw [← e, v3] at this
            cases this
        · by_cases ej : j = t
          · exfalso
            simp only [pb_ifn ei, pb_ifp ej] at e
            have := (hq1 i (by omega)).2.2.2
            rw [e, v3] at this
            cases this
          · simp only [pb_ifn ei, pb_ifn ej] at e
            exact hq2 i j (by omega) (by omega) e
      have H3 : ∀ i, i < m → pb_tb (s + 2 ^ v) i = true → ∃ j, j < t + 1 ∧ (fun j => if j = t then v else q j) j = i := by
        intro i hi e
        rw [v7 i hi, Bool.or_eq_true] at e
        rcases e with e | e
        · obtain ⟨j, hj, ej⟩ := hq3 i hi e
          exact ⟨j, by omega, by simp only [pb_ifn (by omega : ¬ j = t)]; exact ej⟩
        · exact ⟨t, by omega, by simp only [if_true]; exact (of_decide_eq_true e).symm⟩
      obtain ⟨C', R', e1, e2, q', g1, g2, g3, g4, g5, g6⟩ := ih (t + 1) (s + 2 ^ v) (fm_wr C 2 t (nI v)) (fm_wr R 18 t (nI v)) (fun j => if j = t then v else q j) (by rw [pb_wr_n hbk]; exact c8) (by rw [pb_wr_n (by omega)]; exact r0) (by omega) (by omega) v5 (by omega) H1 H2 H3
      exact ⟨C', R', e1, e2, q', g1, g2, fun c hc => (g3 c hc).trans (pb_wr_n hc), g4, fun c hc => (g5 c hc).trans (pb_wr_n hc), g6⟩
theorem pb_lots {n bk m z : Nat} {C R : fm_M} (hn : 10 ≤ n) (hm : m ≤ 6) (hz : z ≤ 9999) (hbk : bk ≠ 2) (c8 : C.1 bk 8 = nI m) (r0 : R.1 2 0 = nI m) : ∃ C' R', fX0_lotOf n bk C (nI z) = some C' ∧ fX9_draws n R (nI z) = some R' ∧ pb_Lot m C R C' R' := by
  have h := pb_lot_loop (n := n) hn hm hz hbk n 0 0 C R (fun _ => 0) c8 r0 (by omega) (by omega) (Nat.pos_of_ne_zero (by simp)) rfl (fun j hj => by omega) (fun i j hi => by omega) (fun i hi e => by
    have : pb_tb 0 i = false := by unfold pb_tb; simp
    rw [this] at e; cases e)
  exact h
