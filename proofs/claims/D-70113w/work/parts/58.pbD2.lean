/-! a lot drawn: the end, and both together -/
set_option maxRecDepth 100000
theorem pb_bi_id {α : Type} (o : Option (α × fm_M)) : (fm_bi o fun r M => some (r, M)) = o := by
  cases o with
  | none => rfl
  | some q => rfl
/-- the new bells, the next term -/
def pb_rBT (m : Nat) (nb : Nat → Nat) (r : Nat → Int32) (k : Nat) : Int32 := if k = 0 then r 0 + nI 1 else if 2 ≤ k ∧ k < 2 + m then nI (nb (k - 2)) else r k
theorem pb_drawn129 {n c m : Nat} {nb : Nat → Nat} (hc : c = 11 ∨ c = 12) (hm : m ≤ 6) : ∀ (k t : Nat) (R : fm_M), R.1 2 0 = nI m → (∀ j, j < m → R.1 19 j = nI (nb j)) → (∀ j, j < t → R.1 c (2 + j) = nI (nb j)) → t ≤ m → m < t + k → ∃ R', fX9_drawn_129 n c k R (nI t) = fX9_cuts n c R' ∧ (∀ c', c' ≠ c → R'.1 c' = R.1 c') ∧ (∀ j, j < 56 → R'.1 c j = pb_rBT m nb (R.1 c) j) ∧ R'.2 = R.2 := by
  intro k
  induction k with
  | zero => intro i R h0 h1 h2 h3; omega
  | succ k ih =>
    intro t R r0 hl hd h1 h2
    rw [fX9_drawn_129]
    by_cases ht : t = m
    · subst ht
      simp (disch := omega) only [pb_l0, pb_l1, pb_l2, pb_l3, pb_l4, pb_l5, pb_l6, pb_l7, pb_l8, pb_l9, pb_l10, pb_l12, pb_l14, pb_l20, pb_l32, pb_l36, pb_l48, pb_l56, pb_l57, pb_l59, pb_l60, pb_l72, pb_l99, pb_l100, pb_l111, pb_l116, pb_l200, pb_l255, pb_l504, pb_l560, pb_l1000, pb_l9999, pb_l10000, pb_l100000, pb_l1000000, nI_add, pk_mul, pb_cl, pb_b, pb_le_t, pb_le_f, pb_lt_t, pb_lt_f, pb_eq_t, pb_eq_f, r0, fm_let, pb_bi_id]
      refine ⟨_, rfl, fun c' h' => pb_wr_n h', fun j hj => ?_, rfl⟩
      unfold pb_rBT
      rw [pb_wr_e]
      by_cases j0 : j = 0
      · rw [if_pos j0, j0, pb_up_e]
      · rw [if_neg j0, pb_up_n j0]
        by_cases j1 : 2 ≤ j ∧ j < 2 + t
        · rw [if_pos j1, ← hd (j - 2) (by omega), show 2 + (j - 2) = j by omega]
        · rw [if_neg j1]
    · simp (disch := omega) only [pb_l0, pb_l1, pb_l2, pb_l3, pb_l4, pb_l5, pb_l6, pb_l7, pb_l8, pb_l9, pb_l10, pb_l12, pb_l14, pb_l20, pb_l32, pb_l36, pb_l48, pb_l56, pb_l57, pb_l59, pb_l60, pb_l72, pb_l99, pb_l100, pb_l111, pb_l116, pb_l200, pb_l255, pb_l504, pb_l560, pb_l1000, pb_l9999, pb_l10000, pb_l100000, pb_l1000000, nI_add, pk_mul, pb_cl, pb_b, pb_le_t, pb_le_f, pb_lt_t, pb_lt_f, pb_eq_t, pb_eq_f, r0, fm_let, hl]
      obtain ⟨R', e1, e2, e3, e4⟩ := ih (t + 1) (fm_wr R c (2 + t) (nI (nb t))) (by rw [pb_wr_n (by omega)]; exact r0) (fun j hj => by rw [pb_wr_n (by omega)]; exact hl j hj) (fun j hj => by
        rw [pb_wr_e]
        by_cases ej : j = t
        · rw [ej, pb_up_e]
        · rw [pb_up_n (by omega)]; exact hd j (by omega)) (by omega) (by omega)
      refine ⟨R', e1, fun c' h' => (e2 c' h').trans (pb_wr_n h'), fun j hj => ?_, e4⟩
      rw [e3 j hj]
      unfold pb_rBT
      rw [pb_wr_e, pb_up_n (by omega)]
      by_cases j0 : j = 0
      · rw [if_pos j0, if_pos j0]
      · rw [if_neg j0, if_neg j0]
        by_cases j1 : 2 ≤ j ∧ j < 2 + m
        · rw [if_pos j1, if_pos j1]
        · rw [if_neg j1, if_neg j1, pb_up_n (by omega)]
theorem pb_draw14 {n bk a m : Nat} {b q : Nat → Nat} (hm : m ≤ 6) (ha : a + 11 ≤ bk ∨ bk + 21 ≤ a) (ha2 : 3 ≤ a) (hbk : 3 ≤ bk) (hq : ∀ t, t < m → q t < m) : ∀ (k t : Nat) (C : fm_M), C.1 bk 8 = nI m → (∀ t, t < m → C.1 (a + 1) t = nI (b t)) → (∀ t, t < m → C.1 2 t = nI (q t)) → (∀ j, j < t → C.1 1 j = nI (b (q j))) → t ≤ m → m < t + k → ∃ C', fX2_draw_14 n bk a k C (nI t) = fX2_cutAll n bk a C' ∧ (∀ c, c ≠ 1 → c ≠ a → c ≠ a + 1 → C'.1 c = C.1 c) ∧ (∀ j, j < 56 → pb_pl C' a j = pb_rBT m (fun t => b (q t)) (pb_pl C a) j) ∧ C'.2 = C.2 := by
  intro k
  induction k with
  | zero => intro i C h0 h1 h2 h3; omega
  | succ k ih =>
    intro t C c8 hb hl hd h1 h2
    rw [fX2_draw_14]
    by_cases ht : t = m
    · subst ht
      have hg : fm_cpok (nI 0) (nI 0) (nI t) 6 6 = true := by
        unfold fm_cpok
        rw [decide_eq_true_iff]
        refine ⟨nI_pos (by omega), nI_pos (by omega), nI_pos (by omega), ?_, ?_⟩
        · rw [pb_cl (by omega), pb_cl (by omega)]; omega
        · rw [pb_cl (by omega), pb_cl (by omega)]; omega
      simp (disch := omega) only [pb_l0, pb_l1, pb_l2, pb_l3, pb_l4, pb_l5, pb_l6, pb_l7, pb_l8, pb_l9, pb_l10, pb_l12, pb_l14, pb_l20, pb_l32, pb_l36, pb_l48, pb_l56, pb_l57, pb_l59, pb_l60, pb_l72, pb_l99, pb_l100, pb_l111, pb_l116, pb_l200, pb_l255, pb_l504, pb_l560, pb_l1000, pb_l9999, pb_l10000, pb_l100000, pb_l1000000, nI_add, pk_mul, pb_cl, pb_b, pb_le_t, pb_le_f, pb_lt_t, pb_lt_f, pb_eq_t, pb_eq_f, c8, fm_let, pb_bi_id, hg, fm_gd]
      refine ⟨_, rfl, fun c c1 c2 c3 => by rw [pb_wr_n c2, pb_row_n c3], fun j hj => ?_, rfl⟩
      rw [pb_row_n (by omega : a ≠ a + 1)]
      unfold pb_rBT pb_pl
      rw [pb_wr_e, pb_wr_n (by omega), pb_wr_n (by omega), pb_wr_n (by omega), pb_wr_n (by omega), pb_row_e, pb_row_n (by omega), pb_row_n (by omega), pb_row_n (by omega)]
      by_cases j0 : j = 0
      · subst j0
        rw [if_pos (by omega), if_pos rfl, pb_up_e]
        rfl
      · rw [if_neg j0]
        by_cases j1 : j < 2
        · rw [if_pos j1, if_pos j1, pb_up_n j0, if_neg (by omega)]
        · rw [if_neg j1, if_neg j1]
          by_cases j2 : j < 8
          · rw [if_pos j2, if_pos j2]
            by_cases j3 : j < 2 + t
            · rw [if_pos (by omega), pk_cpy_in (by omega) (by omega), Nat.sub_zero, Nat.zero_add, hd _ (by omega)]
            · rw [if_neg (by omega), pk_cpy_out (by omega)]
          · have q1 : ¬ (2 ≤ j ∧ j < 2 + t) := by omega
            rw [if_neg j2, if_neg j2, if_neg q1]
            by_cases j3 : j < 14
            · rw [if_pos j3, if_pos j3]
            · rw [if_neg j3, if_neg j3]
              by_cases j4 : j < 20
              · rw [if_pos j4, if_pos j4]
              · rw [if_neg j4, if_neg j4, pb_row_n (by omega)]
    · have hqt := hq t (by omega)
      simp (disch := omega) only [pb_l0, pb_l1, pb_l2, pb_l3, pb_l4, pb_l5, pb_l6, pb_l7, pb_l8, pb_l9, pb_l10, pb_l12, pb_l14, pb_l20, pb_l32, pb_l36, pb_l48, pb_l56, pb_l57, pb_l59, pb_l60, pb_l72, pb_l99, pb_l100, pb_l111, pb_l116, pb_l200, pb_l255, pb_l504, pb_l560, pb_l1000, pb_l9999, pb_l10000, pb_l100000, pb_l1000000, nI_add, pk_mul, pb_cl, pb_b, pb_le_t, pb_le_f, pb_lt_t, pb_lt_f, pb_eq_t, pb_eq_f, c8, fm_let, hl, hb]
      obtain ⟨C', e1, e2, e3, e4⟩ := ih (t + 1) (fm_wr C 1 t (nI (b (q t)))) (by rw [pb_wr_n (by omega)]; exact c8) (fun j hj => by rw [pb_wr_n (by omega)]; exact hb j hj) (fun j hj => by rw [pb_wr_n (by omega)]; exact hl j hj) (fun j hj => by
        rw [pb_wr_e]
        by_cases ej : j = t
        · rw [ej, pb_up_e]
        · rw [pb_up_n (by omega)]; exact hd j (by omega)) (by omega) (by omega)
      refine ⟨C', e1, fun c c1 c2 c3 => (e2 c c1 c2 c3).trans (pb_wr_n c1), fun j hj => ?_, e4⟩
      rw [e3 j hj]
      unfold pb_rBT
      rw [pb_pl_same (C := C) (fun c c1 c2 => pb_wr_n (by omega)) j hj, pb_pl_same (C := C) (fun c c1 c2 => pb_wr_n (by omega)) 0 (by omega)]
/-- towers cut -/
def pb_c1 (r : Nat → Int32) (wt : Nat → Int32) (t : Nat) : Nat := if r (8 + t) < wt t then 1 else 0
def pb_rCut (m t0 : Nat) (wt : Nat → Int32) (A : Nat) (r : Nat → Int32) (k : Nat) : Int32 := if 8 + t0 ≤ k ∧ k < 8 + m then (if r k < wt (k - 8) then wt (k - 8) else r k) else if k = 1 then r 1 + nI (A + pb_cnt (pb_c1 r wt) (m - t0) t0) else r k
theorem pb_cnt_congr {g g' : Nat → Nat} : ∀ (j t : Nat), (∀ i, t ≤ i → i < t + j → g i = g' i) → pb_cnt g j t = pb_cnt g' j t := by
  intro j
  induction j with
  | zero => intro t _; rfl
  | succ j ih =>
    intro t h
    rw [pb_cnt, pb_cnt, h t (by omega) (by omega), ih (t + 1) (fun i h1 h2 => h i (by omega) (by omega))]
theorem pb_rCut_step {m t A : Nat} {wt r r' : Nat → Int32} (hm : m ≤ 6) (ht : t < m) (h : ∀ k, k < 56 → r' k = if k = 8 + t then (if r k < wt t then wt t else r k) else r k) : (A + pb_c1 r wt t) + pb_cnt (pb_c1 r' wt) (m - (t + 1)) (t + 1) = A + pb_cnt (pb_c1 r wt) (m - t) t ∧ ∀ k, k < 56 → pb_rCut m (t + 1) wt (A + pb_c1 r wt t) r' k = pb_rCut m t wt A r k := by
  obtain ⟨j, hj⟩ : ∃ j, m - t = j + 1 := ⟨m - t - 1, by omega⟩
  have hj' : m - (t + 1) = j := by omega
  have e : pb_cnt (pb_c1 r' wt) j (t + 1) = pb_cnt (pb_c1 r wt) j (t + 1) := pb_cnt_congr j (t + 1) (fun i h1 h2 => by
    have e8 : r' (8 + i) = r (8 + i) := by rw [h (8 + i) (by omega)]; exact if_neg (by omega)
    unfold pb_c1
    rw [e8])
  have e' : (A + pb_c1 r wt t) + pb_cnt (pb_c1 r' wt) (m - (t + 1)) (t + 1) = A + pb_cnt (pb_c1 r wt) (m - t) t := by
    rw [hj', hj, pb_cnt, e]; omega
  refine ⟨e', fun k hk => ?_⟩
  unfold pb_rCut
  rw [e']
  by_cases k1 : k = 8 + t
  · have q1 : ¬ (8 + (t + 1) ≤ k ∧ k < 8 + m) := by omega
    have q2 : 8 + t ≤ k ∧ k < 8 + m := by omega
    have q3 : ¬ k = 1 := by omega
    rw [if_neg q1, if_neg q3, if_pos q2, h k hk, if_pos k1, show k - 8 = t by omega]
  · have ek : r' k = r k := by rw [h k hk]; exact if_neg k1
    have e1 : r' 1 = r 1 := by rw [h 1 (by omega)]; exact if_neg (by omega)
    rw [ek, e1]
    by_cases k2 : 8 + t ≤ k ∧ k < 8 + m
    · have q1 : 8 + (t + 1) ≤ k ∧ k < 8 + m := by omega
      rw [if_pos k2, if_pos q1]
    · have q1 : ¬ (8 + (t + 1) ≤ k ∧ k < 8 + m) := by omega
      rw [if_neg k2, if_neg q1]
theorem pb_cuts9 {n c m : Nat} {b : Nat → Nat} {wt : Nat → Int32} (hc : c = 11 ∨ c = 12) (hm : m ≤ 6) (hb : ∀ t, t < m → b t < m) : ∀ (k t A : Nat) (R : fm_M), R.1 2 0 = nI m → (∀ t, t < m → R.1 c (2 + t) = nI (b t)) → (∀ t, t < m → R.1 4 (b t) = wt t) → t ≤ m → m < t + k → ∃ R', fX9_cuts_4 n c k R (nI A) (nI t) = some (nI (A + pb_cnt (pb_c1 (R.1 c) wt) (m - t) t), R') ∧ (∀ c', c' ≠ c → R'.1 c' = R.1 c') ∧ (∀ j, j < 56 → R'.1 c j = pb_rCut m t wt A (R.1 c) j) ∧ R'.2 = R.2 := by
  intro k
  induction k with
  | zero => intro i A R h0 h1 h2 h3; omega
  | succ k ih =>
    intro t A R r0 hr hw h1 h2
    rw [fX9_cuts_4]
    by_cases ht : t = m
    · subst ht
      simp (disch := omega) only [pb_l0, pb_l1, pb_l2, pb_l3, pb_l4, pb_l5, pb_l6, pb_l7, pb_l8, pb_l9, pb_l10, pb_l12, pb_l14, pb_l20, pb_l32, pb_l36, pb_l48, pb_l56, pb_l57, pb_l59, pb_l60, pb_l72, pb_l99, pb_l100, pb_l111, pb_l116, pb_l200, pb_l255, pb_l504, pb_l560, pb_l1000, pb_l9999, pb_l10000, pb_l100000, pb_l1000000, nI_add, pk_mul, pb_cl, pb_b, pb_le_t, pb_le_f, pb_lt_t, pb_lt_f, pb_eq_t, pb_eq_f, r0, fm_let]
      rw [Nat.sub_self, pb_cnt, Nat.add_zero]
      refine ⟨_, rfl, fun c' h' => pb_wr_n h', fun j hj => ?_, rfl⟩
      unfold pb_rCut
      rw [pb_wr_e, if_neg (by omega), Nat.sub_self, pb_cnt, Nat.add_zero]
      by_cases j1 : j = 1
      · rw [if_pos j1, j1, pb_up_e]
      · rw [if_neg j1, pb_up_n j1]
    · have hbt := hb t (by omega)
      simp (disch := omega) only [pb_l0, pb_l1, pb_l2, pb_l3, pb_l4, pb_l5, pb_l6, pb_l7, pb_l8, pb_l9, pb_l10, pb_l12, pb_l14, pb_l20, pb_l32, pb_l36, pb_l48, pb_l56, pb_l57, pb_l59, pb_l60, pb_l72, pb_l99, pb_l100, pb_l111, pb_l116, pb_l200, pb_l255, pb_l504, pb_l560, pb_l1000, pb_l9999, pb_l10000, pb_l100000, pb_l1000000, nI_add, pk_mul, pb_cl, pb_b, pb_le_t, pb_le_f, pb_lt_t, pb_lt_f, pb_eq_t, pb_eq_f, r0, fm_let, hr, hw]
      by_cases c1 : R.1 c (8 + t) < wt t
      · have c2 : ¬ wt t ≤ R.1 c (8 + t) := by rw [Int32.not_le]; exact c1
        simp only [pb_ifn c2]
        have e1 : pb_c1 (R.1 c) wt t = 1 := if_pos c1
        obtain ⟨s1, s2⟩ := pb_rCut_step (A := A) (r := R.1 c) (r' := (fm_wr R c (8 + t) (wt t)).1 c) (wt := wt) hm (by omega : t < m) (fun j hj => by
          rw [pb_wr_e]
          by_cases ej : j = 8 + t
          · subst ej; rw [pb_up_e, if_pos rfl, if_pos c1]
          · rw [pb_up_n ej, if_neg ej])
        obtain ⟨R', g1, g2, g3, g4⟩ := ih (t + 1) (A + 1) (fm_wr R c (8 + t) (wt t)) (by rw [pb_wr_n (by omega)]; exact r0) (fun j hj => by rw [pb_wr_e, pb_up_n (by omega)]; exact hr j hj) (fun j hj => by rw [pb_wr_n (by omega)]; exact hw j hj) (by omega) (by omega)
        rw [e1] at s1 s2
        refine ⟨R', by rw [g1, s1], fun c' h' => (g2 c' h').trans (pb_wr_n h'), fun j hj => by rw [g3 j hj, s2 j hj], g4⟩
      · have c2 : wt t ≤ R.1 c (8 + t) := by rw [← Int32.not_lt]; exact c1
        simp only [pb_ifp c2]
        have e1 : pb_c1 (R.1 c) wt t = 0 := if_neg c1
        obtain ⟨s1, s2⟩ := pb_rCut_step (A := A) (r := R.1 c) (r' := R.1 c) (wt := wt) hm (by omega : t < m) (fun j hj => by
          by_cases ej : j = 8 + t
          · subst ej; rw [if_pos rfl, if_neg c1]
          · rw [if_neg ej])
        obtain ⟨R', g1, g2, g3, g4⟩ := ih (t + 1) A R r0 hr hw (by omega) (by omega)
        rw [e1] at s1 s2
        exact ⟨R', by rw [g1, ← s1]; rfl, g2, fun j hj => (g3 j hj).trans (s2 j hj), g4⟩
theorem pb_cuts0 {n bk a m : Nat} {b : Nat → Nat} {wt : Nat → Int32} (ha : a + 11 ≤ bk ∨ bk + 21 ≤ a) (hm : m ≤ 6) (hb : ∀ t, t < m → b t < m) : ∀ (k t A : Nat) (C : fm_M), C.1 bk 8 = nI m → (∀ t, t < m → C.1 (a + 1) t = nI (b t)) → (∀ t, t < m → C.1 (bk + 2) (b t) = wt t) → t ≤ m → m < t + k → ∃ C', fX2_cutAll_4 n bk a k C (nI A) (nI t) = some (nI (A + pb_cnt (pb_c1 (pb_pl C a) wt) (m - t) t), C') ∧ (∀ c', c' ≠ a → c' ≠ a + 2 → C'.1 c' = C.1 c') ∧ (∀ j, j < 56 → pb_pl C' a j = pb_rCut m t wt A (pb_pl C a) j) ∧ C'.2 = C.2 := by
  intro k
  induction k with
  | zero => intro i A C h0 h1 h2 h3; omega
  | succ k ih =>
    intro t A C c8 hr hw h1 h2
    rw [fX2_cutAll_4]
    by_cases ht : t = m
    · subst ht
      simp (disch := omega) only [pb_l0, pb_l1, pb_l2, pb_l3, pb_l4, pb_l5, pb_l6, pb_l7, pb_l8, pb_l9, pb_l10, pb_l12, pb_l14, pb_l20, pb_l32, pb_l36, pb_l48, pb_l56, pb_l57, pb_l59, pb_l60, pb_l72, pb_l99, pb_l100, pb_l111, pb_l116, pb_l200, pb_l255, pb_l504, pb_l560, pb_l1000, pb_l9999, pb_l10000, pb_l100000, pb_l1000000, nI_add, pk_mul, pb_cl, pb_b, pb_le_t, pb_le_f, pb_lt_t, pb_lt_f, pb_eq_t, pb_eq_f, c8, fm_let]
      rw [Nat.sub_self, pb_cnt, Nat.add_zero]
      refine ⟨_, rfl, fun c' h' _ => pb_wr_n h', fun j hj => ?_, rfl⟩
      unfold pb_rCut
      rw [if_neg (by omega), Nat.sub_self, pb_cnt, Nat.add_zero]
      by_cases j1 : j = 1
      · rw [if_pos j1, j1, pb_pl_cuts, pb_pl_cuts, pb_wr_e, pb_up_e]
      · rw [if_neg j1]
        unfold pb_pl
        rw [pb_wr_e, pb_wr_n (by omega), pb_wr_n (by omega), pb_wr_n (by omega), pb_wr_n (by omega)]
        by_cases j2 : j < 2
        · rw [if_pos j2, if_pos j2, pb_up_n j1]
        · rw [if_neg j2, if_neg j2]
    · have hbt := hb t (by omega)
      have e8 : pb_pl C a (8 + t) = C.1 (a + 2) t := pb_pl_bears (by omega)
      simp (disch := omega) only [pb_l0, pb_l1, pb_l2, pb_l3, pb_l4, pb_l5, pb_l6, pb_l7, pb_l8, pb_l9, pb_l10, pb_l12, pb_l14, pb_l20, pb_l32, pb_l36, pb_l48, pb_l56, pb_l57, pb_l59, pb_l60, pb_l72, pb_l99, pb_l100, pb_l111, pb_l116, pb_l200, pb_l255, pb_l504, pb_l560, pb_l1000, pb_l9999, pb_l10000, pb_l100000, pb_l1000000, nI_add, pk_mul, pb_cl, pb_b, pb_le_t, pb_le_f, pb_lt_t, pb_lt_f, pb_eq_t, pb_eq_f, c8, fm_let, hr, hw, fX2_cutAll_52]
      have hpl : ∀ v : Int32, ∀ j, j < 56 → pb_pl (fm_wr C (a + 2) t v) a j = if j = 8 + t then v else pb_pl C a j := by
        intro v j hj
        by_cases ej : j = 8 + t
        · subst ej
          rw [if_pos rfl, pb_pl_bears (by omega), pb_wr_e, pb_up_e]
        · rw [if_neg ej]
          unfold pb_pl
          rw [pb_wr_n (by omega), pb_wr_n (by omega), pb_wr_e, pb_wr_n (by omega), pb_wr_n (by omega)]
          by_cases j1 : j < 8
          · rw [if_pos j1, if_pos j1]
          · rw [if_neg (by omega : ¬ j < 2), if_neg (by omega : ¬ j < 2), if_neg j1, if_neg j1]
            by_cases j2 : j < 14
            · rw [if_pos j2, if_pos j2, pb_up_n (by omega)]
            · rw [if_neg j2, if_neg j2]
      have key : ∀ v : Int32, v = (if C.1 (a + 2) t < wt t then wt t else C.1 (a + 2) t) → ∃ C', fX2_cutAll_4 n bk a k (fm_wr C (a + 2) t v) (nI (A + pb_c1 (pb_pl C a) wt t)) (nI (t + 1)) = some (nI (A + pb_cnt (pb_c1 (pb_pl C a) wt) (m - t) t), C') ∧ (∀ c', c' ≠ a → c' ≠ a + 2 → C'.1 c' = C.1 c') ∧ (∀ j, j < 56 → pb_pl C' a j = pb_rCut m t wt A (pb_pl C a) j) ∧ C'.2 = C.2 := by
        intro v hv
        obtain ⟨s1, s2⟩ := pb_rCut_step (A := A) (r := pb_pl C a) (r' := pb_pl (fm_wr C (a + 2) t v) a) (wt := wt) hm (by omega : t < m) (fun j hj => by
          rw [hpl v j hj]
          by_cases ej : j = 8 + t
          · subst ej; rw [if_pos rfl, if_pos rfl, e8, hv]
          · rw [if_neg ej, if_neg ej])
        obtain ⟨C', g1, g2, g3, g4⟩ := ih (t + 1) (A + pb_c1 (pb_pl C a) wt t) (fm_wr C (a + 2) t v) (by rw [pb_wr_n (by omega)]; exact c8) (fun j hj => by rw [pb_wr_n (by omega)]; exact hr j hj) (fun j hj => by rw [pb_wr_n (by omega)]; exact hw j hj) (by omega) (by omega)
        exact ⟨C', by rw [g1, s1], fun c' h' h'' => (g2 c' h' h'').trans (pb_wr_n h''), fun j hj => by rw [g3 j hj, s2 j hj], g4⟩
      by_cases c1 : C.1 (a + 2) t < wt t
      · have c2 : ¬ wt t ≤ C.1 (a + 2) t := by rw [Int32.not_le]; exact c1
        have e1 : pb_c1 (pb_pl C a) wt t = 1 := by unfold pb_c1; rw [e8]; exact if_pos c1
        simp only [pb_ifn c2, pb_ifp c1]
        have := key _ (if_pos c1).symm
        rw [e1] at this
        exact this
      · have c2 : wt t ≤ C.1 (a + 2) t := by rw [← Int32.not_lt]; exact c1
        have e1 : pb_c1 (pb_pl C a) wt t = 0 := by unfold pb_c1; rw [e8]; exact if_neg c1
        simp only [pb_ifp c2, pb_ifn c1]
        have := key _ (if_neg c1).symm
        rw [e1] at this
        exact this
