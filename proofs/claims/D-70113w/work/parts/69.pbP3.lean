/-! due and takes, numbers -/
set_option maxRecDepth 100000
theorem pb_bxl {α β : Type} {r : α} {M : fm_M} {k : α → fm_M → Option ((β ⊕ Int32) × fm_M)} : fm_bx (some (Sum.inl r, M)) k = k r M := rfl
theorem pb_bxr {α β : Type} {v : Int32} {M : fm_M} {k : α → fm_M → Option ((β ⊕ Int32) × fm_M)} : fm_bx (some (Sum.inr v, M)) k = some (Sum.inr v, M) := rfl
theorem pb_wr_ne {M : fm_M} {c k c' k' : Nat} {v : Int32} (h : c' ≠ c ∨ k' ≠ k) : (fm_wr M c k v).1 c' k' = M.1 c' k' := by
  by_cases e : c' = c
  · subst e
    rw [pb_wr_e, pb_up_n (by omega)]
  · rw [pb_wr_n e]
/-- the drafts -/
def pb_dr (rd mt mo : Nat) (C R : fm_M) : Prop := (mt ≤ 6 ∧ mo ≤ 6) ∧ (C.1 (rd + 1) 8 = nI mt ∧ R.1 2 2 = nI mt ∧ C.1 (rd + 1) 9 = nI mo ∧ R.1 2 3 = nI mo) ∧
  (∀ t, t < mt → C.1 (rd + 1 + 1) t = R.1 3 (6 + t) ∧ C.1 (rd + 1 + 2) t = R.1 4 (6 + t) ∧ C.1 (rd + 1 + 3) t = R.1 5 (6 + t) ∧ ∃ w, w ≤ 99 ∧ R.1 4 (6 + t) = nI w) ∧
  (∀ a b, a < 6 → b < 6 → C.1 (rd + 1 + 5 + a) b = R.1 6 (36 + 6 * a + b) ∧ R.1 6 (36 + 6 * b + a) = R.1 6 (36 + 6 * a + b) ∧ ∃ x, x ≤ 9 ∧ R.1 6 (36 + 6 * a + b) = nI x ∧ ((a = b ∨ mt ≤ a ∨ mt ≤ b) → x = 0)) ∧
  ∀ i, i < mo → C.1 (rd + 1 + 18) i = R.1 7 (6 + i) ∧ C.1 (rd + 1 + 19) i = R.1 8 (6 + i) ∧ C.1 (rd + 1 + 20) i = R.1 9 (6 + i) ∧ ∃ t, t < mt ∧ R.1 8 (6 + i) = nI t
theorem pb_dr.congr {rd mt mo : Nat} {C C' R R' : fm_M} (h : pb_dr rd mt mo C R) (hC : ∀ c k, rd + 1 ≤ c → c < rd + 22 → (c = rd + 1 → k = 8 ∨ k = 9) → ((c = rd + 1 + 1 ∨ c = rd + 1 + 2 ∨ c = rd + 1 + 3) → k < mt) → ((c = rd + 1 + 18 ∨ c = rd + 1 + 19 ∨ c = rd + 1 + 20) → k < mo) → C'.1 c k = C.1 c k) (hR : ∀ c k, 2 ≤ c → c ≤ 9 → (c = 2 → k = 2 ∨ k = 3) → ((c = 3 ∨ c = 4 ∨ c = 5) → k < 6 + mt) → ((c = 7 ∨ c = 8 ∨ c = 9) → k < 6 + mo) → R'.1 c k = R.1 c k) : pb_dr rd mt mo C' R' := by
  obtain ⟨⟨h1, h2⟩, ⟨h3, h4, h5, h6⟩, h7, h8, h9⟩ := h
  refine ⟨⟨h1, h2⟩, ⟨?_, ?_, ?_, ?_⟩, fun t ht => ?_, fun a b ha hb => ?_, fun i hi => ?_⟩
  · rw [hC _ _ (by omega) (by omega) (by omega) (by omega) (by omega)]; exact h3
  · rw [hR _ _ (by omega) (by omega) (by omega) (by omega) (by omega)]; exact h4
  · rw [hC _ _ (by omega) (by omega) (by omega) (by omega) (by omega)]; exact h5
  · rw [hR _ _ (by omega) (by omega) (by omega) (by omega) (by omega)]; exact h6
  · rw [hC (rd + 1 + 1) t (by omega) (by omega) (by omega) (by omega) (by omega), hC (rd + 1 + 2) t (by omega) (by omega) (by omega) (by omega) (by omega), hC (rd + 1 + 3) t (by omega) (by omega) (by omega) (by omega) (by omega), hR 3 _ (by omega) (by omega) (by omega) (by omega) (by omega), hR 4 _ (by omega) (by omega) (by omega) (by omega) (by omega), hR 5 _ (by omega) (by omega) (by omega) (by omega) (by omega)]
    exact h7 t ht
  · rw [hC (rd + 1 + 5 + a) b (by omega) (by omega) (by omega) (by omega) (by omega), hR 6 (36 + 6 * a + b) (by omega) (by omega) (by omega) (by omega) (by omega), hR 6 (36 + 6 * b + a) (by omega) (by omega) (by omega) (by omega) (by omega)]
    exact h8 a b ha hb
  · rw [hC (rd + 1 + 18) i (by omega) (by omega) (by omega) (by omega) (by omega), hC (rd + 1 + 19) i (by omega) (by omega) (by omega) (by omega) (by omega), hC (rd + 1 + 20) i (by omega) (by omega) (by omega) (by omega) (by omega), hR 7 _ (by omega) (by omega) (by omega) (by omega) (by omega), hR 8 _ (by omega) (by omega) (by omega) (by omega) (by omega), hR 9 _ (by omega) (by omega) (by omega) (by omega) (by omega)]
    exact h9 i hi
theorem pb_dr.step {rd mt mo : Nat} {C C' R R' : fm_M} (h : pb_dr rd mt mo C R) (hC : pb_sC rd C C') (hR : pb_sR R R') : pb_dr rd mt mo C' R' := h.congr (fun c k h1 _ _ _ _ => by rw [hC.1 c (by omega)]) (fun c k h1 _ _ _ _ => by rw [hR.1 c (by omega)])
/-- the reading as it goes well -/
def pb_pi (rd y p st q v mt mo it : Nat) (c : Nat → Nat) (C R : fm_M) : Prop := pb_tx y c C R ∧ pb_tk rd y p st q v C R ∧ pb_dr rd mt mo C R ∧ R.1 0 8 = -nI 1 ∧ C.1 (rd + 1) 10 = nI it
theorem pb_well {n : Nat} {R : fm_M} (h : R.1 0 8 = -nI 1) : fX9_isWell n R = some (nI 1, R) := by
  unfold fX9_isWell
  rw [h, if_neg (by decide)]
  rfl
theorem pb_ill {n st : Nat} {R : fm_M} (h : R.1 0 8 = nI st) (hs : st ≤ 200) : fX9_isWell n R = some (nI 0, R) := by
  unfold fX9_isWell
  rw [h, if_pos (nI_pos' (by omega))]
  rfl
theorem pb_ftk {n st : Nat} {R : fm_M} {x : Int32} (h : R.1 0 8 = nI st) (hs : st ≤ 200) : fX9_takes n R x = some (nI 0, R) := by
  unfold fX9_takes
  rw [pb_ill h hs]
  simp (disch := omega) only [pb_bi, pb_l0, pb_l1, pb_l2, pb_l3, pb_l4, pb_l5, pb_l6, pb_l7, pb_l8, pb_l9, pb_l10, pb_l12, pb_l14, pb_l20, pb_l32, pb_l36, pb_l48, pb_l56, pb_l57, pb_l59, pb_l60, pb_l72, pb_l99, pb_l100, pb_l111, pb_l116, pb_l200, pb_l255, pb_l504, pb_l560, pb_l1000, pb_l9999, pb_l10000, pb_l100000, pb_l1000000, nI_add, pk_mul, pb_cl, pb_b, pb_le_t, pb_le_f, pb_lt_t, pb_lt_f, pb_eq_t, pb_eq_f, if_true]
theorem pb_in_any {n : Nat} {R : fm_M} {x a b : Int32} : ∃ r, fX9_in n R x a b = some (r, R) := by
  unfold fX9_in
  split
  · exact ⟨_, rfl⟩
  · split
    · exact ⟨_, rfl⟩
    · exact ⟨_, rfl⟩
theorem pb_fnum {n st : Nat} {R : fm_M} {a b : Int32} (h : R.1 0 8 = nI st) (hs : st ≤ 200) : fX9_number n R a b = some (nI 0, R) := by
  unfold fX9_number fX9_number_25 fX9_number_26
  obtain ⟨r, hr⟩ := pb_in_any (n := n) (R := R) (x := R.1 0 7) (a := a) (b := b)
  simp only [hr, pb_bi, pb_ftk h hs]
  split
  · split <;> rfl
  · rfl
theorem pb_due1 {n bk rd y p st q v mt mo it : Nat} {c : Nat → Nat} {C R : fm_M} (hrd : 193 ≤ rd) (hn : 300 ≤ n) (h : pb_pi rd y p st q v mt mo it c C R) : ∃ C' R' p' st' q' v', fX10_due n bk rd C (nI 1) = some (Sum.inl (C.1 rd 3), C') ∧ fX9_takes n R (nI 1) = some (R.1 0 7, R') ∧ pb_pi rd y p' st' q' v' mt mo it c C' R' ∧ p ≤ p' ∧ (q' = 5 ∨ p < p') ∧ pb_sC rd C C' ∧ pb_sR R R' := by
  obtain ⟨h1, h2, h3, h4, h5⟩ := h
  obtain ⟨C', R', p', st', q', v', g1, g2, g3, g4, g5, g6, g7⟩ := pb_step (n := n) (bk := bk) hrd hn h1 h2.1.1 h2.1.2.1 h2.1.2.2
  refine ⟨C', R', p', st', q', v', ?_, ?_, ⟨h1.step hrd g6 g7, g3, h3.step g6 g7, by rw [g7.2.1 8 (by omega)]; exact h4, by rw [g6.1 _ (by omega)]; exact h5⟩, g4, g5, g6, g7⟩
  · unfold fX10_due
    simp (disch := omega) only [pb_l0, pb_l1, pb_l2, pb_l3, pb_l4, pb_l5, pb_l6, pb_l7, pb_l8, pb_l9, pb_l10, pb_l12, pb_l14, pb_l20, pb_l32, pb_l36, pb_l48, pb_l56, pb_l57, pb_l59, pb_l60, pb_l72, pb_l99, pb_l100, pb_l111, pb_l116, pb_l200, pb_l255, pb_l504, pb_l560, pb_l1000, pb_l9999, pb_l10000, pb_l100000, pb_l1000000, nI_add, pk_mul, pb_cl, pb_b, pb_le_t, pb_le_f, pb_lt_t, pb_lt_f, pb_eq_t, pb_eq_f, if_true, g1, pb_bv]
  · unfold fX9_takes
    rw [pb_well h4]
    simp (disch := omega) only [pb_l0, pb_l1, pb_l2, pb_l3, pb_l4, pb_l5, pb_l6, pb_l7, pb_l8, pb_l9, pb_l10, pb_l12, pb_l14, pb_l20, pb_l32, pb_l36, pb_l48, pb_l56, pb_l57, pb_l59, pb_l60, pb_l72, pb_l99, pb_l100, pb_l111, pb_l116, pb_l200, pb_l255, pb_l504, pb_l560, pb_l1000, pb_l9999, pb_l10000, pb_l100000, pb_l1000000, nI_add, pk_mul, pb_cl, pb_b, pb_le_t, pb_le_f, pb_lt_t, pb_lt_f, pb_eq_t, pb_eq_f, if_true, g2, pb_bv, pb_bi]
theorem pb_due0 {n bk rd y p st q v mt mo it : Nat} {c : Nat → Nat} {C R : fm_M} (h : pb_pi rd y p st q v mt mo it c C R) : fX10_due n bk rd C (nI 0) = some (Sum.inr (nI st), C) ∧ fX9_takes n R (nI 0) = some (nI 0, fm_wr R 0 8 (nI st)) ∧ st ≤ 200 := by
  obtain ⟨h1, h2, h3, h4, h5⟩ := h
  refine ⟨?_, ?_, ?_⟩
  · unfold fX10_due
    simp (disch := omega) only [pb_l0, pb_l1, pb_l2, pb_l3, pb_l4, pb_l5, pb_l6, pb_l7, pb_l8, pb_l9, pb_l10, pb_l12, pb_l14, pb_l20, pb_l32, pb_l36, pb_l48, pb_l56, pb_l57, pb_l59, pb_l60, pb_l72, pb_l99, pb_l100, pb_l111, pb_l116, pb_l200, pb_l255, pb_l504, pb_l560, pb_l1000, pb_l9999, pb_l10000, pb_l100000, pb_l1000000, nI_add, pk_mul, pb_cl, pb_b, pb_le_t, pb_le_f, pb_lt_t, pb_lt_f, pb_eq_t, pb_eq_f, if_true, h2.2.1.1]
  · unfold fX9_takes
    rw [pb_well h4]
    simp (disch := omega) only [pb_l0, pb_l1, pb_l2, pb_l3, pb_l4, pb_l5, pb_l6, pb_l7, pb_l8, pb_l9, pb_l10, pb_l12, pb_l14, pb_l20, pb_l32, pb_l36, pb_l48, pb_l56, pb_l57, pb_l59, pb_l60, pb_l72, pb_l99, pb_l100, pb_l111, pb_l116, pb_l200, pb_l255, pb_l504, pb_l560, pb_l1000, pb_l9999, pb_l10000, pb_l100000, pb_l1000000, nI_add, pk_mul, pb_cl, pb_b, pb_le_t, pb_le_f, pb_lt_t, pb_lt_f, pb_eq_t, pb_eq_f, if_true, pb_bi, fm_let, h2.2.1.2.1]
  · have := h1.1
    have := h2.2.1.2.2
    omega
theorem pb_tok3 {q v : Nat} {x z w : Int32} (h : pb_tok q v x z w) : (q = 3 ∧ x = nI 2 ∧ v ≤ 99 ∧ z = nI v ∧ w = nI v) ∨ (q ≠ 3 ∧ q ≤ 6 ∧ ¬ x = nI 2) := by
  rcases h with ⟨h1, h2⟩ | ⟨h1, h2⟩ | ⟨h1, h2⟩ | ⟨h1, h2, _⟩ | ⟨h1, h2, _⟩ | ⟨h1, h2, _⟩ | ⟨h1, h2⟩
  · right; refine ⟨by omega, by omega, ?_⟩; rw [h2]; decide
  · left; exact ⟨h1, h2⟩
  · right; refine ⟨by omega, by omega, ?_⟩; rw [h2]; decide
  · right; refine ⟨by omega, by omega, ?_⟩; rw [h2]; decide
  · right; refine ⟨by omega, by omega, ?_⟩; rw [h2]; decide
  · right; refine ⟨by omega, by omega, ?_⟩; rw [h2]; decide
  · right; refine ⟨by omega, by omega, ?_⟩; rw [h2]; decide
/-- a number: both take it, or both say where it's wrong -/
theorem pb_num {n bk rd y p st q v mt mo it : Nat} {c : Nat → Nat} {C R : fm_M} {lo hi : Int32} {P : Nat → Prop} (hrd : 193 ≤ rd) (hn : 300 ≤ n) (h : pb_pi rd y p st q v mt mo it c C R) (hin : ∀ v, v ≤ 99 → (P v ∧ fX0_in n bk C (nI v) lo hi = some (nI 1, C) ∧ fX9_in n R (nI v) lo hi = some (nI 1, R)) ∨ (fX0_in n bk C (nI v) lo hi = some (nI 0, C) ∧ fX9_in n R (nI v) lo hi = some (nI 0, R))) :
    (∃ w C' R' p' st' q' v', P w ∧ w ≤ 99 ∧ fX10_number n bk rd C lo hi = some (Sum.inl (nI w), C') ∧ fX9_number n R lo hi = some (nI w, R') ∧ pb_pi rd y p' st' q' v' mt mo it c C' R' ∧ p ≤ p' ∧ (q' = 5 ∨ p < p') ∧ pb_sC rd C C' ∧ pb_sR R R') ∨
    (st ≤ 200 ∧ fX10_number n bk rd C lo hi = some (Sum.inr (nI st), C) ∧ fX9_number n R lo hi = some (nI 0, fm_wr R 0 8 (nI st))) := by
  obtain ⟨d1, d2, d3⟩ := pb_due0 (n := n) (bk := bk) h
  obtain ⟨C', R', p', st', q', v', g1, g2, g3, g4, g5, g6, g7⟩ := pb_due1 (n := n) (bk := bk) hrd hn h
  obtain ⟨h1, h2, h3, h4, h5⟩ := h
  unfold fX10_number fX9_number fX10_number_25 fX9_number_25 fX10_number_26 fX9_number_26
  rw [h2.2.2.1]
  rcases pb_tok3 h2.2.2.2 with ⟨t1, t2, t3, t4, t5⟩ | ⟨t1, t2, t3⟩
  · rcases hin v t3 with ⟨i1, i2, i3⟩ | ⟨i2, i3⟩
    · left
      rw [t4] at g1
      rw [t5] at g2
      refine ⟨v, C', R', p', st', q', v', i1, t3, ?_, ?_, g3, g4, g5, g6, g7⟩
      · simp (disch := omega) only [pb_l0, pb_l1, pb_l2, pb_l3, pb_l4, pb_l5, pb_l6, pb_l7, pb_l8, pb_l9, pb_l10, pb_l12, pb_l14, pb_l20, pb_l32, pb_l36, pb_l48, pb_l56, pb_l57, pb_l59, pb_l60, pb_l72, pb_l99, pb_l100, pb_l111, pb_l116, pb_l200, pb_l255, pb_l504, pb_l560, pb_l1000, pb_l9999, pb_l10000, pb_l100000, pb_l1000000, nI_add, pk_mul, pb_cl, pb_b, pb_le_t, pb_le_f, pb_lt_t, pb_lt_f, pb_eq_t, pb_eq_f, if_true, t4, i2, pb_bi, g1, pb_bxl]
      · simp (disch := omega) only [pb_l0, pb_l1, pb_l2, pb_l3, pb_l4, pb_l5, pb_l6, pb_l7, pb_l8, pb_l9, pb_l10, pb_l12, pb_l14, pb_l20, pb_l32, pb_l36, pb_l48, pb_l56, pb_l57, pb_l59, pb_l60, pb_l72, pb_l99, pb_l100, pb_l111, pb_l116, pb_l200, pb_l255, pb_l504, pb_l560, pb_l1000, pb_l9999, pb_l10000, pb_l100000, pb_l1000000, nI_add, pk_mul, pb_cl, pb_b, pb_le_t, pb_le_f, pb_lt_t, pb_lt_f, pb_eq_t, pb_eq_f, if_true, t2, t5, i3, pb_bi, g2]
    · right
      refine ⟨d3, ?_, ?_⟩
      · simp (disch := omega) only [pb_l0, pb_l1, pb_l2, pb_l3, pb_l4, pb_l5, pb_l6, pb_l7, pb_l8, pb_l9, pb_l10, pb_l12, pb_l14, pb_l20, pb_l32, pb_l36, pb_l48, pb_l56, pb_l57, pb_l59, pb_l60, pb_l72, pb_l99, pb_l100, pb_l111, pb_l116, pb_l200, pb_l255, pb_l504, pb_l560, pb_l1000, pb_l9999, pb_l10000, pb_l100000, pb_l1000000, nI_add, pk_mul, pb_cl, pb_b, pb_le_t, pb_le_f, pb_lt_t, pb_lt_f, pb_eq_t, pb_eq_f, if_true, t4, i2, pb_bi, d1, pb_bxr]
      · simp (disch := omega) only [pb_l0, pb_l1, pb_l2, pb_l3, pb_l4, pb_l5, pb_l6, pb_l7, pb_l8, pb_l9, pb_l10, pb_l12, pb_l14, pb_l20, pb_l32, pb_l36, pb_l48, pb_l56, pb_l57, pb_l59, pb_l60, pb_l72, pb_l99, pb_l100, pb_l111, pb_l116, pb_l200, pb_l255, pb_l504, pb_l560, pb_l1000, pb_l9999, pb_l10000, pb_l100000, pb_l1000000, nI_add, pk_mul, pb_cl, pb_b, pb_le_t, pb_le_f, pb_lt_t, pb_lt_f, pb_eq_t, pb_eq_f, if_true, t2, t5, i3, pb_bi, d2]
  · right
    refine ⟨d3, ?_, ?_⟩
    · simp (disch := omega) only [pb_l0, pb_l1, pb_l2, pb_l3, pb_l4, pb_l5, pb_l6, pb_l7, pb_l8, pb_l9, pb_l10, pb_l12, pb_l14, pb_l20, pb_l32, pb_l36, pb_l48, pb_l56, pb_l57, pb_l59, pb_l60, pb_l72, pb_l99, pb_l100, pb_l111, pb_l116, pb_l200, pb_l255, pb_l504, pb_l560, pb_l1000, pb_l9999, pb_l10000, pb_l100000, pb_l1000000, nI_add, pk_mul, pb_cl, pb_b, pb_le_t, pb_le_f, pb_lt_t, pb_lt_f, pb_eq_t, pb_eq_f, if_true, d1, pb_bxr]
    · rw [show (2 : Int32) = nI 2 from rfl, if_neg t3]
      simp (disch := omega) only [pb_l0, pb_l1, pb_l2, pb_l3, pb_l4, pb_l5, pb_l6, pb_l7, pb_l8, pb_l9, pb_l10, pb_l12, pb_l14, pb_l20, pb_l32, pb_l36, pb_l48, pb_l56, pb_l57, pb_l59, pb_l60, pb_l72, pb_l99, pb_l100, pb_l111, pb_l116, pb_l200, pb_l255, pb_l504, pb_l560, pb_l1000, pb_l9999, pb_l10000, pb_l100000, pb_l1000000, nI_add, pk_mul, pb_cl, pb_b, pb_le_t, pb_le_f, pb_lt_t, pb_lt_f, pb_eq_t, pb_eq_f, if_true, d2, pb_bi]
theorem pb_numR {n bk rd y p st q v mt mo it : Nat} {c : Nat → Nat} {C R : fm_M} (a b : Nat) (ha : a < 2147483648) (hb : b < 2147483648) (hrd : 193 ≤ rd) (hn : 300 ≤ n) (h : pb_pi rd y p st q v mt mo it c C R) :
    (∃ w C' R' p' st' q' v', (a ≤ w ∧ w ≤ b) ∧ w ≤ 99 ∧ fX10_number n bk rd C (nI a) (nI b) = some (Sum.inl (nI w), C') ∧ fX9_number n R (nI a) (nI b) = some (nI w, R') ∧ pb_pi rd y p' st' q' v' mt mo it c C' R' ∧ p ≤ p' ∧ (q' = 5 ∨ p < p') ∧ pb_sC rd C C' ∧ pb_sR R R') ∨
    (st ≤ 200 ∧ fX10_number n bk rd C (nI a) (nI b) = some (Sum.inr (nI st), C) ∧ fX9_number n R (nI a) (nI b) = some (nI 0, fm_wr R 0 8 (nI st))) := by
  refine pb_num (P := fun w => a ≤ w ∧ w ≤ b) hrd hn h (fun v hv => ?_)
  rcases pb_in n bk C R a b ha hb (nI v) with ⟨u, u1, u2, u3, e0, e9⟩ | ⟨_, e0, e9⟩
  · rw [nI_eq (by omega) (by omega)] at u3
    exact Or.inl ⟨by omega, e0, e9⟩
  · exact Or.inr ⟨e0, e9⟩
theorem pb_numT {n bk rd y p st q v mt mo it : Nat} {c : Nat → Nat} {C R : fm_M} (hrd : 193 ≤ rd) (hn : 300 ≤ n) (h : pb_pi rd y p st q v mt mo it c C R) :
    (∃ w C' R' p' st' q' v', w < mt ∧ w ≤ 99 ∧ fX10_town n bk rd C = some (Sum.inl (nI w), C') ∧ fX9_number n R (nI 0) (nI mt - nI 1) = some (nI w, R') ∧ pb_pi rd y p' st' q' v' mt mo it c C' R' ∧ p ≤ p' ∧ (q' = 5 ∨ p < p') ∧ pb_sC rd C C' ∧ pb_sR R R') ∨
    (st ≤ 200 ∧ fX10_town n bk rd C = some (Sum.inr (nI st), C) ∧ fX9_number n R (nI 0) (nI mt - nI 1) = some (nI 0, fm_wr R 0 8 (nI st))) := by
  have hm := h.2.2.1.1.1
  have h8 := h.2.2.1.2.1.1
  unfold fX10_town
  rw [h8, pb_l0, pb_l1]
  rcases pb_num (P := fun w => w < mt) hrd hn h (lo := nI 0) (hi := nI mt - nI 1) (n := n) (bk := bk) (fun v hv => by
    rcases pb_inm n bk mt C R hm (nI v) with ⟨u, u1, u2, e0, e9⟩ | ⟨e0, e9⟩
    · rw [nI_eq (by omega) (by omega)] at u2
      exact Or.inl ⟨by omega, e0, e9⟩
    · exact Or.inr ⟨e0, e9⟩) with ⟨w, C', R', p', st', q', v', g1, g2, g3, g4, g5, g6, g7, g8, g9⟩ | ⟨g1, g2, g3⟩
  · left
    exact ⟨w, C', R', p', st', q', v', g1, g2, by rw [g3]; rfl, g4, g5, g6, g7, g8, g9⟩
  · right
    exact ⟨g1, by rw [g2]; rfl, g3⟩
