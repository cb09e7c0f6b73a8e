/-! the text's tokens: both readers step alike -/
set_option maxRecDepth 100000
def pb_tx (y : Nat) (c : Nat → Nat) (C R : fm_M) : Prop := y ≤ 200 ∧ C.1 0 10 = nI y ∧ R.1 0 3 = nI y ∧ ∀ k, k < y → c k < 256 ∧ R.1 1 k = nI (c k) ∧ C.1 6 k &&& 255 = nI (c k)
/-- the token: sort q in the component -/
def pb_tok (q v : Nat) (x z w : Int32) : Prop := (q = 5 ∧ x = nI 0) ∨ (q = 3 ∧ x = nI 2 ∧ v ≤ 99 ∧ z = nI v ∧ w = nI v) ∨ (q = 4 ∧ x = nI 3) ∨ (q = 0 ∧ x = nI 1 ∧ w = nI 116) ∨ (q = 1 ∧ x = nI 1 ∧ w = nI 100) ∨ (q = 2 ∧ x = nI 1 ∧ w = nI 111) ∨ (q = 6 ∧ x = nI 4)
def pb_tk (rd y p st q v : Nat) (C R : fm_M) : Prop := (C.1 rd 0 = nI p ∧ R.1 0 4 = nI p ∧ p ≤ y) ∧ (C.1 rd 1 = nI st ∧ R.1 0 6 = nI st ∧ st ≤ y) ∧ C.1 rd 2 = nI q ∧ pb_tok q v (R.1 0 5) (C.1 rd 3) (R.1 0 7)
def pb_sC (rd : Nat) (C C' : fm_M) : Prop := (∀ c, c ≠ rd → C'.1 c = C.1 c) ∧ C'.2 = C.2
def pb_sR (R R' : fm_M) : Prop := (∀ c, c ≠ 0 → R'.1 c = R.1 c) ∧ (∀ k, (k < 4 ∨ 7 < k) → R'.1 0 k = R.1 0 k) ∧ R'.2 = R.2
theorem pb_sC.refl {rd : Nat} {C : fm_M} : pb_sC rd C C := ⟨fun _ _ => rfl, rfl⟩
theorem pb_sR.refl {R : fm_M} : pb_sR R R := ⟨fun _ _ => rfl, fun _ _ => rfl, rfl⟩
theorem pb_sC.trans {rd : Nat} {C C' C'' : fm_M} (h : pb_sC rd C C') (g : pb_sC rd C' C'') : pb_sC rd C C'' := ⟨fun c hc => (g.1 c hc).trans (h.1 c hc), g.2.trans h.2⟩
theorem pb_sR.trans {R R' R'' : fm_M} (h : pb_sR R R') (g : pb_sR R' R'') : pb_sR R R'' := ⟨fun c hc => (g.1 c hc).trans (h.1 c hc), fun k hk => (g.2.1 k hk).trans (h.2.1 k hk), g.2.2.trans h.2.2⟩
theorem pb_sC.wr {rd k : Nat} {C : fm_M} {v : Int32} : pb_sC rd C (fm_wr C rd k v) := ⟨fun c hc => pb_wr_n hc, rfl⟩
theorem pb_sR.wr {k : Nat} {R : fm_M} {v : Int32} (h : 4 ≤ k ∧ k ≤ 7) : pb_sR R (fm_wr R 0 k v) := ⟨fun c hc => pb_wr_n hc, fun j hj => by rw [pb_wr_e, pb_up_n (by omega)], rfl⟩
theorem pb_tx.step {y rd : Nat} {c : Nat → Nat} {C C' R R' : fm_M} (h : pb_tx y c C R) (hrd : 193 ≤ rd) (hC : pb_sC rd C C') (hR : pb_sR R R') : pb_tx y c C' R' := by
  obtain ⟨h1, h2, h3, h4⟩ := h
  exact ⟨h1, by rw [hC.1 0 (by omega)]; exact h2, by rw [hR.2.1 3 (by omega)]; exact h3, fun k hk => by rw [hC.1 6 (by omega), hR.1 1 (by omega)]; exact h4 k hk⟩
/-- what is read at a place -/
theorem pb_here {n bk rd y p : Nat} {c : Nat → Nat} {C R : fm_M} (h : pb_tx y c C R) (hC : C.1 rd 0 = nI p) (hp : p ≤ y) : (p < y ∧ fX10_here n bk rd C = some (nI (c p), C) ∧ fX9_letterAt n R (nI p) = some (nI (c p), R)) ∨ (p = y ∧ fX10_here n bk rd C = some (-nI 1, C) ∧ fX9_letterAt n R (nI p) = some (-nI 1, R)) := by
  obtain ⟨h1, h2, h3, h4⟩ := h
  unfold fX10_here fX9_letterAt
  by_cases e : p < y
  · left
    obtain ⟨g1, g2, g3⟩ := h4 p e
    simp (disch := omega) only [pb_l0, pb_l1, pb_l2, pb_l3, pb_l4, pb_l5, pb_l6, pb_l7, pb_l8, pb_l9, pb_l10, pb_l12, pb_l14, pb_l20, pb_l32, pb_l36, pb_l48, pb_l56, pb_l57, pb_l59, pb_l60, pb_l72, pb_l99, pb_l100, pb_l111, pb_l116, pb_l200, pb_l255, pb_l504, pb_l560, pb_l1000, pb_l9999, pb_l10000, pb_l100000, pb_l1000000, nI_add, pk_mul, pb_cl, pb_b, pb_le_t, pb_le_f, pb_lt_t, pb_lt_f, pb_eq_t, pb_eq_f, h2, h3, hC, g2]
    refine ⟨e, ?_, trivial⟩
    have : C.1 6 p &&& nI 255 = nI (c p) := g3
    rw [this]
  · right
    have : p = y := by omega
    simp (disch := omega) only [pb_l0, pb_l1, pb_l2, pb_l3, pb_l4, pb_l5, pb_l6, pb_l7, pb_l8, pb_l9, pb_l10, pb_l12, pb_l14, pb_l20, pb_l32, pb_l36, pb_l48, pb_l56, pb_l57, pb_l59, pb_l60, pb_l72, pb_l99, pb_l100, pb_l111, pb_l116, pb_l200, pb_l255, pb_l504, pb_l560, pb_l1000, pb_l9999, pb_l10000, pb_l100000, pb_l1000000, nI_add, pk_mul, pb_cl, pb_b, pb_le_t, pb_le_f, pb_lt_t, pb_lt_f, pb_eq_t, pb_eq_f, h2, h3, hC]
    exact ⟨this, trivial, trivial⟩
theorem pb_m1_ne {x : Nat} (h : x < 2147483648) : ¬ (-nI 1 : Int32) = nI x := fun e => pb_nm1 h e.symm
theorem pb_in1 {n bk : Nat} {C R : fm_M} {x : Nat} (hx : x < 256) : (48 ≤ x ∧ x ≤ 57 ∧ fX0_in n bk C (nI x) (nI 48) (nI 57) = some (nI 1, C) ∧ fX9_in n R (nI x) (nI 48) (nI 57) = some (nI 1, R)) ∨ ((x < 48 ∨ 57 < x) ∧ fX0_in n bk C (nI x) (nI 48) (nI 57) = some (nI 0, C) ∧ fX9_in n R (nI x) (nI 48) (nI 57) = some (nI 0, R)) := by
  rcases pb_in n bk C R 48 57 (by omega) (by omega) (nI x) with ⟨v, v1, v2, v3, e0, e9⟩ | ⟨hv, e0, e9⟩
  · rw [nI_eq (by omega) (by omega)] at v3
    exact Or.inl ⟨by omega, by omega, e0, e9⟩
  · refine Or.inr ⟨?_, e0, e9⟩
    by_cases h : x < 48 ∨ 57 < x
    · exact h
    · exact absurd rfl (hv x (by omega) (by omega))
theorem pb_inm1 {n bk : Nat} {C R : fm_M} : fX0_in n bk C (-nI 1) (nI 48) (nI 57) = some (nI 0, C) ∧ fX9_in n R (-nI 1) (nI 48) (nI 57) = some (nI 0, R) := by
  unfold fX0_in fX9_in
  rw [if_pos (by decide), if_pos (by decide)]
  exact ⟨rfl, rfl⟩
theorem pb_ge0 {x : Nat} (h : x < 2147483648) : nI 0 ≤ nI x := nI_le (by omega) h
/-- digits -/
theorem pb_digits {n bk rd y st c0 : Nat} {c : Nat → Nat} (hrd : 193 ≤ rd) : ∀ (k p a b : Nat) (C R : fm_M), pb_tx y c C R → C.1 rd 0 = nI p → R.1 0 4 = nI p → p ≤ y → y < p + k → C.1 rd 1 = nI st → R.1 0 6 = nI st → st ≤ p → C.1 rd 3 = nI a → R.1 0 7 = nI b → ((a = b ∧ a ≤ 99) ∨ (a = 100 ∧ 100 ≤ b ∧ b ≤ 999)) → ∃ C' R' p' q v, fX10_step_63 n bk rd k C (nI c0) = some C' ∧ fX9_advances_71 n k R (nI c0) = some R' ∧ pb_tk rd y p' st q v C' R' ∧ q ≠ 5 ∧ (p < p' ∨ (p = p' ∧ ¬ (p < y ∧ 48 ≤ c p ∧ c p ≤ 57))) ∧ pb_sC rd C C' ∧ pb_sR R R' := by
  intro k
  induction k with
  | zero => intro p a b C R h1 h2 h3 h4 h5; omega
  | succ k ih =>
    intro p a b C R htx hC hR hp hk hs0 hs9 hsp ha hb hab
    rw [fX10_step_63, fX9_advances_71, hR]
    have hy := htx.1
    have fin : ¬ (p < y ∧ 48 ≤ c p ∧ c p ≤ 57) → ∃ C' R' p' q v, (if nI 99 < nI a then some (fm_wr C rd 2 (nI 6)) else if nI c0 = nI 48 then if nI p - nI st ≤ nI 1 then some (fm_wr C rd 2 (nI 3)) else some (fm_wr C rd 2 (nI 6)) else some (fm_wr C rd 2 (nI 3))) = some C' ∧ (if nI 99 < nI b then some (fm_wr R 0 5 (nI 4)) else if nI c0 = nI 48 then if nI p - nI st ≤ nI 1 then some (fm_wr R 0 5 (nI 2)) else some (fm_wr R 0 5 (nI 4)) else some (fm_wr R 0 5 (nI 2))) = some R' ∧ pb_tk rd y p' st q v C' R' ∧ q ≠ 5 ∧ (p < p' ∨ (p = p' ∧ ¬ (p < y ∧ 48 ≤ c p ∧ c p ≤ 57))) ∧ pb_sC rd C C' ∧ pb_sR R R' := by
      intro hnd
      have unf : pb_tk rd y p st 6 0 (fm_wr C rd 2 (nI 6)) (fm_wr R 0 5 (nI 4)) := by
        refine ⟨⟨?_, ?_, hp⟩, ⟨?_, ?_, by omega⟩, ?_, Or.inr (Or.inr (Or.inr (Or.inr (Or.inr (Or.inr ⟨rfl, ?_⟩)))))⟩
        · rw [pb_wr_e, pb_up_n (by omega)]; exact hC
        · rw [pb_wr_e, pb_up_n (by omega)]; exact hR
        · rw [pb_wr_e, pb_up_n (by omega)]; exact hs0
        · rw [pb_wr_e, pb_up_n (by omega)]; exact hs9
        · rw [pb_wr_e, pb_up_e]
        · rw [pb_wr_e, pb_up_e]
      have num : a = b → a ≤ 99 → pb_tk rd y p st 3 a (fm_wr C rd 2 (nI 3)) (fm_wr R 0 5 (nI 2)) := by
        intro e1 e2
        refine ⟨⟨?_, ?_, hp⟩, ⟨?_, ?_, by omega⟩, ?_, Or.inr (Or.inl ⟨rfl, ?_, e2, ?_, ?_⟩)⟩
        · rw [pb_wr_e, pb_up_n (by omega)]; exact hC
        · rw [pb_wr_e, pb_up_n (by omega)]; exact hR
        · rw [pb_wr_e, pb_up_n (by omega)]; exact hs0
        · rw [pb_wr_e, pb_up_n (by omega)]; exact hs9
        · rw [pb_wr_e, pb_up_e]
        · rw [pb_wr_e, pb_up_e]
        · rw [pb_wr_e, pb_up_n (by omega)]; exact ha
        · rw [pb_wr_e, pb_up_n (by omega), e1]; exact hb
      rcases hab with ⟨e1, e2⟩ | ⟨e1, e2, e3⟩
      · simp (disch := omega) only [pb_lt_f]
        by_cases c1 : nI c0 = nI 48
        · simp only [pb_ifp c1]
          by_cases c2 : nI p - nI st ≤ nI 1
          · simp only [pb_ifp c2]
            exact ⟨_, _, p, 3, a, rfl, rfl, num e1 e2, by omega, Or.inr ⟨rfl, hnd⟩, pb_sC.wr, pb_sR.wr (by omega)⟩
          · simp only [pb_ifn c2]
            exact ⟨_, _, p, 6, 0, rfl, rfl, unf, by omega, Or.inr ⟨rfl, hnd⟩, pb_sC.wr, pb_sR.wr (by omega)⟩
        · simp only [pb_ifn c1]
          exact ⟨_, _, p, 3, a, rfl, rfl, num e1 e2, by omega, Or.inr ⟨rfl, hnd⟩, pb_sC.wr, pb_sR.wr (by omega)⟩
      · simp (disch := omega) only [pb_lt_t]
        exact ⟨_, _, p, 6, 0, rfl, rfl, unf, by omega, Or.inr ⟨rfl, hnd⟩, pb_sC.wr, pb_sR.wr (by omega)⟩
    rcases pb_here (n := n) (bk := bk) htx hC hp with ⟨hlt, e0, e9⟩ | ⟨heq, e0, e9⟩
    · have hc := (htx.2.2.2 p hlt).1
      rcases pb_in1 (n := n) (bk := bk) (C := C) (R := R) hc with ⟨d1, d2, i0, i9⟩ | ⟨d1, i0, i9⟩
      · have e10 : nI 10 * nI a + nI (c p) - nI 48 = nI (10 * a + c p - 48) := by rw [pk_mul, nI_add, pk_sub (by omega)]
        have e10b : nI 10 * nI b + nI (c p) - nI 48 = nI (10 * b + c p - 48) := by rw [pk_mul, nI_add, pk_sub (by omega)]
        have goC : ∀ (a' b' : Nat), ((a' = b' ∧ a' ≤ 99) ∨ (a' = 100 ∧ 100 ≤ b' ∧ b' ≤ 999)) → ∃ C' R' p' q v, fX10_step_63 n bk rd k (fm_wr (fm_wr C rd 3 (nI a')) rd 0 (nI (p + 1))) (nI c0) = some C' ∧ fX9_advances_71 n k (fm_wr (fm_wr R 0 7 (nI b')) 0 4 (nI (p + 1))) (nI c0) = some R' ∧ pb_tk rd y p' st q v C' R' ∧ q ≠ 5 ∧ (p < p' ∨ (p = p' ∧ ¬ (p < y ∧ 48 ≤ c p ∧ c p ≤ 57))) ∧ pb_sC rd C C' ∧ pb_sR R R' := by
          intro a' b' hab'
          have sC : pb_sC rd C (fm_wr (fm_wr C rd 3 (nI a')) rd 0 (nI (p + 1))) := pb_sC.wr.trans pb_sC.wr
          have sR : pb_sR R (fm_wr (fm_wr R 0 7 (nI b')) 0 4 (nI (p + 1))) := (pb_sR.wr (by omega)).trans (pb_sR.wr (by omega))
          obtain ⟨C', R', p', q, v, g1, g2, g3, g4, g5, g6, g7⟩ := ih (p + 1) a' b' _ _ (htx.step hrd sC sR) (by simp (disch := omega) only [pb_wr_e, pb_wr_n, pb_row_e, pb_row_n, pb_up_e, pb_up_n, pb_wr_2, pb_row_2]) (by simp (disch := omega) only [pb_wr_e, pb_wr_n, pb_row_e, pb_row_n, pb_up_e, pb_up_n, pb_wr_2, pb_row_2]) (by omega) (by omega) (by simp (disch := omega) only [pb_wr_e, pb_wr_n, pb_row_e, pb_row_n, pb_up_e, pb_up_n, pb_wr_2, pb_row_2]; exact hs0) (by simp (disch := omega) only [pb_wr_e, pb_wr_n, pb_row_e, pb_row_n, pb_up_e, pb_up_n, pb_wr_2, pb_row_2]; exact hs9) (by omega) (by simp (disch := omega) only [pb_wr_e, pb_wr_n, pb_row_e, pb_row_n, pb_up_e, pb_up_n, pb_wr_2, pb_row_2]) (by simp (disch := omega) only [pb_wr_e, pb_wr_n, pb_row_e, pb_row_n, pb_up_e, pb_up_n, pb_wr_2, pb_row_2]) hab'
          exact ⟨C', R', p', q, v, g1, g2, g3, g4, Or.inl (by rcases g5 with g | g <;> omega), sC.trans g6, sR.trans g7⟩
        rcases hab with ⟨q1, q2⟩ | ⟨q1, q2, q3⟩
        · by_cases q4 : 10 * a + c p - 48 < 100
          · have := goC (10 * a + c p - 48) (10 * b + c p - 48) (by omega)
            simp (disch := omega) only [e0, e9, i0, i9, pb_bi, pb_l48, pb_l57, pb_l10, pb_l100, pb_l0, pb_l1, pb_l99, pb_eq_f, pb_le_t, fm_let, ha, hb, e10, e10b, pb_lt_t, hR, hC, pb_wr_e, pb_wr_n, pb_row_e, pb_row_n, pb_up_e, pb_up_n, pb_wr_2, pb_row_2, nI_add]
            exact this
          · have := goC 100 (10 * b + c p - 48) (by omega)
            simp (disch := omega) only [e0, e9, i0, i9, pb_bi, pb_l48, pb_l57, pb_l10, pb_l100, pb_l0, pb_l1, pb_l99, pb_eq_f, pb_le_t, fm_let, ha, hb, e10, e10b, pb_lt_f, hR, hC, pb_wr_e, pb_wr_n, pb_row_e, pb_row_n, pb_up_e, pb_up_n, pb_wr_2, pb_row_2, nI_add]
            exact this
        · have := goC 100 b (by omega)
          simp (disch := omega) only [e0, e9, i0, i9, pb_bi, pb_l48, pb_l57, pb_l10, pb_l100, pb_l0, pb_l1, pb_l99, pb_eq_f, pb_le_f, fm_let, ha, hb, e10, e10b, pb_lt_f, hR, hC, pb_wr_e, pb_wr_n, pb_row_e, pb_row_n, pb_up_e, pb_up_n, pb_wr_2, pb_row_2, nI_add]
          exact this
      · simp (disch := omega) only [e0, e9, i0, i9, pb_bi, pb_l48, pb_l57, pb_l0, pb_l1, pb_l99, pb_l6, pb_l3, pb_l2, pb_l4, pb_eq_t, fm_let, ha, hb, hC, hR, hs0, hs9]
        exact fin (by omega)
    · obtain ⟨i0, i9⟩ := pb_inm1 (n := n) (bk := bk) (C := C) (R := R)
      simp (disch := omega) only [e0, e9, i0, i9, pb_bi, pb_l48, pb_l57, pb_l0, pb_l1, pb_l99, pb_l6, pb_l3, pb_l2, pb_l4, pb_eq_t, fm_let, ha, hb, hC, hR, hs0, hs9]
      exact fin (by omega)
theorem pb_tdo : ∀ c, c < 256 → ((fm_tdb 0 = (nI c).toInt8.toInt32) ↔ c = 116) ∧ ((fm_tdb 1 = (nI c).toInt8.toInt32) ↔ c = 100) ∧ ((fm_tdb 2 = (nI c).toInt8.toInt32) ↔ c = 111) := by decide +kernel
theorem pb_idx7 {n bk k : Nat} {C : fm_M} {x : Int32} : fJ3_indexOfChar_7 n bk (k + 1 + 1 + 1 + 1) C (nI 3) x (nI 0) = some (if fm_tdb 0 = x then nI 0 else if fm_tdb 1 = x then nI 1 else if fm_tdb 2 = x then nI 2 else -nI 1, C) := by
  rw [fJ3_indexOfChar_7]
  simp (disch := omega) only [pb_l0, pb_l1, pb_l2, pb_l3, pb_l4, pb_l5, pb_l6, pb_l7, pb_l8, pb_l9, pb_l10, pb_l12, pb_l14, pb_l20, pb_l32, pb_l36, pb_l48, pb_l56, pb_l57, pb_l59, pb_l60, pb_l72, pb_l99, pb_l100, pb_l111, pb_l116, pb_l200, pb_l255, pb_l504, pb_l560, pb_l1000, pb_l9999, pb_l10000, pb_l100000, pb_l1000000, nI_add, pk_mul, pb_cl, pb_b, pb_le_t, pb_le_f, pb_lt_t, pb_lt_f, pb_eq_t, pb_eq_f]
  by_cases h0 : fm_tdb 0 = x
  · simp only [pb_ifp h0]
  · simp only [pb_ifn h0]
    rw [fJ3_indexOfChar_7]
    simp (disch := omega) only [pb_l0, pb_l1, pb_l2, pb_l3, pb_l4, pb_l5, pb_l6, pb_l7, pb_l8, pb_l9, pb_l10, pb_l12, pb_l14, pb_l20, pb_l32, pb_l36, pb_l48, pb_l56, pb_l57, pb_l59, pb_l60, pb_l72, pb_l99, pb_l100, pb_l111, pb_l116, pb_l200, pb_l255, pb_l504, pb_l560, pb_l1000, pb_l9999, pb_l10000, pb_l100000, pb_l1000000, nI_add, pk_mul, pb_cl, pb_b, pb_le_t, pb_le_f, pb_lt_t, pb_lt_f, pb_eq_t, pb_eq_f]
    by_cases h1 : fm_tdb 1 = x
    · simp only [pb_ifp h1]
    · simp only [pb_ifn h1]
      rw [fJ3_indexOfChar_7]
      simp (disch := omega) only [pb_l0, pb_l1, pb_l2, pb_l3, pb_l4, pb_l5, pb_l6, pb_l7, pb_l8, pb_l9, pb_l10, pb_l12, pb_l14, pb_l20, pb_l32, pb_l36, pb_l48, pb_l56, pb_l57, pb_l59, pb_l60, pb_l72, pb_l99, pb_l100, pb_l111, pb_l116, pb_l200, pb_l255, pb_l504, pb_l560, pb_l1000, pb_l9999, pb_l10000, pb_l100000, pb_l1000000, nI_add, pk_mul, pb_cl, pb_b, pb_le_t, pb_le_f, pb_lt_t, pb_lt_f, pb_eq_t, pb_eq_f]
      by_cases h2 : fm_tdb 2 = x
      · simp only [pb_ifp h2]
      · simp only [pb_ifn h2]
        rw [fJ3_indexOfChar_7]
        simp (disch := omega) only [pb_l0, pb_l1, pb_l2, pb_l3, pb_l4, pb_l5, pb_l6, pb_l7, pb_l8, pb_l9, pb_l10, pb_l12, pb_l14, pb_l20, pb_l32, pb_l36, pb_l48, pb_l56, pb_l57, pb_l59, pb_l60, pb_l72, pb_l99, pb_l100, pb_l111, pb_l116, pb_l200, pb_l255, pb_l504, pb_l560, pb_l1000, pb_l9999, pb_l10000, pb_l100000, pb_l1000000, nI_add, pk_mul, pb_cl, pb_b, pb_le_t, pb_le_f, pb_lt_t, pb_lt_f, pb_eq_t, pb_eq_f]
theorem pb_indexOf {n bk c : Nat} {C : fm_M} (hc : c < 256) (hn : 10 ≤ n) : fJ2_indexOf n bk C (nI c) = some (if c = 116 then nI 0 else if c = 100 then nI 1 else if c = 111 then nI 2 else -nI 1, C) := by
  obtain ⟨t1, t2, t3⟩ := pb_tdo c hc
  obtain ⟨n, rfl⟩ : ∃ j, n = j + 1 + 1 + 1 + 1 := ⟨n - 4, by omega⟩
  have e3 : (nI 3 >>> (nI 0 &&& 31) : Int32) = nI 3 := by decide
  unfold fJ2_indexOf fJ2_indexOf_2 fJ2_isLatin1 fJ2_length fJ2_coder fJ3_indexOf fJ3_canEncode fJ3_indexOfChar
  simp (disch := omega) only [pb_l0, pb_l1, pb_l2, pb_l3, pb_l4, pb_l5, pb_l6, pb_l7, pb_l8, pb_l9, pb_l10, pb_l12, pb_l14, pb_l20, pb_l32, pb_l36, pb_l48, pb_l56, pb_l57, pb_l59, pb_l60, pb_l72, pb_l99, pb_l100, pb_l111, pb_l116, pb_l200, pb_l255, pb_l504, pb_l560, pb_l1000, pb_l9999, pb_l10000, pb_l100000, pb_l1000000, nI_add, pk_mul, pb_cl, pb_b, pb_le_t, pb_le_f, pb_lt_t, pb_lt_f, pb_eq_t, pb_eq_f, pb_bi, pb_bi_id, fm_let, if_true, e3, pb_idx7, t1, t2, t3]
