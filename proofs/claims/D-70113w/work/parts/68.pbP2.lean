/-! a step of the readers -/
set_option maxRecDepth 100000
theorem pb_step_loop {n bk rd y : Nat} {c : Nat → Nat} (hrd : 193 ≤ rd) (hn : 300 ≤ n) : ∀ (k p : Nat) (C R : fm_M), pb_tx y c C R → C.1 rd 0 = nI p → R.1 0 4 = nI p → p ≤ y → y < p + k → ∃ C' R' p' st q v, fX10_step_0 n bk rd k C = some C' ∧ fX9_advances_0 n k R = some R' ∧ pb_tk rd y p' st q v C' R' ∧ p ≤ p' ∧ (q = 5 ∨ p < p') ∧ pb_sC rd C C' ∧ pb_sR R R' := by
  intro k
  induction k with
  | zero => intro p C R h1 h2 h3 h4 h5; omega
  | succ k ih =>
    intro p C R htx hC hR hp hk
    have hy := htx.1
    rw [fX10_step_0, fX9_advances_0, hR]
    have sC6 : pb_sC rd C (fm_wr (fm_wr C rd 1 (nI p)) rd 3 (nI 0)) := pb_sC.wr.trans pb_sC.wr
    have sR6 : pb_sR R (fm_wr R 0 6 (nI p)) := pb_sR.wr (by omega)
    have htx6 := htx.step hrd sC6 sR6
    have hC6 : (fm_wr (fm_wr C rd 1 (nI p)) rd 3 (nI 0)).1 rd 0 = nI p := by simp (disch := omega) only [pb_wr_e, pb_wr_n, pb_row_e, pb_row_n, pb_up_e, pb_up_n, pb_wr_2, pb_row_2]; exact hC
    rcases pb_here (n := n) (bk := bk) htx hC hp with ⟨hlt, e0, e9⟩ | ⟨heq, e0, e9⟩
    · have hc := (htx.2.2.2 p hlt).1
      by_cases hsp : c p = 32
      · obtain ⟨C', R', p', st, q, v, g1, g2, g3, g4, g5, g6, g7⟩ := ih (p + 1) (fm_wr C rd 0 (nI (p + 1))) (fm_wr R 0 4 (nI (p + 1))) (htx.step hrd pb_sC.wr (pb_sR.wr (by omega))) (by simp (disch := omega) only [pb_wr_e, pb_wr_n, pb_row_e, pb_row_n, pb_up_e, pb_up_n, pb_wr_2, pb_row_2]) (by simp (disch := omega) only [pb_wr_e, pb_wr_n, pb_row_e, pb_row_n, pb_up_e, pb_up_n, pb_wr_2, pb_row_2]) (by omega) (by omega)
        simp (disch := omega) only [e0, e9, pb_bi, pb_l0, pb_l1, pb_l2, pb_l3, pb_l4, pb_l5, pb_l6, pb_l7, pb_l8, pb_l9, pb_l10, pb_l12, pb_l14, pb_l20, pb_l32, pb_l36, pb_l48, pb_l56, pb_l57, pb_l59, pb_l60, pb_l72, pb_l99, pb_l100, pb_l111, pb_l116, pb_l200, pb_l255, pb_l504, pb_l560, pb_l1000, pb_l9999, pb_l10000, pb_l100000, pb_l1000000, nI_add, pk_mul, pb_cl, pb_b, pb_le_t, pb_le_f, pb_lt_t, pb_lt_f, pb_eq_t, pb_eq_f, fm_let, hC, hR]
        exact ⟨C', R', p', st, q, v, g1, g2, g3, by omega, by omega, pb_sC.wr.trans g6, (pb_sR.wr (by omega)).trans g7⟩
      · rcases pb_here (n := n) (bk := bk) htx6 hC6 hp with ⟨_, e06, e96⟩ | ⟨heq, _, _⟩
        · rcases pb_in1 (n := n) (bk := bk) (C := fm_wr (fm_wr C rd 1 (nI p)) rd 3 (nI 0)) (R := fm_wr R 0 6 (nI p)) hc with ⟨d1, d2, i0, i9⟩ | ⟨d1, i0, i9⟩
          · obtain ⟨C', R', p', q, v, g1, g2, g3, g4, g5, g6, g7⟩ := pb_digits (n := n) (bk := bk) (st := p) (c0 := c p) hrd n p 0 0 (fm_wr (fm_wr C rd 1 (nI p)) rd 3 (nI 0)) (fm_wr (fm_wr R 0 6 (nI p)) 0 7 (nI 0)) (htx6.step hrd pb_sC.refl (pb_sR.wr (by omega))) hC6 (by simp (disch := omega) only [pb_wr_e, pb_wr_n, pb_row_e, pb_row_n, pb_up_e, pb_up_n, pb_wr_2, pb_row_2]; exact hR) hp (by omega) (by simp (disch := omega) only [pb_wr_e, pb_wr_n, pb_row_e, pb_row_n, pb_up_e, pb_up_n, pb_wr_2, pb_row_2]) (by simp (disch := omega) only [pb_wr_e, pb_wr_n, pb_row_e, pb_row_n, pb_up_e, pb_up_n, pb_wr_2, pb_row_2]) (by omega) (by simp (disch := omega) only [pb_wr_e, pb_wr_n, pb_row_e, pb_row_n, pb_up_e, pb_up_n, pb_wr_2, pb_row_2]) (by simp (disch := omega) only [pb_wr_e, pb_wr_n, pb_row_e, pb_row_n, pb_up_e, pb_up_n, pb_wr_2, pb_row_2]) (by omega)
            simp (disch := omega) only [e0, e9, pb_bi, pb_l0, pb_l1, pb_l2, pb_l3, pb_l4, pb_l5, pb_l6, pb_l7, pb_l8, pb_l9, pb_l10, pb_l12, pb_l14, pb_l20, pb_l32, pb_l36, pb_l48, pb_l56, pb_l57, pb_l59, pb_l60, pb_l72, pb_l99, pb_l100, pb_l111, pb_l116, pb_l200, pb_l255, pb_l504, pb_l560, pb_l1000, pb_l9999, pb_l10000, pb_l100000, pb_l1000000, nI_add, pk_mul, pb_cl, pb_b, pb_le_t, pb_le_f, pb_lt_t, pb_lt_f, pb_eq_t, pb_eq_f, fm_let, hC, hR, pb_wr_e, pb_wr_n, pb_row_e, pb_row_n, pb_up_e, pb_up_n, pb_wr_2, pb_row_2, e06, e96, i0, i9]
            exact ⟨C', R', p', p, q, v, g1, g2, g3, by omega, by omega, sC6.trans g6, (sR6.trans (pb_sR.wr (by omega))).trans g7⟩
          · have hidx := pb_indexOf (n := n) (bk := bk) (C := fm_wr (fm_wr (fm_wr C rd 1 (nI p)) rd 3 (nI 0)) rd 0 (nI (p + 1))) hc (by omega)
            have fin : ∀ (q : Nat) (x : Nat), pb_tok q 0 (nI x) (nI 0) (nI (c p)) → ∃ p' st q' v, pb_tk rd y p' st q' v (fm_wr (fm_wr (fm_wr (fm_wr C rd 1 (nI p)) rd 3 (nI 0)) rd 0 (nI (p + 1))) rd 2 (nI q)) (fm_wr (fm_wr (fm_wr (fm_wr R 0 6 (nI p)) 0 4 (nI (p + 1))) 0 7 (nI (c p))) 0 5 (nI x)) ∧ p ≤ p' ∧ (q' = 5 ∨ p < p') ∧ pb_sC rd C (fm_wr (fm_wr (fm_wr (fm_wr C rd 1 (nI p)) rd 3 (nI 0)) rd 0 (nI (p + 1))) rd 2 (nI q)) ∧ pb_sR R (fm_wr (fm_wr (fm_wr (fm_wr R 0 6 (nI p)) 0 4 (nI (p + 1))) 0 7 (nI (c p))) 0 5 (nI x)) := by
              intro q x ht
              refine ⟨p + 1, p, q, 0, ⟨⟨?_, ?_, by omega⟩, ⟨?_, ?_, by omega⟩, ?_, ?_⟩, by omega, Or.inr (by omega), ((sC6.trans pb_sC.wr).trans pb_sC.wr), ((sR6.trans (pb_sR.wr (by omega))).trans (pb_sR.wr (by omega))).trans (pb_sR.wr (by omega))⟩
              all_goals simp (disch := omega) only [pb_wr_e, pb_wr_n, pb_row_e, pb_row_n, pb_up_e, pb_up_n, pb_wr_2, pb_row_2]
              exact ht
            have hne59 : ∀ x, x < 256 → c p ≠ x → ¬ nI (c p) = nI x := fun x hx h => by rw [nI_eq (by omega) (by omega)]; exact h
            by_cases q1 : c p = 59
            · obtain ⟨p', st, q', v, f1, f2, f3, f4, f5⟩ := fin 4 3 (Or.inr (Or.inr (Or.inl ⟨rfl, rfl⟩)))
              simp (disch := omega) only [e0, e9, pb_bi, pb_l0, pb_l1, pb_l2, pb_l3, pb_l4, pb_l5, pb_l6, pb_l7, pb_l8, pb_l9, pb_l10, pb_l12, pb_l14, pb_l20, pb_l32, pb_l36, pb_l48, pb_l56, pb_l57, pb_l59, pb_l60, pb_l72, pb_l99, pb_l100, pb_l111, pb_l116, pb_l200, pb_l255, pb_l504, pb_l560, pb_l1000, pb_l9999, pb_l10000, pb_l100000, pb_l1000000, nI_add, pk_mul, pb_cl, pb_b, pb_le_t, pb_le_f, pb_lt_t, pb_lt_f, pb_eq_t, pb_eq_f, fm_let, hC, hR, pb_wr_e, pb_wr_n, pb_row_e, pb_row_n, pb_up_e, pb_up_n, pb_wr_2, pb_row_2, e06, e96, i0, i9, hidx]
              exact ⟨_, _, p', st, q', v, rfl, rfl, f1, f2, f3, f4, f5⟩
            · by_cases q2 : c p = 116
              · obtain ⟨p', st, q', v, f1, f2, f3, f4, f5⟩ := fin 0 1 (Or.inr (Or.inr (Or.inr (Or.inl ⟨rfl, rfl, by rw [q2]⟩))))
                rw [if_pos q2] at hidx
                simp (disch := omega) only [e0, e9, pb_bi, pb_l0, pb_l1, pb_l2, pb_l3, pb_l4, pb_l5, pb_l6, pb_l7, pb_l8, pb_l9, pb_l10, pb_l12, pb_l14, pb_l20, pb_l32, pb_l36, pb_l48, pb_l56, pb_l57, pb_l59, pb_l60, pb_l72, pb_l99, pb_l100, pb_l111, pb_l116, pb_l200, pb_l255, pb_l504, pb_l560, pb_l1000, pb_l9999, pb_l10000, pb_l100000, pb_l1000000, nI_add, pk_mul, pb_cl, pb_b, pb_le_t, pb_le_f, pb_lt_t, pb_lt_f, pb_eq_t, pb_eq_f, fm_let, hC, hR, pb_wr_e, pb_wr_n, pb_row_e, pb_row_n, pb_up_e, pb_up_n, pb_wr_2, pb_row_2, e06, e96, i0, i9, hidx]
                exact ⟨_, _, p', st, q', v, rfl, rfl, f1, f2, f3, f4, f5⟩
              · rw [if_neg q2] at hidx
                by_cases q3 : c p = 100
                · obtain ⟨p', st, q', v, f1, f2, f3, f4, f5⟩ := fin 1 1 (Or.inr (Or.inr (Or.inr (Or.inr (Or.inl ⟨rfl, rfl, by rw [q3]⟩)))))
                  rw [if_pos q3] at hidx
                  simp (disch := omega) only [e0, e9, pb_bi, pb_l0, pb_l1, pb_l2, pb_l3, pb_l4, pb_l5, pb_l6, pb_l7, pb_l8, pb_l9, pb_l10, pb_l12, pb_l14, pb_l20, pb_l32, pb_l36, pb_l48, pb_l56, pb_l57, pb_l59, pb_l60, pb_l72, pb_l99, pb_l100, pb_l111, pb_l116, pb_l200, pb_l255, pb_l504, pb_l560, pb_l1000, pb_l9999, pb_l10000, pb_l100000, pb_l1000000, nI_add, pk_mul, pb_cl, pb_b, pb_le_t, pb_le_f, pb_lt_t, pb_lt_f, pb_eq_t, pb_eq_f, fm_let, hC, hR, pb_wr_e, pb_wr_n, pb_row_e, pb_row_n, pb_up_e, pb_up_n, pb_wr_2, pb_row_2, e06, e96, i0, i9, hidx]
                  exact ⟨_, _, p', st, q', v, rfl, rfl, f1, f2, f3, f4, f5⟩
                · rw [if_neg q3] at hidx
                  by_cases q4 : c p = 111
                  · obtain ⟨p', st, q', v, f1, f2, f3, f4, f5⟩ := fin 2 1 (Or.inr (Or.inr (Or.inr (Or.inr (Or.inr (Or.inl ⟨rfl, rfl, by rw [q4]⟩))))))
                    rw [if_pos q4] at hidx
                    simp (disch := omega) only [e0, e9, pb_bi, pb_l0, pb_l1, pb_l2, pb_l3, pb_l4, pb_l5, pb_l6, pb_l7, pb_l8, pb_l9, pb_l10, pb_l12, pb_l14, pb_l20, pb_l32, pb_l36, pb_l48, pb_l56, pb_l57, pb_l59, pb_l60, pb_l72, pb_l99, pb_l100, pb_l111, pb_l116, pb_l200, pb_l255, pb_l504, pb_l560, pb_l1000, pb_l9999, pb_l10000, pb_l100000, pb_l1000000, nI_add, pk_mul, pb_cl, pb_b, pb_le_t, pb_le_f, pb_lt_t, pb_lt_f, pb_eq_t, pb_eq_f, fm_let, hC, hR, pb_wr_e, pb_wr_n, pb_row_e, pb_row_n, pb_up_e, pb_up_n, pb_wr_2, pb_row_2, e06, e96, i0, i9, hidx]
                    exact ⟨_, _, p', st, q', v, rfl, rfl, f1, f2, f3, f4, f5⟩
                  · rw [if_neg q4] at hidx
                    have hneg : (-nI 1 : Int32) < nI 0 := by decide
                    obtain ⟨p', st, q', v, f1, f2, f3, f4, f5⟩ := fin 6 4 (Or.inr (Or.inr (Or.inr (Or.inr (Or.inr (Or.inr ⟨rfl, rfl⟩))))))
                    simp (disch := omega) only [e0, e9, pb_bi, pb_l0, pb_l1, pb_l2, pb_l3, pb_l4, pb_l5, pb_l6, pb_l7, pb_l8, pb_l9, pb_l10, pb_l12, pb_l14, pb_l20, pb_l32, pb_l36, pb_l48, pb_l56, pb_l57, pb_l59, pb_l60, pb_l72, pb_l99, pb_l100, pb_l111, pb_l116, pb_l200, pb_l255, pb_l504, pb_l560, pb_l1000, pb_l9999, pb_l10000, pb_l100000, pb_l1000000, nI_add, pk_mul, pb_cl, pb_b, pb_le_t, pb_le_f, pb_lt_t, pb_lt_f, pb_eq_t, pb_eq_f, fm_let, hC, hR, pb_wr_e, pb_wr_n, pb_row_e, pb_row_n, pb_up_e, pb_up_n, pb_wr_2, pb_row_2, e06, e96, i0, i9, hidx, pb_ifp hneg, pb_l100, pb_l111, pb_l116]
                    exact ⟨_, _, p', st, q', v, rfl, rfl, f1, f2, f3, f4, f5⟩
        · omega
    · rcases pb_here (n := n) (bk := bk) htx6 hC6 hp with ⟨hlt, _, _⟩ | ⟨_, e06, e96⟩
      · omega
      · have hm32 : ¬ (-nI 1 : Int32) = nI 32 := pb_m1_ne (by omega)
        have hm0 : ¬ nI 0 ≤ (-nI 1 : Int32) := by decide
        simp (disch := omega) only [e0, e9, pb_bi, pb_l0, pb_l1, pb_l2, pb_l3, pb_l4, pb_l5, pb_l6, pb_l7, pb_l8, pb_l9, pb_l10, pb_l12, pb_l14, pb_l20, pb_l32, pb_l36, pb_l48, pb_l56, pb_l57, pb_l59, pb_l60, pb_l72, pb_l99, pb_l100, pb_l111, pb_l116, pb_l200, pb_l255, pb_l504, pb_l560, pb_l1000, pb_l9999, pb_l10000, pb_l100000, pb_l1000000, nI_add, pk_mul, pb_cl, pb_b, pb_le_t, pb_le_f, pb_lt_t, pb_lt_f, pb_eq_t, pb_eq_f, fm_let, hC, hR, pb_wr_e, pb_wr_n, pb_row_e, pb_row_n, pb_up_e, pb_up_n, pb_wr_2, pb_row_2, e06, e96, pb_ifn hm32, pb_ifn hm0]
        refine ⟨_, _, p, p, 5, 0, rfl, rfl, ⟨⟨?_, ?_, by omega⟩, ⟨?_, ?_, by omega⟩, ?_, Or.inl ⟨rfl, ?_⟩⟩, by omega, Or.inl rfl, sC6.trans pb_sC.wr, sR6.trans (pb_sR.wr (by omega))⟩
        all_goals simp (disch := omega) only [pb_wr_e, pb_wr_n, pb_row_e, pb_row_n, pb_up_e, pb_up_n, pb_wr_2, pb_row_2]
        · exact hC
        · exact hR
theorem pb_step {n bk rd y p : Nat} {c : Nat → Nat} {C R : fm_M} (hrd : 193 ≤ rd) (hn : 300 ≤ n) (htx : pb_tx y c C R) (hC : C.1 rd 0 = nI p) (hR : R.1 0 4 = nI p) (hp : p ≤ y) : ∃ C' R' p' st q v, fX10_step n bk rd C = some C' ∧ fX9_advances n R = some R' ∧ pb_tk rd y p' st q v C' R' ∧ p ≤ p' ∧ (q = 5 ∨ p < p') ∧ pb_sC rd C C' ∧ pb_sR R R' := by
  have hy := htx.1
  exact pb_step_loop (n := n) (bk := bk) hrd hn (n + 1) p C R htx hC hR hp (by omega)
