/-! roads, and the whole reading -/
set_option maxRecDepth 100000
theorem pb_pi.road {rd y p st q v mt mo it a b x : Nat} {c : Nat → Nat} {C R : fm_M} (d : pb_pi rd y p st q v mt mo it c C R) (hrd : 193 ≤ rd) (ha : a < mt) (hb : b < mt) (hab : a ≠ b) (hx : x ≤ 9) : pb_pi rd y p st q v mt mo it c (fm_wr (fm_wr C (rd + 1 + 5 + a) b (nI x)) (rd + 1 + 5 + b) a (nI x)) (fm_wr (fm_wr R 6 (36 + 6 * a + b) (nI x)) 6 (36 + 6 * b + a) (nI x)) := by
  obtain ⟨⟨t1, t2, t3, t4⟩, ⟨⟨k1, k2, k3⟩, ⟨k4, k5, k6⟩, k7, k8⟩, ⟨⟨h1, h2⟩, ⟨h3, h4, h5, h6⟩, h7, h8, h9⟩, hwl, hit⟩ := d
  have eC : ∀ c' k, (c' < rd + 1 + 5 ∨ rd + 1 + 11 ≤ c') → (fm_wr (fm_wr C (rd + 1 + 5 + a) b (nI x)) (rd + 1 + 5 + b) a (nI x)).1 c' k = C.1 c' k := fun c' k hc => by rw [pb_wr_n (by omega), pb_wr_n (by omega)]
  have eR : ∀ c', c' ≠ 6 → (fm_wr (fm_wr R 6 (36 + 6 * a + b) (nI x)) 6 (36 + 6 * b + a) (nI x)).1 c' = R.1 c' := fun c' hc => by rw [pb_wr_n hc, pb_wr_n hc]
  have eT : ∀ i j, i < 6 → j < 6 → (fm_wr (fm_wr C (rd + 1 + 5 + a) b (nI x)) (rd + 1 + 5 + b) a (nI x)).1 (rd + 1 + 5 + i) j = if (i = a ∧ j = b) ∨ (i = b ∧ j = a) then nI x else C.1 (rd + 1 + 5 + i) j := by
    intro i j hi hj
    by_cases e1 : i = b ∧ j = a
    · rw [e1.1, e1.2, pb_wr_e, pb_up_e, if_pos (Or.inr ⟨rfl, rfl⟩)]
    · rw [pb_wr_ne (by omega)]
      by_cases e2 : i = a ∧ j = b
      · rw [e2.1, e2.2, pb_wr_e, pb_up_e, if_pos (Or.inl ⟨rfl, rfl⟩)]
      · rw [pb_wr_ne (by omega), if_neg (by omega)]
  have eS : ∀ i j, i < 6 → j < 6 → (fm_wr (fm_wr R 6 (36 + 6 * a + b) (nI x)) 6 (36 + 6 * b + a) (nI x)).1 6 (36 + 6 * i + j) = if (i = a ∧ j = b) ∨ (i = b ∧ j = a) then nI x else R.1 6 (36 + 6 * i + j) := by
    intro i j hi hj
    by_cases e1 : i = b ∧ j = a
    · rw [e1.1, e1.2, pb_wr_e, pb_up_e, if_pos (Or.inr ⟨rfl, rfl⟩)]
    · rw [pb_wr_ne (by omega)]
      by_cases e2 : i = a ∧ j = b
      · rw [e2.1, e2.2, pb_wr_e, pb_up_e, if_pos (Or.inl ⟨rfl, rfl⟩)]
      · rw [pb_wr_ne (by omega), if_neg (by omega)]
  generalize fm_wr (fm_wr C (rd + 1 + 5 + a) b (nI x)) (rd + 1 + 5 + b) a (nI x) = C' at eC eT ⊢
  generalize fm_wr (fm_wr R 6 (36 + 6 * a + b) (nI x)) 6 (36 + 6 * b + a) (nI x) = R' at eR eS ⊢
  refine ⟨⟨t1, ?_, ?_, fun j hj => ?_⟩, ⟨⟨?_, ?_, k3⟩, ⟨?_, ?_, k6⟩, ?_, ?_⟩, ⟨⟨h1, h2⟩, ⟨?_, ?_, ?_, ?_⟩, fun t ht => ?_, fun i j hi hj => ?_, fun i hi => ?_⟩, ?_, ?_⟩
  · rw [eC _ _ (by omega)]; exact t2
  · rw [eR _ (by omega)]; exact t3
  · rw [eC _ _ (by omega), eR _ (by omega)]; exact t4 j hj
  · rw [eC _ _ (by omega)]; exact k1
  · rw [eR _ (by omega)]; exact k2
  · rw [eC _ _ (by omega)]; exact k4
  · rw [eR _ (by omega)]; exact k5
  · rw [eC _ _ (by omega)]; exact k7
  · rw [eC _ _ (by omega), eR _ (by omega)]; exact k8
  · rw [eC _ _ (by omega)]; exact h3
  · rw [eR _ (by omega)]; exact h4
  · rw [eC _ _ (by omega)]; exact h5
  · rw [eR _ (by omega)]; exact h6
  · rw [eC _ _ (by omega), eC _ _ (by omega), eC _ _ (by omega), eR 3 (by omega), eR 4 (by omega), eR 5 (by omega)]; exact h7 t ht
  · obtain ⟨z1, z2, w, z3, z4, z5⟩ := h8 i j hi hj
    rw [eT i j hi hj, eS i j hi hj, eS j i hj hi]
    by_cases e : (i = a ∧ j = b) ∨ (i = b ∧ j = a)
    · have e' : (j = a ∧ i = b) ∨ (j = b ∧ i = a) := by omega
      simp only [pb_ifp e, pb_ifp e']
      exact ⟨trivial, trivial, x, hx, rfl, fun h => by omega⟩
    · have e' : ¬ ((j = a ∧ i = b) ∨ (j = b ∧ i = a)) := by omega
      simp only [pb_ifn e, pb_ifn e']
      exact ⟨z1, z2, w, z3, z4, z5⟩
  · rw [eC _ _ (by omega), eC _ _ (by omega), eC _ _ (by omega), eR 7 (by omega), eR 8 (by omega), eR 9 (by omega)]; exact h9 i hi
  · rw [eR _ (by omega)]; exact hwl
  · rw [eC _ _ (by omega)]; exact hit
theorem pb_rd129f {n st : Nat} {R : fm_M} {l2 s0 : Int32} (h : R.1 0 8 = nI st) (hs : st ≤ 200) : fX9_readsItem_129 n R l2 s0 = some R := by
  unfold fX9_readsItem_129
  rw [pb_ftk h hs]
  simp only [pb_bi]
  rw [pb_fnum h hs]
  simp only [pb_bi]
  rw [pb_ill h hs]
  simp (disch := omega) only [pb_bi, pb_l0, pb_l1, pb_l2, pb_l3, pb_l4, pb_l5, pb_l6, pb_l7, pb_l8, pb_l9, pb_l10, pb_l12, pb_l14, pb_l20, pb_l32, pb_l36, pb_l48, pb_l56, pb_l57, pb_l59, pb_l60, pb_l72, pb_l99, pb_l100, pb_l111, pb_l116, pb_l200, pb_l255, pb_l504, pb_l560, pb_l1000, pb_l9999, pb_l10000, pb_l100000, pb_l1000000, nI_add, pk_mul, pb_cl, pb_b, pb_le_t, pb_le_f, pb_lt_t, pb_lt_f, pb_eq_t, pb_eq_f, if_true]
theorem pb_itemD {n bk rd y p st q v mt mo it : Nat} {c : Nat → Nat} {C R : fm_M} (hrd : 193 ≤ rd) (hn : 300 ≤ n) (h : pb_pi rd y p st q v mt mo it c C R) : pb_itR rd y p it c C R (fX10_item n bk rd C (nI 1)) (fX9_readsItem n R (nI 100)) := by
  have r2 := h.2.2.1.2.1.2.1
  have hmt := h.2.2.1.1.1
  unfold fX10_item fX9_readsItem
  simp (disch := omega) only [pb_l0, pb_l1, pb_l2, pb_l3, pb_l4, pb_l5, pb_l6, pb_l7, pb_l8, pb_l9, pb_l10, pb_l12, pb_l14, pb_l20, pb_l32, pb_l36, pb_l48, pb_l56, pb_l57, pb_l59, pb_l60, pb_l72, pb_l99, pb_l100, pb_l111, pb_l116, pb_l200, pb_l255, pb_l504, pb_l560, pb_l1000, pb_l9999, pb_l10000, pb_l100000, pb_l1000000, nI_add, pk_mul, pb_cl, pb_b, pb_le_t, pb_le_f, pb_lt_t, pb_lt_f, pb_eq_t, pb_eq_f, if_true, fm_let, r2]
  rcases pb_numT (n := n) (bk := bk) hrd hn h with ⟨w1, C1, R1, p1, st1, q1, v1, a1, a2, a3, a4, a5, a6, a7, a8, a9⟩ | ⟨b1, b2, b3⟩
  · have c81 := a5.2.2.1.2.1.1
    have r21 := a5.2.2.1.2.1.2.1
    simp (disch := omega) only [pb_l0, pb_l1, pb_l2, pb_l3, pb_l4, pb_l5, pb_l6, pb_l7, pb_l8, pb_l9, pb_l10, pb_l12, pb_l14, pb_l20, pb_l32, pb_l36, pb_l48, pb_l56, pb_l57, pb_l59, pb_l60, pb_l72, pb_l99, pb_l100, pb_l111, pb_l116, pb_l200, pb_l255, pb_l504, pb_l560, pb_l1000, pb_l9999, pb_l10000, pb_l100000, pb_l1000000, nI_add, pk_mul, pb_cl, pb_b, pb_le_t, pb_le_f, pb_lt_t, pb_lt_f, pb_eq_t, pb_eq_f, if_true, a3, a4, pb_bi, pb_bxl, c81, r21, a5.2.1.2.2.1]
    obtain ⟨d1, d2, d3⟩ := pb_due0 (n := n) (bk := bk) a5
    have bad : pb_itR rd y p it c C R (fX10_item_150 n bk rd C1 (nI w1)) (fX9_readsItem_128 n R1 (nI w1)) := by
      right
      refine ⟨st1, C1, fm_wr R1 0 8 (nI st1), d3, ?_, ?_, ?_, a8.g, a9.f.trans (pb_fR.wrD (by omega))⟩
      · unfold fX10_item_150 fX10_item_151
        rw [show (0 : Int32) = nI 0 from rfl, d1]
        rfl
      · unfold fX9_readsItem_128 fX9_readsItem_129
        rw [show (0 : Int32) = nI 0 from rfl, d2]
        simp only [pb_bi]
        rw [pb_fnum (st := st1) (by simp (disch := omega) only [pb_wr_e, pb_wr_n, pb_row_e, pb_row_n, pb_up_e, pb_up_n, pb_wr_2, pb_row_2]) d3]
        simp only [pb_bi]
        rw [pb_ill (st := st1) (by simp (disch := omega) only [pb_wr_e, pb_wr_n, pb_row_e, pb_row_n, pb_up_e, pb_up_n, pb_wr_2, pb_row_2]) d3]
        simp (disch := omega) only [pb_bi, pb_l0, pb_l1, pb_l2, pb_l3, pb_l4, pb_l5, pb_l6, pb_l7, pb_l8, pb_l9, pb_l10, pb_l12, pb_l14, pb_l20, pb_l32, pb_l36, pb_l48, pb_l56, pb_l57, pb_l59, pb_l60, pb_l72, pb_l99, pb_l100, pb_l111, pb_l116, pb_l200, pb_l255, pb_l504, pb_l560, pb_l1000, pb_l9999, pb_l10000, pb_l100000, pb_l1000000, nI_add, pk_mul, pb_cl, pb_b, pb_le_t, pb_le_f, pb_lt_t, pb_lt_f, pb_eq_t, pb_eq_f, if_true]
      · simp (disch := omega) only [pb_wr_e, pb_wr_n, pb_row_e, pb_row_n, pb_up_e, pb_up_n, pb_wr_2, pb_row_2]
    rcases pb_tok3 a5.2.1.2.2.2 with ⟨t1, t2, t3, t4, t5⟩ | ⟨t1, t2, t3⟩
    · rcases pb_inm n bk mt C1 R1 hmt (nI v1) with ⟨u, u1, u2, _, i9⟩ | ⟨_, i9⟩
      · rw [nI_eq (by omega) (by omega)] at u2
        subst u2
        simp (disch := omega) only [pb_l0, pb_l1, pb_l2, pb_l3, pb_l4, pb_l5, pb_l6, pb_l7, pb_l8, pb_l9, pb_l10, pb_l12, pb_l14, pb_l20, pb_l32, pb_l36, pb_l48, pb_l56, pb_l57, pb_l59, pb_l60, pb_l72, pb_l99, pb_l100, pb_l111, pb_l116, pb_l200, pb_l255, pb_l504, pb_l560, pb_l1000, pb_l9999, pb_l10000, pb_l100000, pb_l1000000, nI_add, pk_mul, pb_cl, pb_b, pb_le_t, pb_le_f, pb_lt_t, pb_lt_f, pb_eq_t, pb_eq_f, if_true, t1, t2, t4, t5, i9, pb_bi]
        by_cases e : v1 = w1
        · simp (disch := omega) only [pb_l0, pb_l1, pb_l2, pb_l3, pb_l4, pb_l5, pb_l6, pb_l7, pb_l8, pb_l9, pb_l10, pb_l12, pb_l14, pb_l20, pb_l32, pb_l36, pb_l48, pb_l56, pb_l57, pb_l59, pb_l60, pb_l72, pb_l99, pb_l100, pb_l111, pb_l116, pb_l200, pb_l255, pb_l504, pb_l560, pb_l1000, pb_l9999, pb_l10000, pb_l100000, pb_l1000000, nI_add, pk_mul, pb_cl, pb_b, pb_le_t, pb_le_f, pb_lt_t, pb_lt_f, pb_eq_t, pb_eq_f]
          exact bad
        · simp (disch := omega) only [pb_l0, pb_l1, pb_l2, pb_l3, pb_l4, pb_l5, pb_l6, pb_l7, pb_l8, pb_l9, pb_l10, pb_l12, pb_l14, pb_l20, pb_l32, pb_l36, pb_l48, pb_l56, pb_l57, pb_l59, pb_l60, pb_l72, pb_l99, pb_l100, pb_l111, pb_l116, pb_l200, pb_l255, pb_l504, pb_l560, pb_l1000, pb_l9999, pb_l10000, pb_l100000, pb_l1000000, nI_add, pk_mul, pb_cl, pb_b, pb_le_t, pb_le_f, pb_lt_t, pb_lt_f, pb_eq_t, pb_eq_f]
          obtain ⟨C2, R2, p2, st2, q2, v2, e1, e2, e3, e4, e5, e6, e7⟩ := pb_due1 (n := n) (bk := bk) hrd hn a5
          rw [t4] at e1
          rw [t5] at e2
          unfold fX10_item_151 fX9_readsItem_129
          simp (disch := omega) only [pb_l0, pb_l1, pb_l2, pb_l3, pb_l4, pb_l5, pb_l6, pb_l7, pb_l8, pb_l9, pb_l10, pb_l12, pb_l14, pb_l20, pb_l32, pb_l36, pb_l48, pb_l56, pb_l57, pb_l59, pb_l60, pb_l72, pb_l99, pb_l100, pb_l111, pb_l116, pb_l200, pb_l255, pb_l504, pb_l560, pb_l1000, pb_l9999, pb_l10000, pb_l100000, pb_l1000000, nI_add, pk_mul, pb_cl, pb_b, pb_le_t, pb_le_f, pb_lt_t, pb_lt_f, pb_eq_t, pb_eq_f, if_true, e1, e2, pb_bi, pb_bxl, fm_let]
          rcases pb_numR (n := n) (bk := bk) 1 9 (by omega) (by omega) hrd hn e3 with ⟨w3, C3, R3, p3, st3, q3, v3, g1, g2, g3, g4, g5, g6, g7, g8, g9⟩ | ⟨b1, b2, b3⟩
          · left
            have wl := pb_well (n := n) g5.2.2.2.1
            simp (disch := omega) only [pb_l0, pb_l1, pb_l2, pb_l3, pb_l4, pb_l5, pb_l6, pb_l7, pb_l8, pb_l9, pb_l10, pb_l12, pb_l14, pb_l20, pb_l32, pb_l36, pb_l48, pb_l56, pb_l57, pb_l59, pb_l60, pb_l72, pb_l99, pb_l100, pb_l111, pb_l116, pb_l200, pb_l255, pb_l504, pb_l560, pb_l1000, pb_l9999, pb_l10000, pb_l100000, pb_l1000000, nI_add, pk_mul, pb_cl, pb_b, pb_le_t, pb_le_f, pb_lt_t, pb_lt_f, pb_eq_t, pb_eq_f, if_true, g3, g4, pb_bi, pb_bxl, wl, pb_wr_e, pb_wr_n, pb_row_e, pb_row_n, pb_up_e, pb_up_n, pb_wr_2, pb_row_2]
            refine ⟨_, _, p3, st3, q3, v3, mt, mo, rfl, rfl, g5.road hrd a1 u1 (by omega) (by omega), by omega, ?_, ?_⟩
            · exact (((a8.g.trans e6.g).trans g8.g).trans (pb_gC.wr (by omega))).trans (pb_gC.wr (by omega))
            · exact (((a9.f.trans e7.f).trans g9.f).trans (pb_fR.wrD (by omega))).trans (pb_fR.wrD (by omega))
          · right
            simp (disch := omega) only [pb_l0, pb_l1, pb_l2, pb_l3, pb_l4, pb_l5, pb_l6, pb_l7, pb_l8, pb_l9, pb_l10, pb_l12, pb_l14, pb_l20, pb_l32, pb_l36, pb_l48, pb_l56, pb_l57, pb_l59, pb_l60, pb_l72, pb_l99, pb_l100, pb_l111, pb_l116, pb_l200, pb_l255, pb_l504, pb_l560, pb_l1000, pb_l9999, pb_l10000, pb_l100000, pb_l1000000, nI_add, pk_mul, pb_cl, pb_b, pb_le_t, pb_le_f, pb_lt_t, pb_lt_f, pb_eq_t, pb_eq_f, if_true, b2, b3, pb_bi, pb_bxr]
            rw [pb_ill (st := st2) (by simp (disch := omega) only [pb_wr_e, pb_wr_n, pb_row_e, pb_row_n, pb_up_e, pb_up_n, pb_wr_2, pb_row_2]) b1]
            simp (disch := omega) only [pb_bi, pb_l0, pb_l1, pb_l2, pb_l3, pb_l4, pb_l5, pb_l6, pb_l7, pb_l8, pb_l9, pb_l10, pb_l12, pb_l14, pb_l20, pb_l32, pb_l36, pb_l48, pb_l56, pb_l57, pb_l59, pb_l60, pb_l72, pb_l99, pb_l100, pb_l111, pb_l116, pb_l200, pb_l255, pb_l504, pb_l560, pb_l1000, pb_l9999, pb_l10000, pb_l100000, pb_l1000000, nI_add, pk_mul, pb_cl, pb_b, pb_le_t, pb_le_f, pb_lt_t, pb_lt_f, pb_eq_t, pb_eq_f, if_true]
            refine ⟨st2, _, _, b1, rfl, rfl, ?_, a8.g.trans e6.g, (a9.f.trans e7.f).trans (pb_fR.wrD (by omega))⟩
            simp (disch := omega) only [pb_wr_e, pb_wr_n, pb_row_e, pb_row_n, pb_up_e, pb_up_n, pb_wr_2, pb_row_2]
      · have hge : ¬ v1 < mt := by
          intro hlt
          rcases pb_inm n bk mt C1 R1 hmt (nI v1) with ⟨u, u1, u2, _, i9'⟩ | _
          · rw [i9] at i9'
            have : nI 0 = nI 1 := by injection i9' with w; injection w
            rw [nI_eq (by omega) (by omega)] at this
            omega
          · have hm1 : nI mt - nI 1 = nI (mt - 1) := pk_sub (by omega)
            rcases pb_in n bk C1 R1 0 (mt - 1) (by omega) (by omega) (nI v1) with ⟨_, _, _, _, _, i9'⟩ | ⟨hv, _, _⟩
            · rw [hm1] at i9
              rw [i9] at i9'
              have : nI 0 = nI 1 := by injection i9' with w; injection w
              rw [nI_eq (by omega) (by omega)] at this
              omega
            · exact hv v1 (by omega) (by omega) rfl
        simp (disch := omega) only [pb_l0, pb_l1, pb_l2, pb_l3, pb_l4, pb_l5, pb_l6, pb_l7, pb_l8, pb_l9, pb_l10, pb_l12, pb_l14, pb_l20, pb_l32, pb_l36, pb_l48, pb_l56, pb_l57, pb_l59, pb_l60, pb_l72, pb_l99, pb_l100, pb_l111, pb_l116, pb_l200, pb_l255, pb_l504, pb_l560, pb_l1000, pb_l9999, pb_l10000, pb_l100000, pb_l1000000, nI_add, pk_mul, pb_cl, pb_b, pb_le_t, pb_le_f, pb_lt_t, pb_lt_f, pb_eq_t, pb_eq_f, if_true, t1, t2, t4, t5, i9, pb_bi]
        exact bad
    · simp (disch := omega) only [pb_l0, pb_l1, pb_l2, pb_l3, pb_l4, pb_l5, pb_l6, pb_l7, pb_l8, pb_l9, pb_l10, pb_l12, pb_l14, pb_l20, pb_l32, pb_l36, pb_l48, pb_l56, pb_l57, pb_l59, pb_l60, pb_l72, pb_l99, pb_l100, pb_l111, pb_l116, pb_l200, pb_l255, pb_l504, pb_l560, pb_l1000, pb_l9999, pb_l10000, pb_l100000, pb_l1000000, nI_add, pk_mul, pb_cl, pb_b, pb_le_t, pb_le_f, pb_lt_t, pb_lt_f, pb_eq_t, pb_eq_f, if_true, pb_ifn t3]
      exact bad
  · have z2 : (fm_wr R 0 8 (nI st)).1 2 2 = nI mt := by rw [pb_wr_ne (by omega)]; exact r2
    simp (disch := omega) only [pb_l0, pb_l1, pb_l2, pb_l3, pb_l4, pb_l5, pb_l6, pb_l7, pb_l8, pb_l9, pb_l10, pb_l12, pb_l14, pb_l20, pb_l32, pb_l36, pb_l48, pb_l56, pb_l57, pb_l59, pb_l60, pb_l72, pb_l99, pb_l100, pb_l111, pb_l116, pb_l200, pb_l255, pb_l504, pb_l560, pb_l1000, pb_l9999, pb_l10000, pb_l100000, pb_l1000000, nI_add, pk_mul, pb_cl, pb_b, pb_le_t, pb_le_f, pb_lt_t, pb_lt_f, pb_eq_t, pb_eq_f, if_true, b2, b3, pb_bi, pb_bxr, z2]
    have hf : (fm_wr R 0 8 (nI st)).1 0 8 = nI st := by simp (disch := omega) only [pb_wr_e, pb_wr_n, pb_row_e, pb_row_n, pb_up_e, pb_up_n, pb_wr_2, pb_row_2]
    right
    refine ⟨st, _, fm_wr R 0 8 (nI st), b1, rfl, ?_, hf, pb_gC.refl, pb_fR.wrD (by omega)⟩
    obtain ⟨r, hr⟩ := pb_in_any (n := n) (R := fm_wr R 0 8 (nI st)) (x := (fm_wr R 0 8 (nI st)).1 0 7) (a := nI 0) (b := nI mt - nI 1)
    simp only [hr, pb_bi, fX9_readsItem_128, pb_rd129f hf b1]
    split
    · split
      · rfl
      · split <;> rfl
    · rfl
theorem pb_p57f {n k st : Nat} {R : fm_M} {l : Int32} (h : R.1 0 8 = nI st) (hs : st ≤ 200) (hk : 0 < k) : fX9_plain_57 n k R l = some (-nI 10 - nI st, R) := by
  obtain ⟨k, rfl⟩ : ∃ i, k = i + 1 := ⟨k - 1, by omega⟩
  rw [fX9_plain_57, pb_ill h hs]
  simp (disch := omega) only [pb_bi, pb_l0, pb_l1, pb_l2, pb_l3, pb_l4, pb_l5, pb_l6, pb_l7, pb_l8, pb_l9, pb_l10, pb_l12, pb_l14, pb_l20, pb_l32, pb_l36, pb_l48, pb_l56, pb_l57, pb_l59, pb_l60, pb_l72, pb_l99, pb_l100, pb_l111, pb_l116, pb_l200, pb_l255, pb_l504, pb_l560, pb_l1000, pb_l9999, pb_l10000, pb_l100000, pb_l1000000, nI_add, pk_mul, pb_cl, pb_b, pb_le_t, pb_le_f, pb_lt_t, pb_lt_f, pb_eq_t, pb_eq_f, if_true, fX9_plain_168, pb_ill h hs, h]
theorem pb_p144f {n k st : Nat} {R : fm_M} {l : Int32} (h : R.1 0 8 = nI st) (hs : st ≤ 200) (hk : 0 < k) : fX9_plain_144 n (fX9_plain_57 n k) R l = some (-nI 10 - nI st, R) := by
  unfold fX9_plain_144 fX9_plain_158
  rw [pb_ftk h hs, pb_ftk h hs]
  simp only [pb_bi, pb_p57f h hs hk]
  split <;> rfl
theorem pb_p128f {n k st : Nat} {R R' : fm_M} {l s0 : Int32} (h : R'.1 0 8 = nI st) (hs : st ≤ 200) (hk : 0 < k) (ht : fX9_takes n R s0 = some (nI 0, R')) : fX9_plain_128 n (fX9_plain_57 n k) R l s0 = some (-nI 10 - nI st, R') := by
  unfold fX9_plain_128
  rw [ht]
  simp only [pb_bi]
  rw [pb_ill h hs]
  simp (disch := omega) only [pb_bi, pb_l0, pb_l1, pb_l2, pb_l3, pb_l4, pb_l5, pb_l6, pb_l7, pb_l8, pb_l9, pb_l10, pb_l12, pb_l14, pb_l20, pb_l32, pb_l36, pb_l48, pb_l56, pb_l57, pb_l59, pb_l60, pb_l72, pb_l99, pb_l100, pb_l111, pb_l116, pb_l200, pb_l255, pb_l504, pb_l560, pb_l1000, pb_l9999, pb_l10000, pb_l100000, pb_l1000000, nI_add, pk_mul, pb_cl, pb_b, pb_le_t, pb_le_f, pb_lt_t, pb_lt_f, pb_eq_t, pb_eq_f, if_true]
  exact pb_p144f h hs hk
theorem pb_read {n bk rd y : Nat} {c : Nat → Nat} (hrd : 193 ≤ rd) (hn : 300 ≤ n) : ∀ (k p st q v mt mo it : Nat) (C R : fm_M), pb_pi rd y p st q v mt mo it c C R → y + 1 < p + k → (∃ C' R' p' st' v' mt' mo' it', fX10_read_4 n bk rd k C = (fm_bv (fX1_measure n bk (rd + 1) C') fun M3 => some (Sum.inl (), M3)) ∧ fX9_plain_57 n k R (nI it) = (fm_bv (fX9_settles n R') fun M7 => some (nI it', M7)) ∧ pb_pi rd y p' st' 5 v' mt' mo' it' c C' R' ∧ pb_gC rd C C' ∧ pb_fR R R') ∨ (∃ st C' R', st ≤ 200 ∧ fX10_read_4 n bk rd k C = some (Sum.inr (nI st), C') ∧ fX9_plain_57 n k R (nI it) = some (-nI 10 - nI st, R') ∧ pb_gC rd C C' ∧ pb_fR R R') := by
  intro k
  induction k with
  | zero => intro p st q v mt mo it C R h hk; have := h.2.1.1.2.2; omega
  | succ k ih =>
    intro p st q v mt mo it C R h hk
    have hp := h.2.1.1.2.2
    have hk0 : 0 < k := by omega
    have hq := h.2.1.2.2.1
    have hw := pb_well (n := n) h.2.2.2.1
    have c8 := h.2.2.1.2.1.1
    have r2 := h.2.2.1.2.1.2.1
    have c9 := h.2.2.1.2.1.2.2.1
    have r3 := h.2.2.1.2.1.2.2.2
    have hmt := h.2.2.1.1.1
    have hmo := h.2.2.1.1.2
    rw [fX10_read_4, fX9_plain_57]
    obtain ⟨d1, d2, d3⟩ := pb_due0 (n := n) (bk := bk) h
    have hf : (fm_wr R 0 8 (nI st)).1 0 8 = nI st := by simp (disch := omega) only [pb_wr_e, pb_wr_n, pb_row_e, pb_row_n, pb_up_e, pb_up_n, pb_wr_2, pb_row_2]
    have rej : ∀ x : Option ((Unit ⊕ Int32) × fm_M), x = some (Sum.inr (nI st), C) → ((∃ C' R' p' st' v' mt' mo' it', x = (fm_bv (fX1_measure n bk (rd + 1) C') fun M3 => some (Sum.inl (), M3)) ∧ fX9_plain_127 n (fX9_plain_57 n k) R (nI it) = (fm_bv (fX9_settles n R') fun M7 => some (nI it', M7)) ∧ pb_pi rd y p' st' 5 v' mt' mo' it' c C' R' ∧ pb_gC rd C C' ∧ pb_fR R R') ∨ (∃ st C' R', st ≤ 200 ∧ x = some (Sum.inr (nI st), C') ∧ fX9_plain_127 n (fX9_plain_57 n k) R (nI it) = some (-nI 10 - nI st, R') ∧ pb_gC rd C C' ∧ pb_fR R R')) := by
      intro x hx
      right
      exact ⟨st, C, _, d3, hx, pb_p128f hf d3 hk0 (by rw [show (0 : Int32) = nI 0 from rfl]; exact d2), pb_gC.refl, pb_fR.wrD (by omega)⟩
    have acc : ∀ (ch : Nat), R.1 0 7 = nI ch → (∀ C2 R2 p2 st2 q2 v2, pb_pi rd y p2 st2 q2 v2 mt mo it c C2 R2 → pb_itR rd y p2 it c C2 R2 (fX10_item n bk rd C2 (nI q)) (fX9_readsItem n R2 (nI ch))) → ∀ x : Option ((Unit ⊕ Int32) × fm_M), x = (fm_bx (fX10_due n bk rd C (nI 1)) fun r10 M11 => fm_bx (fX10_item n bk rd M11 (nI q)) fun r14 M15 => if M15.1 rd 2 = nI 4 then fX10_read_46 n bk rd (fX10_read_4 n bk rd k) M15 (nI 1) else fX10_read_46 n bk rd (fX10_read_4 n bk rd k) M15 (nI 0)) → ((∃ C' R' p' st' v' mt' mo' it', x = (fm_bv (fX1_measure n bk (rd + 1) C') fun M3 => some (Sum.inl (), M3)) ∧ fX9_plain_123 n (fX9_plain_57 n k) R (nI it) = (fm_bv (fX9_settles n R') fun M7 => some (nI it', M7)) ∧ pb_pi rd y p' st' 5 v' mt' mo' it' c C' R' ∧ pb_gC rd C C' ∧ pb_fR R R') ∨ (∃ st C' R', st ≤ 200 ∧ x = some (Sum.inr (nI st), C') ∧ fX9_plain_123 n (fX9_plain_57 n k) R (nI it) = some (-nI 10 - nI st, R') ∧ pb_gC rd C C' ∧ pb_fR R R')) := by
      intro ch hch hitem x hx
      obtain ⟨C1, R1, p1, st1, q1, v1, e1, e2, e3, e4, e5, e6, e7⟩ := pb_due1 (n := n) (bk := bk) hrd hn h
      rw [hch] at e2
      have hw1 := pb_well (n := n) e3.2.2.2.1
      rw [e1] at hx
      simp only [pb_bxl] at hx
      unfold fX9_plain_123 fX9_plain_128
      rw [show (1 : Int32) = nI 1 from rfl, e2]
      simp only [pb_bi]
      rw [hw1]
      simp (disch := omega) only [pb_bi, pb_l0, pb_l1, pb_l2, pb_l3, pb_l4, pb_l5, pb_l6, pb_l7, pb_l8, pb_l9, pb_l10, pb_l12, pb_l14, pb_l20, pb_l32, pb_l36, pb_l48, pb_l56, pb_l57, pb_l59, pb_l60, pb_l72, pb_l99, pb_l100, pb_l111, pb_l116, pb_l200, pb_l255, pb_l504, pb_l560, pb_l1000, pb_l9999, pb_l10000, pb_l100000, pb_l1000000, nI_add, pk_mul, pb_cl, pb_b, pb_le_t, pb_le_f, pb_lt_t, pb_lt_f, pb_eq_t, pb_eq_f]
      rcases hitem C1 R1 p1 st1 q1 v1 e3 with ⟨C2, R2, p2, st2, q2, v2, mt2, mo2, g1, g2, g3, g4, g5, g6⟩ | ⟨st2, C2, R2, g0, g1, g2, g3, g4, g5⟩
      · rw [g1] at hx
        simp only [pb_bxl] at hx
        rw [g2]
        simp only [pb_bv]
        obtain ⟨f1, f2, f3⟩ := pb_due0 (n := n) (bk := bk) g3
        obtain ⟨C3, R3, p3, st3, q3, v3, j1, j2, j3, j4, j5, j6, j7⟩ := pb_due1 (n := n) (bk := bk) hrd hn g3
        have hf2 : (fm_wr R2 0 8 (nI st2)).1 0 8 = nI st2 := by simp (disch := omega) only [pb_wr_e, pb_wr_n, pb_row_e, pb_row_n, pb_up_e, pb_up_n, pb_wr_2, pb_row_2]
        have hq2 := g3.2.1.2.2.1
        unfold fX9_plain_144 fX9_plain_158
        rw [hq2] at hx
        unfold fX10_read_46 at hx
        have hstop : (q2 = 4 ∧ R2.1 0 5 = nI 3) ∨ (q2 ≠ 4 ∧ q2 ≤ 6 ∧ ¬ R2.1 0 5 = nI 3) := by
          rcases g3.2.1.2.2.2 with ⟨h1, h2⟩ | ⟨h1, h2, _⟩ | ⟨h1, h2⟩ | ⟨h1, h2, _⟩ | ⟨h1, h2, _⟩ | ⟨h1, h2, _⟩ | ⟨h1, h2⟩
          · right; refine ⟨by omega, by omega, ?_⟩; rw [h2]; decide
          · right; refine ⟨by omega, by omega, ?_⟩; rw [h2]; decide
          · left; exact ⟨h1, h2⟩
          · right; refine ⟨by omega, by omega, ?_⟩; rw [h2]; decide
          · right; refine ⟨by omega, by omega, ?_⟩; rw [h2]; decide
          · right; refine ⟨by omega, by omega, ?_⟩; rw [h2]; decide
          · right; refine ⟨by omega, by omega, ?_⟩; rw [h2]; decide
        rcases hstop with ⟨s1, s2⟩ | ⟨s1, s3, s2⟩
        · have hit3 := j3.2.2.2.2
          have hpi : pb_pi rd y p3 st3 q3 v3 mt2 mo2 (it + 1) c (fm_wr C3 (rd + 1) 10 (nI (it + 1))) R3 := by
            obtain ⟨⟨t1, t2, t3, t4⟩, ⟨⟨k1, k2, k3⟩, ⟨k4, k5, k6⟩, k7, k8⟩, hdr, hwl, hit⟩ := j3
            refine ⟨⟨t1, by rw [pb_wr_ne (by omega)]; exact t2, t3, fun j hj => by rw [pb_wr_n (by omega)]; exact t4 j hj⟩, ⟨⟨by rw [pb_wr_ne (by omega)]; exact k1, k2, k3⟩, ⟨by rw [pb_wr_ne (by omega)]; exact k4, k5, k6⟩, by rw [pb_wr_ne (by omega)]; exact k7, by rw [pb_wr_ne (by omega)]; exact k8⟩, hdr.congr (fun c' j a1 a2 a3 a4 a5 => pb_wr_ne (by omega)) (fun _ _ _ _ _ _ _ => rfl), hwl, by simp (disch := omega) only [pb_wr_e, pb_wr_n, pb_row_e, pb_row_n, pb_up_e, pb_up_n, pb_wr_2, pb_row_2]⟩
          have frC : pb_gC rd C (fm_wr C3 (rd + 1) 10 (nI (it + 1))) := ((e6.g.trans g5).trans j6.g).trans (pb_gC.wr (by omega))
          have frR : pb_fR R R3 := (e7.f.trans g6).trans j7.f
          simp (disch := omega) only [pb_l0, pb_l1, pb_l2, pb_l3, pb_l4, pb_l5, pb_l6, pb_l7, pb_l8, pb_l9, pb_l10, pb_l12, pb_l14, pb_l20, pb_l32, pb_l36, pb_l48, pb_l56, pb_l57, pb_l59, pb_l60, pb_l72, pb_l99, pb_l100, pb_l111, pb_l116, pb_l200, pb_l255, pb_l504, pb_l560, pb_l1000, pb_l9999, pb_l10000, pb_l100000, pb_l1000000, nI_add, pk_mul, pb_cl, pb_b, pb_le_t, pb_le_f, pb_lt_t, pb_lt_f, pb_eq_t, pb_eq_f, if_true, s1, j1, pb_bxl, fm_let, hit3] at hx
          simp (disch := omega) only [pb_l0, pb_l1, pb_l2, pb_l3, pb_l4, pb_l5, pb_l6, pb_l7, pb_l8, pb_l9, pb_l10, pb_l12, pb_l14, pb_l20, pb_l32, pb_l36, pb_l48, pb_l56, pb_l57, pb_l59, pb_l60, pb_l72, pb_l99, pb_l100, pb_l111, pb_l116, pb_l200, pb_l255, pb_l504, pb_l560, pb_l1000, pb_l9999, pb_l10000, pb_l100000, pb_l1000000, nI_add, pk_mul, pb_cl, pb_b, pb_le_t, pb_le_f, pb_lt_t, pb_lt_f, pb_eq_t, pb_eq_f, if_true, s2, j2, pb_bi]
          rw [hx]
          have hp3 := hpi.2.1.1.2.2
          by_cases q5 : q3 = 5
          · subst q5
            left
            obtain ⟨k, rfl⟩ : ∃ i, k = i + 1 := ⟨k - 1, by omega⟩
            have r5 : R3.1 0 5 = nI 0 := by
              rcases hpi.2.1.2.2.2 with ⟨h1, h2⟩ | ⟨h1, _⟩ | ⟨h1, _⟩ | ⟨h1, _⟩ | ⟨h1, _⟩ | ⟨h1, _⟩ | ⟨h1, _⟩
              · exact h2
              all_goals omega
            refine ⟨_, R3, p3, st3, v3, mt2, mo2, it + 1, ?_, ?_, hpi, frC, frR⟩
            · rw [fX10_read_4, hpi.2.1.2.2.1]
              simp (disch := omega) only [pb_l0, pb_l1, pb_l2, pb_l3, pb_l4, pb_l5, pb_l6, pb_l7, pb_l8, pb_l9, pb_l10, pb_l12, pb_l14, pb_l20, pb_l32, pb_l36, pb_l48, pb_l56, pb_l57, pb_l59, pb_l60, pb_l72, pb_l99, pb_l100, pb_l111, pb_l116, pb_l200, pb_l255, pb_l504, pb_l560, pb_l1000, pb_l9999, pb_l10000, pb_l100000, pb_l1000000, nI_add, pk_mul, pb_cl, pb_b, pb_le_t, pb_le_f, pb_lt_t, pb_lt_f, pb_eq_t, pb_eq_f, if_true]
            · rw [fX9_plain_57, pb_well hpi.2.2.2.1]
              simp (disch := omega) only [pb_bi, pb_l0, pb_l1, pb_l2, pb_l3, pb_l4, pb_l5, pb_l6, pb_l7, pb_l8, pb_l9, pb_l10, pb_l12, pb_l14, pb_l20, pb_l32, pb_l36, pb_l48, pb_l56, pb_l57, pb_l59, pb_l60, pb_l72, pb_l99, pb_l100, pb_l111, pb_l116, pb_l200, pb_l255, pb_l504, pb_l560, pb_l1000, pb_l9999, pb_l10000, pb_l100000, pb_l1000000, nI_add, pk_mul, pb_cl, pb_b, pb_le_t, pb_le_f, pb_lt_t, pb_lt_f, pb_eq_t, pb_eq_f, if_true, r5, fX9_plain_168, pb_well hpi.2.2.2.1]
          · rcases ih p3 st3 q3 v3 mt2 mo2 (it + 1) _ _ hpi (by omega) with ⟨C', R', p', st', v', mt', mo', it', m1, m2, m3, m4, m5⟩ | ⟨st', C', R', m0, m1, m2, m3, m4⟩
            · exact Or.inl ⟨C', R', p', st', v', mt', mo', it', m1, m2, m3, frC.trans m4, frR.trans m5⟩
            · exact Or.inr ⟨st', C', R', m0, m1, m2, frC.trans m3, frR.trans m4⟩
        · right
          simp (disch := omega) only [pb_l0, pb_l1, pb_l2, pb_l3, pb_l4, pb_l5, pb_l6, pb_l7, pb_l8, pb_l9, pb_l10, pb_l12, pb_l14, pb_l20, pb_l32, pb_l36, pb_l48, pb_l56, pb_l57, pb_l59, pb_l60, pb_l72, pb_l99, pb_l100, pb_l111, pb_l116, pb_l200, pb_l255, pb_l504, pb_l560, pb_l1000, pb_l9999, pb_l10000, pb_l100000, pb_l1000000, nI_add, pk_mul, pb_cl, pb_b, pb_le_t, pb_le_f, pb_lt_t, pb_lt_f, pb_eq_t, pb_eq_f, if_true, f1, pb_bxr] at hx
          simp (disch := omega) only [pb_l0, pb_l1, pb_l2, pb_l3, pb_l4, pb_l5, pb_l6, pb_l7, pb_l8, pb_l9, pb_l10, pb_l12, pb_l14, pb_l20, pb_l32, pb_l36, pb_l48, pb_l56, pb_l57, pb_l59, pb_l60, pb_l72, pb_l99, pb_l100, pb_l111, pb_l116, pb_l200, pb_l255, pb_l504, pb_l560, pb_l1000, pb_l9999, pb_l10000, pb_l100000, pb_l1000000, nI_add, pk_mul, pb_cl, pb_b, pb_le_t, pb_le_f, pb_lt_t, pb_lt_f, pb_eq_t, pb_eq_f, if_true, pb_ifn s2, f2, pb_bi]
          exact ⟨st2, C2, fm_wr R2 0 8 (nI st2), f3, hx, pb_p57f hf2 f3 hk0, e6.g.trans g5, (e7.f.trans g6).trans (pb_fR.wrD (by omega))⟩
      · right
        rw [g1] at hx
        simp only [pb_bxr] at hx
        rw [g2]
        simp only [pb_bv]
        exact ⟨st2, C2, R2, g0, hx, pb_p144f g3 g0 hk0, e6.g.trans g4, e7.f.trans g5⟩
    rw [hq, hw]
    unfold fX10_may
    rcases h.2.1.2.2.2 with ⟨q1, x1⟩ | ⟨q1, x1, _⟩ | ⟨q1, x1⟩ | ⟨q1, x1, x2⟩ | ⟨q1, x1, x2⟩ | ⟨q1, x1, x2⟩ | ⟨q1, x1⟩
    · subst q1
      left
      refine ⟨C, R, p, st, v, mt, mo, it, ?_, ?_, h, pb_gC.refl, pb_fR.refl⟩
      · simp (disch := omega) only [pb_l0, pb_l1, pb_l2, pb_l3, pb_l4, pb_l5, pb_l6, pb_l7, pb_l8, pb_l9, pb_l10, pb_l12, pb_l14, pb_l20, pb_l32, pb_l36, pb_l48, pb_l56, pb_l57, pb_l59, pb_l60, pb_l72, pb_l99, pb_l100, pb_l111, pb_l116, pb_l200, pb_l255, pb_l504, pb_l560, pb_l1000, pb_l9999, pb_l10000, pb_l100000, pb_l1000000, nI_add, pk_mul, pb_cl, pb_b, pb_le_t, pb_le_f, pb_lt_t, pb_lt_f, pb_eq_t, pb_eq_f, if_true]
      · simp (disch := omega) only [pb_bi, pb_l0, pb_l1, pb_l2, pb_l3, pb_l4, pb_l5, pb_l6, pb_l7, pb_l8, pb_l9, pb_l10, pb_l12, pb_l14, pb_l20, pb_l32, pb_l36, pb_l48, pb_l56, pb_l57, pb_l59, pb_l60, pb_l72, pb_l99, pb_l100, pb_l111, pb_l116, pb_l200, pb_l255, pb_l504, pb_l560, pb_l1000, pb_l9999, pb_l10000, pb_l100000, pb_l1000000, nI_add, pk_mul, pb_cl, pb_b, pb_le_t, pb_le_f, pb_lt_t, pb_lt_f, pb_eq_t, pb_eq_f, if_true, x1, fX9_plain_168, hw]
    · subst q1
      simp (disch := omega) only [pb_bi, pb_l0, pb_l1, pb_l2, pb_l3, pb_l4, pb_l5, pb_l6, pb_l7, pb_l8, pb_l9, pb_l10, pb_l12, pb_l14, pb_l20, pb_l32, pb_l36, pb_l48, pb_l56, pb_l57, pb_l59, pb_l60, pb_l72, pb_l99, pb_l100, pb_l111, pb_l116, pb_l200, pb_l255, pb_l504, pb_l560, pb_l1000, pb_l9999, pb_l10000, pb_l100000, pb_l1000000, nI_add, pk_mul, pb_cl, pb_b, pb_le_t, pb_le_f, pb_lt_t, pb_lt_f, pb_eq_t, pb_eq_f, if_true, x1, d1, pb_bxr]
      exact rej _ rfl
    · subst q1
      simp (disch := omega) only [pb_bi, pb_l0, pb_l1, pb_l2, pb_l3, pb_l4, pb_l5, pb_l6, pb_l7, pb_l8, pb_l9, pb_l10, pb_l12, pb_l14, pb_l20, pb_l32, pb_l36, pb_l48, pb_l56, pb_l57, pb_l59, pb_l60, pb_l72, pb_l99, pb_l100, pb_l111, pb_l116, pb_l200, pb_l255, pb_l504, pb_l560, pb_l1000, pb_l9999, pb_l10000, pb_l100000, pb_l1000000, nI_add, pk_mul, pb_cl, pb_b, pb_le_t, pb_le_f, pb_lt_t, pb_lt_f, pb_eq_t, pb_eq_f, if_true, x1, d1, pb_bxr]
      exact rej _ rfl
    · subst q1
      by_cases m6 : mt < 6
      · simp (disch := omega) only [pb_bi, pb_l0, pb_l1, pb_l2, pb_l3, pb_l4, pb_l5, pb_l6, pb_l7, pb_l8, pb_l9, pb_l10, pb_l12, pb_l14, pb_l20, pb_l32, pb_l36, pb_l48, pb_l56, pb_l57, pb_l59, pb_l60, pb_l72, pb_l99, pb_l100, pb_l111, pb_l116, pb_l200, pb_l255, pb_l504, pb_l560, pb_l1000, pb_l9999, pb_l10000, pb_l100000, pb_l1000000, nI_add, pk_mul, pb_cl, pb_b, pb_le_t, pb_le_f, pb_lt_t, pb_lt_f, pb_eq_t, pb_eq_f, if_true, x1, x2, c8, r2]
        exact acc 116 x2 (fun C2 R2 p2 st2 q2 v2 h2 => pb_itemT hrd hn m6 h2) _ rfl
      · simp (disch := omega) only [pb_bi, pb_l0, pb_l1, pb_l2, pb_l3, pb_l4, pb_l5, pb_l6, pb_l7, pb_l8, pb_l9, pb_l10, pb_l12, pb_l14, pb_l20, pb_l32, pb_l36, pb_l48, pb_l56, pb_l57, pb_l59, pb_l60, pb_l72, pb_l99, pb_l100, pb_l111, pb_l116, pb_l200, pb_l255, pb_l504, pb_l560, pb_l1000, pb_l9999, pb_l10000, pb_l100000, pb_l1000000, nI_add, pk_mul, pb_cl, pb_b, pb_le_t, pb_le_f, pb_lt_t, pb_lt_f, pb_eq_t, pb_eq_f, if_true, x1, x2, c8, r2, d1, pb_bxr]
        exact rej _ rfl
    · subst q1
      simp (disch := omega) only [pb_bi, pb_l0, pb_l1, pb_l2, pb_l3, pb_l4, pb_l5, pb_l6, pb_l7, pb_l8, pb_l9, pb_l10, pb_l12, pb_l14, pb_l20, pb_l32, pb_l36, pb_l48, pb_l56, pb_l57, pb_l59, pb_l60, pb_l72, pb_l99, pb_l100, pb_l111, pb_l116, pb_l200, pb_l255, pb_l504, pb_l560, pb_l1000, pb_l9999, pb_l10000, pb_l100000, pb_l1000000, nI_add, pk_mul, pb_cl, pb_b, pb_le_t, pb_le_f, pb_lt_t, pb_lt_f, pb_eq_t, pb_eq_f, if_true, x1, x2]
      exact acc 100 x2 (fun C2 R2 p2 st2 q2 v2 h2 => pb_itemD hrd hn h2) _ rfl
    · subst q1
      by_cases m6 : mo < 6
      · simp (disch := omega) only [pb_bi, pb_l0, pb_l1, pb_l2, pb_l3, pb_l4, pb_l5, pb_l6, pb_l7, pb_l8, pb_l9, pb_l10, pb_l12, pb_l14, pb_l20, pb_l32, pb_l36, pb_l48, pb_l56, pb_l57, pb_l59, pb_l60, pb_l72, pb_l99, pb_l100, pb_l111, pb_l116, pb_l200, pb_l255, pb_l504, pb_l560, pb_l1000, pb_l9999, pb_l10000, pb_l100000, pb_l1000000, nI_add, pk_mul, pb_cl, pb_b, pb_le_t, pb_le_f, pb_lt_t, pb_lt_f, pb_eq_t, pb_eq_f, if_true, x1, x2, c9, r3]
        exact acc 111 x2 (fun C2 R2 p2 st2 q2 v2 h2 => pb_itemO hrd hn m6 h2) _ rfl
      · simp (disch := omega) only [pb_bi, pb_l0, pb_l1, pb_l2, pb_l3, pb_l4, pb_l5, pb_l6, pb_l7, pb_l8, pb_l9, pb_l10, pb_l12, pb_l14, pb_l20, pb_l32, pb_l36, pb_l48, pb_l56, pb_l57, pb_l59, pb_l60, pb_l72, pb_l99, pb_l100, pb_l111, pb_l116, pb_l200, pb_l255, pb_l504, pb_l560, pb_l1000, pb_l9999, pb_l10000, pb_l100000, pb_l1000000, nI_add, pk_mul, pb_cl, pb_b, pb_le_t, pb_le_f, pb_lt_t, pb_lt_f, pb_eq_t, pb_eq_f, if_true, x1, x2, c9, r3, d1, pb_bxr]
        exact rej _ rfl
    · subst q1
      simp (disch := omega) only [pb_bi, pb_l0, pb_l1, pb_l2, pb_l3, pb_l4, pb_l5, pb_l6, pb_l7, pb_l8, pb_l9, pb_l10, pb_l12, pb_l14, pb_l20, pb_l32, pb_l36, pb_l48, pb_l56, pb_l57, pb_l59, pb_l60, pb_l72, pb_l99, pb_l100, pb_l111, pb_l116, pb_l200, pb_l255, pb_l504, pb_l560, pb_l1000, pb_l9999, pb_l10000, pb_l100000, pb_l1000000, nI_add, pk_mul, pb_cl, pb_b, pb_le_t, pb_le_f, pb_lt_t, pb_lt_f, pb_eq_t, pb_eq_f, if_true, x1, d1, pb_bxr]
      exact rej _ rfl
