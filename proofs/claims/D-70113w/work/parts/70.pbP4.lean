/-! the items: a town, a road, an oath -/
set_option maxRecDepth 100000
def pb_gC (rd : Nat) (C C' : fm_M) : Prop := (∀ c, (c < rd ∨ rd + 22 ≤ c) → C'.1 c = C.1 c) ∧ C'.2 = C.2
theorem pb_gC.refl {rd : Nat} {C : fm_M} : pb_gC rd C C := ⟨fun _ _ => rfl, rfl⟩
theorem pb_gC.trans {rd : Nat} {C C' C'' : fm_M} (h : pb_gC rd C C') (g : pb_gC rd C' C'') : pb_gC rd C C'' := ⟨fun c hc => (g.1 c hc).trans (h.1 c hc), g.2.trans h.2⟩
theorem pb_gC.wr {rd c k : Nat} {C : fm_M} {v : Int32} (h : rd ≤ c ∧ c < rd + 22) : pb_gC rd C (fm_wr C c k v) := ⟨fun c' hc => pb_wr_n (by omega), rfl⟩
theorem pb_sC.g {rd : Nat} {C C' : fm_M} (h : pb_sC rd C C') : pb_gC rd C C' := ⟨fun c hc => h.1 c (by omega), h.2⟩
theorem pb_sR.f {R R' : fm_M} (h : pb_sR R R') : pb_fR R R' := ⟨fun c hc => h.1 c (by omega), fun c k hc _ => by rw [h.1 c (by omega)], fun k _ => by rw [h.1 6 (by omega)], ⟨by rw [h.1 2 (by omega)], by rw [h.1 2 (by omega)]⟩, ⟨h.2.1 3 (by omega), h.2.1 23 (by omega), h.2.1 26 (by omega)⟩, h.2.2⟩
def pb_itR (rd y p it : Nat) (c : Nat → Nat) (C R : fm_M) (a : Option ((Unit ⊕ Int32) × fm_M)) (b : Option fm_M) : Prop :=
  (∃ C' R' p' st' q' v' mt' mo', a = some (Sum.inl (), C') ∧ b = some R' ∧ pb_pi rd y p' st' q' v' mt' mo' it c C' R' ∧ p ≤ p' ∧ pb_gC rd C C' ∧ pb_fR R R') ∨
  (∃ st C' R', st ≤ 200 ∧ a = some (Sum.inr (nI st), C') ∧ b = some R' ∧ R'.1 0 8 = nI st ∧ pb_gC rd C C' ∧ pb_fR R R')
/-- a write into the drafts behind what is there -/
theorem pb_pi.wrD {rd y p st q v mt mo it : Nat} {c : Nat → Nat} {C R : fm_M} (h : pb_pi rd y p st q v mt mo it c C R) (hrd : 193 ≤ rd) {e e' k k' : Nat} {x x' : Int32} (hc : ((e = rd + 1 + 1 ∨ e = rd + 1 + 2 ∨ e = rd + 1 + 3) ∧ mt ≤ k) ∨ ((e = rd + 1 + 18 ∨ e = rd + 1 + 19 ∨ e = rd + 1 + 20) ∧ mo ≤ k)) (hr : ((e' = 3 ∨ e' = 4 ∨ e' = 5) ∧ 6 + mt ≤ k') ∨ ((e' = 7 ∨ e' = 8 ∨ e' = 9) ∧ 6 + mo ≤ k')) : pb_pi rd y p st q v mt mo it c (fm_wr C e k x) (fm_wr R e' k' x') := by
  obtain ⟨⟨t1, t2, t3, t4⟩, ⟨⟨k1, k2, k3⟩, ⟨k4, k5, k6⟩, k7, k8⟩, h3, h4, h5⟩ := h
  refine ⟨⟨t1, ?_, ?_, fun j hj => ?_⟩, ⟨⟨?_, ?_, k3⟩, ⟨?_, ?_, k6⟩, ?_, ?_⟩, h3.congr (fun c' j a1 a2 a3 a4 a5 => pb_wr_ne (by omega)) (fun c' j a1 a2 a3 a4 a5 => pb_wr_ne (by omega)), ?_, ?_⟩
  · rw [pb_wr_ne (by omega)]; exact t2
  · rw [pb_wr_ne (by omega)]; exact t3
  · rw [pb_wr_n (by omega), pb_wr_n (by omega)]; exact t4 j hj
  · rw [pb_wr_ne (by omega)]; exact k1
  · rw [pb_wr_ne (by omega)]; exact k2
  · rw [pb_wr_ne (by omega)]; exact k4
  · rw [pb_wr_ne (by omega)]; exact k5
  · rw [pb_wr_ne (by omega)]; exact k7
  · rw [pb_wr_ne (by omega), pb_wr_ne (by omega), pb_wr_ne (by omega)]; exact k8
  · rw [pb_wr_ne (by omega)]; exact h4
  · rw [pb_wr_ne (by omega)]; exact h5
theorem pb_fR.wrD {R : fm_M} {c k : Nat} {v : Int32} (h : (c = 0 ∧ k = 8) ∨ (c = 2 ∧ 2 ≤ k) ∨ c = 3 ∨ ((c = 4 ∨ c = 5 ∨ c = 7 ∨ c = 8 ∨ c = 9) ∧ 6 ≤ k) ∨ (c = 6 ∧ 36 ≤ k)) : pb_fR R (fm_wr R c k v) := pb_fR.wr (by omega)
theorem pb_pi.town {rd y p st q v mt mo it w : Nat} {c : Nat → Nat} {C R : fm_M} (d : pb_pi rd y p st q v mt mo it c C R) (hrd : 193 ≤ rd) (hm : mt < 6) (x1 : C.1 (rd + 1 + 1) mt = R.1 3 (6 + mt)) (x2 : C.1 (rd + 1 + 2) mt = R.1 4 (6 + mt)) (x3 : C.1 (rd + 1 + 3) mt = R.1 5 (6 + mt)) (hw : w ≤ 99) (x4 : R.1 4 (6 + mt) = nI w) : pb_pi rd y p st q v (mt + 1) mo it c (fm_wr C (rd + 1) 8 (nI (mt + 1))) (fm_wr R 2 2 (nI (mt + 1))) := by
  obtain ⟨⟨t1, t2, t3, t4⟩, ⟨⟨k1, k2, k3⟩, ⟨k4, k5, k6⟩, k7, k8⟩, ⟨⟨h1, h2⟩, ⟨h3, h4, h5, h6⟩, h7, h8, h9⟩, hwl, hit⟩ := d
  refine ⟨⟨t1, ?_, ?_, fun j hj => ?_⟩, ⟨⟨?_, ?_, k3⟩, ⟨?_, ?_, k6⟩, ?_, ?_⟩, ⟨⟨by omega, h2⟩, ⟨?_, ?_, ?_, ?_⟩, fun t ht => ?_, fun a b ha hb => ?_, fun i hi => ?_⟩, ?_, ?_⟩
  · rw [pb_wr_ne (by omega)]; exact t2
  · rw [pb_wr_ne (by omega)]; exact t3
  · rw [pb_wr_n (by omega), pb_wr_n (by omega)]; exact t4 j hj
  · rw [pb_wr_ne (by omega)]; exact k1
  · rw [pb_wr_ne (by omega)]; exact k2
  · rw [pb_wr_ne (by omega)]; exact k4
  · rw [pb_wr_ne (by omega)]; exact k5
  · rw [pb_wr_ne (by omega)]; exact k7
  · rw [pb_wr_ne (by omega), pb_wr_ne (by omega), pb_wr_ne (by omega)]; exact k8
  · simp (disch := omega) only [pb_wr_e, pb_wr_n, pb_row_e, pb_row_n, pb_up_e, pb_up_n, pb_wr_2, pb_row_2]
  · simp (disch := omega) only [pb_wr_e, pb_wr_n, pb_row_e, pb_row_n, pb_up_e, pb_up_n, pb_wr_2, pb_row_2]
  · rw [pb_wr_ne (by omega)]; exact h5
  · rw [pb_wr_ne (by omega)]; exact h6
  · rw [pb_wr_n (by omega), pb_wr_n (by omega), pb_wr_n (by omega), pb_wr_n (by omega), pb_wr_n (by omega), pb_wr_n (by omega)]
    by_cases et : t = mt
    · subst et
      exact ⟨x1, x2, x3, w, hw, x4⟩
    · exact h7 t (by omega)
  · rw [pb_wr_n (by omega), pb_wr_n (by omega)]
    obtain ⟨z1, z2, x, z3, z4, z5⟩ := h8 a b ha hb
    exact ⟨z1, z2, x, z3, z4, fun hx => z5 (by omega)⟩
  · rw [pb_wr_n (by omega), pb_wr_n (by omega), pb_wr_n (by omega), pb_wr_n (by omega), pb_wr_n (by omega), pb_wr_n (by omega)]
    obtain ⟨z1, z2, z3, t, z4, z5⟩ := h9 i hi
    exact ⟨z1, z2, z3, t, by omega, z5⟩
  · rw [pb_wr_ne (by omega)]; exact hwl
  · rw [pb_wr_ne (by omega)]; exact hit
theorem pb_pi.oath {rd y p st q v mt mo it w : Nat} {c : Nat → Nat} {C R : fm_M} (d : pb_pi rd y p st q v mt mo it c C R) (hrd : 193 ≤ rd) (hm : mo < 6) (x1 : C.1 (rd + 1 + 18) mo = R.1 7 (6 + mo)) (x2 : C.1 (rd + 1 + 19) mo = R.1 8 (6 + mo)) (x3 : C.1 (rd + 1 + 20) mo = R.1 9 (6 + mo)) (hw : w < mt) (x4 : R.1 8 (6 + mo) = nI w) : pb_pi rd y p st q v mt (mo + 1) it c (fm_wr C (rd + 1) 9 (nI (mo + 1))) (fm_wr R 2 3 (nI (mo + 1))) := by
  obtain ⟨⟨t1, t2, t3, t4⟩, ⟨⟨k1, k2, k3⟩, ⟨k4, k5, k6⟩, k7, k8⟩, ⟨⟨h1, h2⟩, ⟨h3, h4, h5, h6⟩, h7, h8, h9⟩, hwl, hit⟩ := d
  refine ⟨⟨t1, ?_, ?_, fun j hj => ?_⟩, ⟨⟨?_, ?_, k3⟩, ⟨?_, ?_, k6⟩, ?_, ?_⟩, ⟨⟨h1, by omega⟩, ⟨?_, ?_, ?_, ?_⟩, fun t ht => ?_, fun a b ha hb => ?_, fun i hi => ?_⟩, ?_, ?_⟩
  · rw [pb_wr_ne (by omega)]; exact t2
  · rw [pb_wr_ne (by omega)]; exact t3
  · rw [pb_wr_n (by omega), pb_wr_n (by omega)]; exact t4 j hj
  · rw [pb_wr_ne (by omega)]; exact k1
  · rw [pb_wr_ne (by omega)]; exact k2
  · rw [pb_wr_ne (by omega)]; exact k4
  · rw [pb_wr_ne (by omega)]; exact k5
  · rw [pb_wr_ne (by omega)]; exact k7
  · rw [pb_wr_ne (by omega), pb_wr_ne (by omega), pb_wr_ne (by omega)]; exact k8
  · rw [pb_wr_ne (by omega)]; exact h3
  · rw [pb_wr_ne (by omega)]; exact h4
  · simp (disch := omega) only [pb_wr_e, pb_wr_n, pb_row_e, pb_row_n, pb_up_e, pb_up_n, pb_wr_2, pb_row_2]
  · simp (disch := omega) only [pb_wr_e, pb_wr_n, pb_row_e, pb_row_n, pb_up_e, pb_up_n, pb_wr_2, pb_row_2]
  · rw [pb_wr_n (by omega), pb_wr_n (by omega), pb_wr_n (by omega), pb_wr_n (by omega), pb_wr_n (by omega), pb_wr_n (by omega)]
    exact h7 t ht
  · rw [pb_wr_n (by omega), pb_wr_n (by omega)]
    exact h8 a b ha hb
  · rw [pb_wr_n (by omega), pb_wr_n (by omega), pb_wr_n (by omega), pb_wr_n (by omega), pb_wr_n (by omega), pb_wr_n (by omega)]
    by_cases et : i = mo
    · subst et
      exact ⟨x1, x2, x3, w, hw, x4⟩
    · exact h9 i (by omega)
  · rw [pb_wr_ne (by omega)]; exact hwl
  · rw [pb_wr_ne (by omega)]; exact hit
theorem pb_itemT {n bk rd y p st q v mt mo it : Nat} {c : Nat → Nat} {C R : fm_M} (hrd : 193 ≤ rd) (hn : 300 ≤ n) (hm : mt < 6) (h : pb_pi rd y p st q v mt mo it c C R) : pb_itR rd y p it c C R (fX10_item n bk rd C (nI 0)) (fX9_readsItem n R (nI 116)) := by
  have c8 := h.2.2.1.2.1.1
  have r2 := h.2.2.1.2.1.2.1
  unfold fX10_item fX9_readsItem
  simp (disch := omega) only [pb_l0, pb_l1, pb_l2, pb_l3, pb_l4, pb_l5, pb_l6, pb_l7, pb_l8, pb_l9, pb_l10, pb_l12, pb_l14, pb_l20, pb_l32, pb_l36, pb_l48, pb_l56, pb_l57, pb_l59, pb_l60, pb_l72, pb_l99, pb_l100, pb_l111, pb_l116, pb_l200, pb_l255, pb_l504, pb_l560, pb_l1000, pb_l9999, pb_l10000, pb_l100000, pb_l1000000, nI_add, pk_mul, pb_cl, pb_b, pb_le_t, pb_le_f, pb_lt_t, pb_lt_f, pb_eq_t, pb_eq_f, if_true, fm_let, c8, r2]
  rcases pb_numR (n := n) (bk := bk) 1 99 (by omega) (by omega) hrd hn h with ⟨w1, C1, R1, p1, st1, q1, v1, a1, a2, a3, a4, a5, a6, a7, a8, a9⟩ | ⟨b1, b2, b3⟩
  · have d1 := a5.wrD hrd (e := rd + 1 + 1) (e' := 3) (k := mt) (k' := 6 + mt) (x := nI w1) (x' := nI w1) (by omega) (by omega)
    have c81 := d1.2.2.1.2.1.1
    simp (disch := omega) only [pb_l0, pb_l1, pb_l2, pb_l3, pb_l4, pb_l5, pb_l6, pb_l7, pb_l8, pb_l9, pb_l10, pb_l12, pb_l14, pb_l20, pb_l32, pb_l36, pb_l48, pb_l56, pb_l57, pb_l59, pb_l60, pb_l72, pb_l99, pb_l100, pb_l111, pb_l116, pb_l200, pb_l255, pb_l504, pb_l560, pb_l1000, pb_l9999, pb_l10000, pb_l100000, pb_l1000000, nI_add, pk_mul, pb_cl, pb_b, pb_le_t, pb_le_f, pb_lt_t, pb_lt_f, pb_eq_t, pb_eq_f, if_true, a3, a4, pb_bi, pb_bxl, c81]
    rcases pb_numR (n := n) (bk := bk) 1 99 (by omega) (by omega) hrd hn d1 with ⟨w2, C2, R2, p2, st2, q2, v2, e1, e2, e3, e4, e5, e6, e7, e8, e9⟩ | ⟨b1, b2, b3⟩
    · have d2 := e5.wrD hrd (e := rd + 1 + 2) (e' := 4) (k := mt) (k' := 6 + mt) (x := nI w2) (x' := nI w2) (by omega) (by omega)
      have c82 := d2.2.2.1.2.1.1
      simp (disch := omega) only [pb_l0, pb_l1, pb_l2, pb_l3, pb_l4, pb_l5, pb_l6, pb_l7, pb_l8, pb_l9, pb_l10, pb_l12, pb_l14, pb_l20, pb_l32, pb_l36, pb_l48, pb_l56, pb_l57, pb_l59, pb_l60, pb_l72, pb_l99, pb_l100, pb_l111, pb_l116, pb_l200, pb_l255, pb_l504, pb_l560, pb_l1000, pb_l9999, pb_l10000, pb_l100000, pb_l1000000, nI_add, pk_mul, pb_cl, pb_b, pb_le_t, pb_le_f, pb_lt_t, pb_lt_f, pb_eq_t, pb_eq_f, if_true, e3, e4, pb_bi, pb_bxl, c82]
      rcases pb_numR (n := n) (bk := bk) 0 6 (by omega) (by omega) hrd hn d2 with ⟨w3, C3, R3, p3, st3, q3, v3, g1, g2, g3, g4, g5, g6, g7, g8, g9⟩ | ⟨b1, b2, b3⟩
      · have d3 := g5.wrD hrd (e := rd + 1 + 3) (e' := 5) (k := mt) (k' := 6 + mt) (x := nI w3) (x' := nI w3) (by omega) (by omega)
        have c83 := d3.2.2.1.2.1.1
        have r23 := d3.2.2.1.2.1.2.1
        simp (disch := omega) only [pb_l0, pb_l1, pb_l2, pb_l3, pb_l4, pb_l5, pb_l6, pb_l7, pb_l8, pb_l9, pb_l10, pb_l12, pb_l14, pb_l20, pb_l32, pb_l36, pb_l48, pb_l56, pb_l57, pb_l59, pb_l60, pb_l72, pb_l99, pb_l100, pb_l111, pb_l116, pb_l200, pb_l255, pb_l504, pb_l560, pb_l1000, pb_l9999, pb_l10000, pb_l100000, pb_l1000000, nI_add, pk_mul, pb_cl, pb_b, pb_le_t, pb_le_f, pb_lt_t, pb_lt_f, pb_eq_t, pb_eq_f, if_true, g3, g4, pb_bi, pb_bxl, c83, r23]
        left
        refine ⟨_, _, p3, st3, q3, v3, mt + 1, mo, rfl, rfl, d3.town (w := w2) hrd hm ?_ ?_ ?_ e2 ?_, by omega, ?_, ?_⟩
        · rw [pb_wr_n (by omega), pb_wr_n (by omega), g8.1 _ (by omega), g9.1 _ (by omega), pb_wr_n (by omega), pb_wr_n (by omega), e8.1 _ (by omega), e9.1 _ (by omega), pb_wr_e, pb_wr_e, pb_up_e, pb_up_e]
        · rw [pb_wr_n (by omega), pb_wr_n (by omega), g8.1 _ (by omega), g9.1 _ (by omega), pb_wr_e, pb_wr_e, pb_up_e, pb_up_e]
        · rw [pb_wr_e, pb_wr_e, pb_up_e, pb_up_e]
        · rw [pb_wr_n (by omega), g9.1 _ (by omega), pb_wr_e, pb_up_e]
        · exact ((((((a8.g.trans (pb_gC.wr (by omega))).trans e8.g).trans (pb_gC.wr (by omega))).trans g8.g).trans (pb_gC.wr (by omega))).trans (pb_gC.wr (by omega)))
        · exact ((((((a9.f.trans (pb_fR.wrD (by omega))).trans e9.f).trans (pb_fR.wrD (by omega))).trans g9.f).trans (pb_fR.wrD (by omega))).trans (pb_fR.wrD (by omega)))
      · simp (disch := omega) only [pb_l0, pb_l1, pb_l2, pb_l3, pb_l4, pb_l5, pb_l6, pb_l7, pb_l8, pb_l9, pb_l10, pb_l12, pb_l14, pb_l20, pb_l32, pb_l36, pb_l48, pb_l56, pb_l57, pb_l59, pb_l60, pb_l72, pb_l99, pb_l100, pb_l111, pb_l116, pb_l200, pb_l255, pb_l504, pb_l560, pb_l1000, pb_l9999, pb_l10000, pb_l100000, pb_l1000000, nI_add, pk_mul, pb_cl, pb_b, pb_le_t, pb_le_f, pb_lt_t, pb_lt_f, pb_eq_t, pb_eq_f, if_true, b2, b3, pb_bi, pb_bxr]
        right
        refine ⟨st2, _, _, b1, rfl, rfl, ?_, ?_, ?_⟩
        · simp (disch := omega) only [pb_wr_e, pb_wr_n, pb_row_e, pb_row_n, pb_up_e, pb_up_n, pb_wr_2, pb_row_2]
        · exact ((a8.g.trans (pb_gC.wr (by omega))).trans e8.g).trans (pb_gC.wr (by omega))
        · exact (((((a9.f.trans (pb_fR.wrD (by omega))).trans e9.f).trans (pb_fR.wrD (by omega))).trans (pb_fR.wrD (by omega))).trans (pb_fR.wrD (by omega))).trans (pb_fR.wrD (by omega))
    · simp (disch := omega) only [pb_l0, pb_l1, pb_l2, pb_l3, pb_l4, pb_l5, pb_l6, pb_l7, pb_l8, pb_l9, pb_l10, pb_l12, pb_l14, pb_l20, pb_l32, pb_l36, pb_l48, pb_l56, pb_l57, pb_l59, pb_l60, pb_l72, pb_l99, pb_l100, pb_l111, pb_l116, pb_l200, pb_l255, pb_l504, pb_l560, pb_l1000, pb_l9999, pb_l10000, pb_l100000, pb_l1000000, nI_add, pk_mul, pb_cl, pb_b, pb_le_t, pb_le_f, pb_lt_t, pb_lt_f, pb_eq_t, pb_eq_f, if_true, b2, b3, pb_bi, pb_bxr]
      rw [pb_fnum (st := st1) (by simp (disch := omega) only [pb_wr_e, pb_wr_n, pb_row_e, pb_row_n, pb_up_e, pb_up_n, pb_wr_2, pb_row_2]) b1]
      simp (disch := omega) only [pb_l0, pb_l1, pb_l2, pb_l3, pb_l4, pb_l5, pb_l6, pb_l7, pb_l8, pb_l9, pb_l10, pb_l12, pb_l14, pb_l20, pb_l32, pb_l36, pb_l48, pb_l56, pb_l57, pb_l59, pb_l60, pb_l72, pb_l99, pb_l100, pb_l111, pb_l116, pb_l200, pb_l255, pb_l504, pb_l560, pb_l1000, pb_l9999, pb_l10000, pb_l100000, pb_l1000000, nI_add, pk_mul, pb_cl, pb_b, pb_le_t, pb_le_f, pb_lt_t, pb_lt_f, pb_eq_t, pb_eq_f, if_true, pb_bi]
      right
      refine ⟨st1, _, _, b1, rfl, rfl, ?_, ?_, ?_⟩
      · simp (disch := omega) only [pb_wr_e, pb_wr_n, pb_row_e, pb_row_n, pb_up_e, pb_up_n, pb_wr_2, pb_row_2]
      · exact a8.g.trans (pb_gC.wr (by omega))
      · exact ((((a9.f.trans (pb_fR.wrD (by omega))).trans (pb_fR.wrD (by omega))).trans (pb_fR.wrD (by omega))).trans (pb_fR.wrD (by omega))).trans (pb_fR.wrD (by omega))
  · simp (disch := omega) only [pb_l0, pb_l1, pb_l2, pb_l3, pb_l4, pb_l5, pb_l6, pb_l7, pb_l8, pb_l9, pb_l10, pb_l12, pb_l14, pb_l20, pb_l32, pb_l36, pb_l48, pb_l56, pb_l57, pb_l59, pb_l60, pb_l72, pb_l99, pb_l100, pb_l111, pb_l116, pb_l200, pb_l255, pb_l504, pb_l560, pb_l1000, pb_l9999, pb_l10000, pb_l100000, pb_l1000000, nI_add, pk_mul, pb_cl, pb_b, pb_le_t, pb_le_f, pb_lt_t, pb_lt_f, pb_eq_t, pb_eq_f, if_true, b2, b3, pb_bi, pb_bxr]
    rw [pb_fnum (st := st) (by simp (disch := omega) only [pb_wr_e, pb_wr_n, pb_row_e, pb_row_n, pb_up_e, pb_up_n, pb_wr_2, pb_row_2]) b1]
    simp (disch := omega) only [pb_l0, pb_l1, pb_l2, pb_l3, pb_l4, pb_l5, pb_l6, pb_l7, pb_l8, pb_l9, pb_l10, pb_l12, pb_l14, pb_l20, pb_l32, pb_l36, pb_l48, pb_l56, pb_l57, pb_l59, pb_l60, pb_l72, pb_l99, pb_l100, pb_l111, pb_l116, pb_l200, pb_l255, pb_l504, pb_l560, pb_l1000, pb_l9999, pb_l10000, pb_l100000, pb_l1000000, nI_add, pk_mul, pb_cl, pb_b, pb_le_t, pb_le_f, pb_lt_t, pb_lt_f, pb_eq_t, pb_eq_f, if_true, pb_bi]
    rw [pb_fnum (st := st) (by simp (disch := omega) only [pb_wr_e, pb_wr_n, pb_row_e, pb_row_n, pb_up_e, pb_up_n, pb_wr_2, pb_row_2]) b1]
    simp (disch := omega) only [pb_l0, pb_l1, pb_l2, pb_l3, pb_l4, pb_l5, pb_l6, pb_l7, pb_l8, pb_l9, pb_l10, pb_l12, pb_l14, pb_l20, pb_l32, pb_l36, pb_l48, pb_l56, pb_l57, pb_l59, pb_l60, pb_l72, pb_l99, pb_l100, pb_l111, pb_l116, pb_l200, pb_l255, pb_l504, pb_l560, pb_l1000, pb_l9999, pb_l10000, pb_l100000, pb_l1000000, nI_add, pk_mul, pb_cl, pb_b, pb_le_t, pb_le_f, pb_lt_t, pb_lt_f, pb_eq_t, pb_eq_f, if_true, pb_bi]
    right
    refine ⟨st, _, _, b1, rfl, rfl, ?_, pb_gC.refl, ?_⟩
    · simp (disch := omega) only [pb_wr_e, pb_wr_n, pb_row_e, pb_row_n, pb_up_e, pb_up_n, pb_wr_2, pb_row_2]
    · exact ((((pb_fR.wrD (by omega)).trans (pb_fR.wrD (by omega))).trans (pb_fR.wrD (by omega))).trans (pb_fR.wrD (by omega))).trans (pb_fR.wrD (by omega))
theorem pb_itemO {n bk rd y p st q v mt mo it : Nat} {c : Nat → Nat} {C R : fm_M} (hrd : 193 ≤ rd) (hn : 300 ≤ n) (hm : mo < 6) (h : pb_pi rd y p st q v mt mo it c C R) : pb_itR rd y p it c C R (fX10_item n bk rd C (nI 2)) (fX9_readsItem n R (nI 111)) := by
  have c9 := h.2.2.1.2.1.2.2.1
  have r2 := h.2.2.1.2.1.2.1
  have r3 := h.2.2.1.2.1.2.2.2
  unfold fX10_item fX9_readsItem
  simp (disch := omega) only [pb_l0, pb_l1, pb_l2, pb_l3, pb_l4, pb_l5, pb_l6, pb_l7, pb_l8, pb_l9, pb_l10, pb_l12, pb_l14, pb_l20, pb_l32, pb_l36, pb_l48, pb_l56, pb_l57, pb_l59, pb_l60, pb_l72, pb_l99, pb_l100, pb_l111, pb_l116, pb_l200, pb_l255, pb_l504, pb_l560, pb_l1000, pb_l9999, pb_l10000, pb_l100000, pb_l1000000, nI_add, pk_mul, pb_cl, pb_b, pb_le_t, pb_le_f, pb_lt_t, pb_lt_f, pb_eq_t, pb_eq_f, if_true, fm_let, c9, r2, r3]
  rcases pb_numT (n := n) (bk := bk) hrd hn h with ⟨w1, C1, R1, p1, st1, q1, v1, a1, a2, a3, a4, a5, a6, a7, a8, a9⟩ | ⟨b1, b2, b3⟩
  · have d1 := a5.wrD hrd (e := rd + 1 + 18) (e' := 7) (k := mo) (k' := 6 + mo) (x := nI w1) (x' := nI w1) (by omega) (by omega)
    have c91 := d1.2.2.1.2.1.2.2.1
    have r21 := d1.2.2.1.2.1.2.1
    have r31 := d1.2.2.1.2.1.2.2.2
    simp (disch := omega) only [pb_l0, pb_l1, pb_l2, pb_l3, pb_l4, pb_l5, pb_l6, pb_l7, pb_l8, pb_l9, pb_l10, pb_l12, pb_l14, pb_l20, pb_l32, pb_l36, pb_l48, pb_l56, pb_l57, pb_l59, pb_l60, pb_l72, pb_l99, pb_l100, pb_l111, pb_l116, pb_l200, pb_l255, pb_l504, pb_l560, pb_l1000, pb_l9999, pb_l10000, pb_l100000, pb_l1000000, nI_add, pk_mul, pb_cl, pb_b, pb_le_t, pb_le_f, pb_lt_t, pb_lt_f, pb_eq_t, pb_eq_f, if_true, a3, a4, pb_bi, pb_bxl, c91, r21, r31]
    rcases pb_numT (n := n) (bk := bk) hrd hn d1 with ⟨w2, C2, R2, p2, st2, q2, v2, e1, e2, e3, e4, e5, e6, e7, e8, e9⟩ | ⟨b1, b2, b3⟩
    · have d2 := e5.wrD hrd (e := rd + 1 + 19) (e' := 8) (k := mo) (k' := 6 + mo) (x := nI w2) (x' := nI w2) (by omega) (by omega)
      have c92 := d2.2.2.1.2.1.2.2.1
      have r32 := d2.2.2.1.2.1.2.2.2
      simp (disch := omega) only [pb_l0, pb_l1, pb_l2, pb_l3, pb_l4, pb_l5, pb_l6, pb_l7, pb_l8, pb_l9, pb_l10, pb_l12, pb_l14, pb_l20, pb_l32, pb_l36, pb_l48, pb_l56, pb_l57, pb_l59, pb_l60, pb_l72, pb_l99, pb_l100, pb_l111, pb_l116, pb_l200, pb_l255, pb_l504, pb_l560, pb_l1000, pb_l9999, pb_l10000, pb_l100000, pb_l1000000, nI_add, pk_mul, pb_cl, pb_b, pb_le_t, pb_le_f, pb_lt_t, pb_lt_f, pb_eq_t, pb_eq_f, if_true, e3, e4, pb_bi, pb_bxl, c92, r32]
      rcases pb_numR (n := n) (bk := bk) 0 60 (by omega) (by omega) hrd hn d2 with ⟨w3, C3, R3, p3, st3, q3, v3, g1, g2, g3, g4, g5, g6, g7, g8, g9⟩ | ⟨b1, b2, b3⟩
      · have d3 := g5.wrD hrd (e := rd + 1 + 20) (e' := 9) (k := mo) (k' := 6 + mo) (x := nI w3) (x' := nI w3) (by omega) (by omega)
        have c93 := d3.2.2.1.2.1.2.2.1
        have r33 := d3.2.2.1.2.1.2.2.2
        simp (disch := omega) only [pb_l0, pb_l1, pb_l2, pb_l3, pb_l4, pb_l5, pb_l6, pb_l7, pb_l8, pb_l9, pb_l10, pb_l12, pb_l14, pb_l20, pb_l32, pb_l36, pb_l48, pb_l56, pb_l57, pb_l59, pb_l60, pb_l72, pb_l99, pb_l100, pb_l111, pb_l116, pb_l200, pb_l255, pb_l504, pb_l560, pb_l1000, pb_l9999, pb_l10000, pb_l100000, pb_l1000000, nI_add, pk_mul, pb_cl, pb_b, pb_le_t, pb_le_f, pb_lt_t, pb_lt_f, pb_eq_t, pb_eq_f, if_true, g3, g4, pb_bi, pb_bxl, c93, r33]
        left
        refine ⟨_, _, p3, st3, q3, v3, mt, mo + 1, rfl, rfl, d3.oath (w := w2) hrd hm ?_ ?_ ?_ e1 ?_, by omega, ?_, ?_⟩
        · rw [pb_wr_n (by omega), pb_wr_n (by omega), g8.1 _ (by omega), g9.1 _ (by omega), pb_wr_n (by omega), pb_wr_n (by omega), e8.1 _ (by omega), e9.1 _ (by omega), pb_wr_e, pb_wr_e, pb_up_e, pb_up_e]
        · rw [pb_wr_n (by omega), pb_wr_n (by omega), g8.1 _ (by omega), g9.1 _ (by omega), pb_wr_e, pb_wr_e, pb_up_e, pb_up_e]
        · rw [pb_wr_e, pb_wr_e, pb_up_e, pb_up_e]
        · rw [pb_wr_n (by omega), g9.1 _ (by omega), pb_wr_e, pb_up_e]
        · exact ((((((a8.g.trans (pb_gC.wr (by omega))).trans e8.g).trans (pb_gC.wr (by omega))).trans g8.g).trans (pb_gC.wr (by omega))).trans (pb_gC.wr (by omega)))
        · exact ((((((a9.f.trans (pb_fR.wrD (by omega))).trans e9.f).trans (pb_fR.wrD (by omega))).trans g9.f).trans (pb_fR.wrD (by omega))).trans (pb_fR.wrD (by omega)))
      · have z2 : (fm_wr (fm_wr R2 8 (6 + mo) (nI w2)) 0 8 (nI st2)).1 2 3 = nI mo := by rw [pb_wr_ne (by omega)]; exact r32
        simp (disch := omega) only [pb_l0, pb_l1, pb_l2, pb_l3, pb_l4, pb_l5, pb_l6, pb_l7, pb_l8, pb_l9, pb_l10, pb_l12, pb_l14, pb_l20, pb_l32, pb_l36, pb_l48, pb_l56, pb_l57, pb_l59, pb_l60, pb_l72, pb_l99, pb_l100, pb_l111, pb_l116, pb_l200, pb_l255, pb_l504, pb_l560, pb_l1000, pb_l9999, pb_l10000, pb_l100000, pb_l1000000, nI_add, pk_mul, pb_cl, pb_b, pb_le_t, pb_le_f, pb_lt_t, pb_lt_f, pb_eq_t, pb_eq_f, if_true, b2, b3, pb_bi, pb_bxr]
        right
        refine ⟨st2, _, _, b1, rfl, rfl, ?_, ?_, ?_⟩
        · simp (disch := omega) only [pb_wr_e, pb_wr_n, pb_row_e, pb_row_n, pb_up_e, pb_up_n, pb_wr_2, pb_row_2]
        · exact ((a8.g.trans (pb_gC.wr (by omega))).trans e8.g).trans (pb_gC.wr (by omega))
        · exact (((((a9.f.trans (pb_fR.wrD (by omega))).trans e9.f).trans (pb_fR.wrD (by omega))).trans (pb_fR.wrD (by omega))).trans (pb_fR.wrD (by omega))).trans (pb_fR.wrD (by omega))
    · have z1 : ∀ x, (fm_wr (fm_wr (fm_wr R1 7 (6 + mo) (nI w1)) 0 8 (nI st1)) 8 (6 + mo) x).1 2 3 = nI mo := fun x => by rw [pb_wr_ne (by omega), pb_wr_ne (by omega)]; exact r31
      simp (disch := omega) only [pb_l0, pb_l1, pb_l2, pb_l3, pb_l4, pb_l5, pb_l6, pb_l7, pb_l8, pb_l9, pb_l10, pb_l12, pb_l14, pb_l20, pb_l32, pb_l36, pb_l48, pb_l56, pb_l57, pb_l59, pb_l60, pb_l72, pb_l99, pb_l100, pb_l111, pb_l116, pb_l200, pb_l255, pb_l504, pb_l560, pb_l1000, pb_l9999, pb_l10000, pb_l100000, pb_l1000000, nI_add, pk_mul, pb_cl, pb_b, pb_le_t, pb_le_f, pb_lt_t, pb_lt_f, pb_eq_t, pb_eq_f, if_true, b2, b3, pb_bi, pb_bxr, z1]
      rw [pb_fnum (st := st1) (by simp (disch := omega) only [pb_wr_e, pb_wr_n, pb_row_e, pb_row_n, pb_up_e, pb_up_n, pb_wr_2, pb_row_2]) b1]
      simp (disch := omega) only [pb_l0, pb_l1, pb_l2, pb_l3, pb_l4, pb_l5, pb_l6, pb_l7, pb_l8, pb_l9, pb_l10, pb_l12, pb_l14, pb_l20, pb_l32, pb_l36, pb_l48, pb_l56, pb_l57, pb_l59, pb_l60, pb_l72, pb_l99, pb_l100, pb_l111, pb_l116, pb_l200, pb_l255, pb_l504, pb_l560, pb_l1000, pb_l9999, pb_l10000, pb_l100000, pb_l1000000, nI_add, pk_mul, pb_cl, pb_b, pb_le_t, pb_le_f, pb_lt_t, pb_lt_f, pb_eq_t, pb_eq_f, if_true, pb_bi]
      right
      refine ⟨st1, _, _, b1, rfl, rfl, ?_, ?_, ?_⟩
      · simp (disch := omega) only [pb_wr_e, pb_wr_n, pb_row_e, pb_row_n, pb_up_e, pb_up_n, pb_wr_2, pb_row_2]
      · exact a8.g.trans (pb_gC.wr (by omega))
      · exact ((((a9.f.trans (pb_fR.wrD (by omega))).trans (pb_fR.wrD (by omega))).trans (pb_fR.wrD (by omega))).trans (pb_fR.wrD (by omega))).trans (pb_fR.wrD (by omega))
  · have z1 : ∀ x, (fm_wr (fm_wr R 0 8 (nI st)) 7 (6 + mo) x).1 2 3 = nI mo := fun x => by rw [pb_wr_ne (by omega), pb_wr_ne (by omega)]; exact r3
    have z2 : ∀ x z, (fm_wr (fm_wr (fm_wr R 0 8 (nI st)) 7 (6 + mo) x) 8 (6 + mo) z).1 2 3 = nI mo := fun x z => by rw [pb_wr_ne (by omega)]; exact z1 x
    simp (disch := omega) only [pb_l0, pb_l1, pb_l2, pb_l3, pb_l4, pb_l5, pb_l6, pb_l7, pb_l8, pb_l9, pb_l10, pb_l12, pb_l14, pb_l20, pb_l32, pb_l36, pb_l48, pb_l56, pb_l57, pb_l59, pb_l60, pb_l72, pb_l99, pb_l100, pb_l111, pb_l116, pb_l200, pb_l255, pb_l504, pb_l560, pb_l1000, pb_l9999, pb_l10000, pb_l100000, pb_l1000000, nI_add, pk_mul, pb_cl, pb_b, pb_le_t, pb_le_f, pb_lt_t, pb_lt_f, pb_eq_t, pb_eq_f, if_true, b2, b3, pb_bi, pb_bxr, z1]
    rw [pb_fnum (st := st) (by simp (disch := omega) only [pb_wr_e, pb_wr_n, pb_row_e, pb_row_n, pb_up_e, pb_up_n, pb_wr_2, pb_row_2]) b1]
    simp (disch := omega) only [pb_l0, pb_l1, pb_l2, pb_l3, pb_l4, pb_l5, pb_l6, pb_l7, pb_l8, pb_l9, pb_l10, pb_l12, pb_l14, pb_l20, pb_l32, pb_l36, pb_l48, pb_l56, pb_l57, pb_l59, pb_l60, pb_l72, pb_l99, pb_l100, pb_l111, pb_l116, pb_l200, pb_l255, pb_l504, pb_l560, pb_l1000, pb_l9999, pb_l10000, pb_l100000, pb_l1000000, nI_add, pk_mul, pb_cl, pb_b, pb_le_t, pb_le_f, pb_lt_t, pb_lt_f, pb_eq_t, pb_eq_f, if_true, pb_bi, z1, z2]
    rw [pb_fnum (st := st) (by simp (disch := omega) only [pb_wr_e, pb_wr_n, pb_row_e, pb_row_n, pb_up_e, pb_up_n, pb_wr_2, pb_row_2]) b1]
    simp (disch := omega) only [pb_l0, pb_l1, pb_l2, pb_l3, pb_l4, pb_l5, pb_l6, pb_l7, pb_l8, pb_l9, pb_l10, pb_l12, pb_l14, pb_l20, pb_l32, pb_l36, pb_l48, pb_l56, pb_l57, pb_l59, pb_l60, pb_l72, pb_l99, pb_l100, pb_l111, pb_l116, pb_l200, pb_l255, pb_l504, pb_l560, pb_l1000, pb_l9999, pb_l10000, pb_l100000, pb_l1000000, nI_add, pk_mul, pb_cl, pb_b, pb_le_t, pb_le_f, pb_lt_t, pb_lt_f, pb_eq_t, pb_eq_f, if_true, pb_bi]
    right
    refine ⟨st, _, _, b1, rfl, rfl, ?_, pb_gC.refl, ?_⟩
    · simp (disch := omega) only [pb_wr_e, pb_wr_n, pb_row_e, pb_row_n, pb_up_e, pb_up_n, pb_wr_2, pb_row_2]
    · exact ((((pb_fR.wrD (by omega)).trans (pb_fR.wrD (by omega))).trans (pb_fR.wrD (by omega))).trans (pb_fR.wrD (by omega))).trans (pb_fR.wrD (by omega))
