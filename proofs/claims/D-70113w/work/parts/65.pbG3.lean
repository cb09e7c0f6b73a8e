/-! hang: the component's search -/
set_option maxRecDepth 100000
/-- what the search of the component reads -/
def pb_HC (m bk : Nat) (b : Nat → Nat) (R0 C : fm_M) : Prop := C.1 bk 8 = nI m ∧ (∀ t, t < m → C.1 40 t = nI (b t)) ∧ (∀ u t, u < m → t < m → C.1 (bk + 12 + u) t = nI (if pb_rf R0 u t ≤ 45 then pb_rf R0 u t else 100000)) ∧ (∀ t, t < m → C.1 41 t = R0.1 11 (8 + t)) ∧ ∀ c, c < m → C.1 (bk + 2) c = nI (pb_wt R0 c)
def pb_agC (C C' : fm_M) : Prop := (∀ c, c ≠ 0 → c ≠ 7 → c ≠ 8 → C'.1 c = C.1 c) ∧ (∀ j, j ≠ 11 → C'.1 0 j = C.1 0 j) ∧ C'.2 = C.2
theorem pb_agC.refl {C : fm_M} : pb_agC C C := ⟨fun _ _ _ _ => rfl, fun _ _ => rfl, rfl⟩
theorem pb_agC.trans {C C' C'' : fm_M} (h : pb_agC C C') (g : pb_agC C' C'') : pb_agC C C'' := ⟨fun c c1 c2 c3 => (g.1 c c1 c2 c3).trans (h.1 c c1 c2 c3), fun j hj => (g.2.1 j hj).trans (h.2.1 j hj), g.2.2.trans h.2.2⟩
theorem pb_HC.ag {m bk : Nat} {b : Nat → Nat} {R0 C C' : fm_M} (h : pb_HC m bk b R0 C) (hbk : bk = 18 ∨ 193 ≤ bk) (hm : m ≤ 6) (g : pb_agC C C') : pb_HC m bk b R0 C' := by
  obtain ⟨h1, h2, h3, h4, h5⟩ := h
  refine ⟨?_, fun t ht => ?_, fun u t hu ht => ?_, fun t ht => ?_, fun c hc => ?_⟩
  · rw [g.1 bk (by omega) (by omega) (by omega)]; exact h1
  · rw [g.1 40 (by omega) (by omega) (by omega)]; exact h2 t ht
  · rw [g.1 (bk + 12 + u) (by omega) (by omega) (by omega)]; exact h3 u t hu ht
  · rw [g.1 41 (by omega) (by omega) (by omega)]; exact h4 t ht
  · rw [g.1 (bk + 2) (by omega) (by omega) (by omega)]; exact h5 c hc
/-- the least and the best so far -/
def pb_LB (m : Nat) (C : fm_M) (a : Nat × Nat) : Prop := C.1 0 11 = nI a.1 ∧ (a.1 = 100000 ∨ (a.1 ≤ 26730 ∧ ∀ i, i < m → C.1 8 i = nI (pb_pd m m a.2 i)))
/-- an order that begins as P does, with what can't be in it, isn't one -/
theorem pb_bad {m : Nat} {b : Nat → Nat} {R0 : fm_M} {t k P x : Nat} (hm : 0 < m) (ht : t + (k + 1) = m) (hx : x < m) (hbad : (∃ i, i < t ∧ pb_pd m t P i = x) ∨ ¬ pb_ok1 R0 t x ∨ ¬ pb_fin R0 b t x) (a : Nat × Nat) : pb_fold (pb_stp m b R0) (m ^ k) ((P * m + x) * m ^ k) a = a := by
  refine pb_fold_id _ _ _ (fun w a h1 h2 => pb_stp_n (fun h => ?_))
  have hp : w / m ^ k = P * m + x := pb_pre hm h1 (by rw [Nat.add_mul, Nat.one_mul]; exact h2)
  have e1 : ∀ i, i < t + 1 → pb_pd m m w i = pb_pd m (t + 1) (P * m + x) i := fun i hi => by
    have := pb_pd_pre (m := m) (t := t + 1) (k := k) (w := w) hi
    rw [show t + 1 + k = m by omega, hp] at this
    exact this
  have et : pb_pd m m w t = x := by rw [e1 t (by omega), pb_pd_hi hx]
  rcases hbad with ⟨i, hi, e⟩ | hb | hb
  · have ei : pb_pd m m w i = x := by rw [e1 i (by omega), pb_pd_lo hx hi, e]
    have := h.1.1 i t (by omega) (by omega) (by rw [ei, et])
    omega
  · have := (h.1.2 t (by omega)).1
    rw [et] at this
    exact hb this
  · have := (h.1.2 t (by omega)).2
    rw [et] at this
    exact hb this
theorem pb_hangF {n m bk : Nat} {b : Nat → Nat} {R0 : fm_M} (H : pb_HD m b R0) (hn : 10 ≤ n) (hbk : bk = 18 ∨ 193 ≤ bk) : ∀ (k d t P s : Nat) (C : fm_M) (a : Nat × Nat), t + k = m → k < d → pb_HC m bk b R0 C → pb_LB m C a → (∀ i, i < t → pb_ok1 R0 i (pb_pd m t P i) ∧ pb_fin R0 b i (pb_pd m t P i)) → pb_inj t (pb_pd m t P) → pb_msks m s t (pb_pd m t P) → (∀ i, i < t → C.1 7 i = nI (pb_pd m t P i)) → ∃ C', fX0_hangFrom n bk d C (nI t) (nI s) (nI (pb_cnt (fun i => pb_e R0 b i (pb_pd m t P i)) t 0)) = some C' ∧ pb_LB m C' (pb_fold (pb_stp m b R0) (m ^ k) (P * m ^ k) a) ∧ pb_agC C C' ∧ ∀ i, i < t → C'.1 7 i = C.1 7 i := by
  have hm := H.1
  have hb := H.2.1
  intro k
  induction k with
  | zero =>
    intro d t P s C a h1 h2 hC hL hv hi hs hg
    obtain ⟨d, rfl⟩ : ∃ j, d = j + 1 := ⟨d - 1, by omega⟩
    have et : t = m := by omega
    subst et
    have hV : pb_V t b R0 P := ⟨hi, hv⟩
    have hco : pb_co t b R0 P = pb_cnt (fun i => pb_e R0 b i (pb_pd t t P i)) t 0 := rfl
    have hle := pb_co_le H (w := P) (fun i hi => (hv i hi).2)
    rw [← hco, fX0_hangFrom, hC.1, hL.1, Nat.pow_zero, Nat.mul_one]
    have ef : pb_fold (pb_stp t b R0) 1 P a = pb_stp t b R0 a P := rfl
    rw [ef]
    have ha1 : a.1 ≤ 100000 := by rcases hL.2 with h | h <;> omega
    by_cases c : a.1 ≤ pb_co t b R0 P
    · simp (disch := omega) only [pb_l0, pb_l1, pb_l2, pb_l3, pb_l4, pb_l5, pb_l6, pb_l7, pb_l8, pb_l9, pb_l10, pb_l12, pb_l14, pb_l20, pb_l32, pb_l36, pb_l48, pb_l56, pb_l57, pb_l59, pb_l60, pb_l72, pb_l99, pb_l100, pb_l111, pb_l116, pb_l200, pb_l255, pb_l504, pb_l560, pb_l1000, pb_l9999, pb_l10000, pb_l100000, pb_l1000000, nI_add, pk_mul, pb_cl, pb_b, pb_le_t, pb_le_f, pb_lt_t, pb_lt_f, pb_eq_t, pb_eq_f, if_true]
      rw [pb_stp_n (fun h => by omega)]
      exact ⟨C, rfl, hL, pb_agC.refl, fun _ _ => rfl⟩
    · simp (disch := omega) only [pb_l0, pb_l1, pb_l2, pb_l3, pb_l4, pb_l5, pb_l6, pb_l7, pb_l8, pb_l9, pb_l10, pb_l12, pb_l14, pb_l20, pb_l32, pb_l36, pb_l48, pb_l56, pb_l57, pb_l59, pb_l60, pb_l72, pb_l99, pb_l100, pb_l111, pb_l116, pb_l200, pb_l255, pb_l504, pb_l560, pb_l1000, pb_l9999, pb_l10000, pb_l100000, pb_l1000000, nI_add, pk_mul, pb_cl, pb_b, pb_le_t, pb_le_f, pb_lt_t, pb_lt_f, pb_eq_t, pb_eq_f, if_true, fm_let]
      rw [pb_stp_p ⟨hV, by omega⟩]
      refine ⟨_, rfl, ⟨?_, Or.inr ⟨hle, fun i hi => ?_⟩⟩, ⟨fun c c1 c2 c3 => ?_, fun j hj => ?_, rfl⟩, fun i hi => ?_⟩
      · simp (disch := omega) only [pb_wr_e, pb_wr_n, pb_row_e, pb_row_n, pb_up_e, pb_up_n, pb_wr_2, pb_row_2]
      · rw [pb_row_e, pk_cpy_in (by omega) (by omega), Nat.sub_zero, Nat.zero_add, pb_wr_n (by omega)]
        exact hg i hi
      · rw [pb_row_n c3, pb_wr_n c1]
      · rw [pb_row_n (by omega), pb_wr_e, pb_up_n hj]
      · rw [pb_row_n (by omega), pb_wr_n (by omega)]
  | succ k ih =>
    intro d t P s C a h1 h2 hC hL hv hi hs hg
    obtain ⟨d, rfl⟩ : ∃ j, d = j + 1 := ⟨d - 1, by omega⟩
    have hm0 : 0 < m := by omega
    have loop : ∀ (j f x : Nat) (C : fm_M) (a : Nat × Nat), x + j = m → j < f → pb_HC m bk b R0 C → pb_LB m C a → (∀ i, i < t → C.1 7 i = nI (pb_pd m t P i)) → ∃ C', fX0_hangFrom_43 n bk (fX0_hangFrom n bk d) f C (nI t) (nI s) (nI (pb_cnt (fun i => pb_e R0 b i (pb_pd m t P i)) t 0)) (nI x) = some C' ∧ pb_LB m C' (pb_fold (pb_stp m b R0) (j * m ^ k) ((P * m + x) * m ^ k) a) ∧ pb_agC C C' ∧ ∀ i, i < t → C'.1 7 i = C.1 7 i := by
      intro j
      induction j with
      | zero =>
        intro f x C a j1 j2 hC hL hg
        obtain ⟨f, rfl⟩ : ∃ i, f = i + 1 := ⟨f - 1, by omega⟩
        rw [fX0_hangFrom_43, hC.1, Nat.zero_mul]
        simp (disch := omega) only [pb_l0, pb_l1, pb_l2, pb_l3, pb_l4, pb_l5, pb_l6, pb_l7, pb_l8, pb_l9, pb_l10, pb_l12, pb_l14, pb_l20, pb_l32, pb_l36, pb_l48, pb_l56, pb_l57, pb_l59, pb_l60, pb_l72, pb_l99, pb_l100, pb_l111, pb_l116, pb_l200, pb_l255, pb_l504, pb_l560, pb_l1000, pb_l9999, pb_l10000, pb_l100000, pb_l1000000, nI_add, pk_mul, pb_cl, pb_b, pb_le_t, pb_le_f, pb_lt_t, pb_lt_f, pb_eq_t, pb_eq_f]
        exact ⟨C, rfl, hL, pb_agC.refl, fun _ _ => rfl⟩
      | succ j ihj =>
        intro f x C a j1 j2 hC hL hg
        obtain ⟨f, rfl⟩ : ∃ i, f = i + 1 := ⟨f - 1, by omega⟩
        obtain ⟨u1, u2, u3⟩ := pb_where0 (n := n) (bk := bk) (a := 39) (C := C) hb hm (by omega : x < m) hC.2.1 hn
        have hfar := hC.2.2.1 _ t u1 (by omega)
        have hbit := pb_bit0 (s := s) hs.1 (by omega : x < 6)
        have hmask := hs.2 x (by omega)
        obtain ⟨z1, z2, z3⟩ := pb_setS s hs.1 x (by omega)
        have hrf := H.2.2.2.2.1 _ t u1 (by omega)
        have hsplit : (j + 1) * m ^ k = m ^ k + j * m ^ k := by rw [Nat.add_mul, Nat.one_mul, Nat.add_comm]
        have hnext : (P * m + x) * m ^ k + m ^ k = (P * m + (x + 1)) * m ^ k := by rw [← Nat.add_assoc (P * m) x 1, Nat.add_mul _ 1, Nat.one_mul]
        rw [hsplit, pb_fold_add, hnext, fX0_hangFrom_43, hC.1]
        have skip : (∃ i, i < t ∧ pb_pd m t P i = x) ∨ ¬ pb_ok1 R0 t x ∨ ¬ pb_fin R0 b t x → ∃ C', fX0_hangFrom_43 n bk (fX0_hangFrom n bk d) f C (nI t) (nI s) (nI (pb_cnt (fun i => pb_e R0 b i (pb_pd m t P i)) t 0)) (nI (x + 1)) = some C' ∧ pb_LB m C' (pb_fold (pb_stp m b R0) (j * m ^ k) ((P * m + (x + 1)) * m ^ k) (pb_fold (pb_stp m b R0) (m ^ k) ((P * m + x) * m ^ k) a)) ∧ pb_agC C C' ∧ ∀ i, i < t → C'.1 7 i = C.1 7 i := by
          intro hbad
          rw [pb_bad hm0 (by omega) (by omega) hbad]
          exact ihj f (x + 1) C a (by omega) (by omega) hC hL hg
        by_cases c1 : pb_tb s x = true
        · rw [if_pos c1] at hbit
          simp (disch := omega) only [pb_l0, pb_l1, pb_l2, pb_l3, pb_l4, pb_l5, pb_l6, pb_l7, pb_l8, pb_l9, pb_l10, pb_l12, pb_l14, pb_l20, pb_l32, pb_l36, pb_l48, pb_l56, pb_l57, pb_l59, pb_l60, pb_l72, pb_l99, pb_l100, pb_l111, pb_l116, pb_l200, pb_l255, pb_l504, pb_l560, pb_l1000, pb_l9999, pb_l10000, pb_l100000, pb_l1000000, nI_add, pk_mul, pb_cl, pb_b, pb_le_t, pb_le_f, pb_lt_t, pb_lt_f, pb_eq_t, pb_eq_f, u3, pb_bi, fm_let, hbit]
          exact skip (Or.inl (hmask.mp c1))
        · rw [if_neg c1] at hbit
          by_cases c2 : pb_rf R0 (pb_wh b x 6 0) t ≤ 45
          · rw [if_pos c2] at hfar
            by_cases c3 : R0.1 11 (8 + t) < R0.1 4 x
            · have c3' : C.1 41 t < C.1 (bk + 2) x := by rw [hC.2.2.2.1 t (by omega), hC.2.2.2.2 x (by omega), ← (H.2.2.2.2.2 x (by omega)).2]; exact c3
              simp (disch := omega) only [pb_l0, pb_l1, pb_l2, pb_l3, pb_l4, pb_l5, pb_l6, pb_l7, pb_l8, pb_l9, pb_l10, pb_l12, pb_l14, pb_l20, pb_l32, pb_l36, pb_l48, pb_l56, pb_l57, pb_l59, pb_l60, pb_l72, pb_l99, pb_l100, pb_l111, pb_l116, pb_l200, pb_l255, pb_l504, pb_l560, pb_l1000, pb_l9999, pb_l10000, pb_l100000, pb_l1000000, nI_add, pk_mul, pb_cl, pb_b, pb_le_t, pb_le_f, pb_lt_t, pb_lt_f, pb_eq_t, pb_eq_f, u3, pb_bi, fm_let, hbit, hfar, if_true, pb_ifp c3']
              exact skip (Or.inr (Or.inl (fun h => h c3)))
            · have c3' : ¬ C.1 41 t < C.1 (bk + 2) x := by rw [hC.2.2.2.1 t (by omega), hC.2.2.2.2 x (by omega), ← (H.2.2.2.2.2 x (by omega)).2]; exact c3
              have lo : ∀ i, i < t → pb_pd m (t + 1) (P * m + x) i = pb_pd m t P i := fun i hi => pb_pd_lo (by omega) hi
              have hi' : pb_pd m (t + 1) (P * m + x) t = x := pb_pd_hi (by omega)
              have hnew : ∀ i, i < t → pb_pd m t P i ≠ x := fun i hi e => c1 (hmask.mpr ⟨i, hi, e⟩)
              have hsum : pb_cnt (fun i => pb_e R0 b i (pb_pd m (t + 1) (P * m + x) i)) (t + 1) 0 = pb_cnt (fun i => pb_e R0 b i (pb_pd m t P i)) t 0 + pb_rf R0 (pb_wh b x 6 0) t * pb_wt R0 x := by
                rw [pb_cnt_last, Nat.zero_add]
                have : pb_cnt (fun i => pb_e R0 b i (pb_pd m (t + 1) (P * m + x) i)) t 0 = pb_cnt (fun i => pb_e R0 b i (pb_pd m t P i)) t 0 := pb_cnt_congr t 0 (fun i _ hi => by
                  show pb_e R0 b i (pb_pd m (t + 1) (P * m + x) i) = pb_e R0 b i (pb_pd m t P i)
                  rw [lo i (by omega)])
                rw [this]
                show _ + pb_e R0 b t (pb_pd m (t + 1) (P * m + x) t) = _
                rw [hi']; rfl
              have hag0 : pb_agC C (fm_wr C 7 t (nI x)) := ⟨fun c c1 c2 c3 => pb_wr_n c2, fun j hj => by rw [pb_wr_n (by omega)], rfl⟩
              have hC1 := hC.ag hbk hm hag0
              have hL1 : pb_LB m (fm_wr C 7 t (nI x)) a := by
                refine ⟨by rw [pb_wr_n (by omega)]; exact hL.1, ?_⟩
                rcases hL.2 with h | ⟨h, h'⟩
                · exact Or.inl h
                · exact Or.inr ⟨h, fun i hi => by rw [pb_wr_n (by omega)]; exact h' i hi⟩
              obtain ⟨C2, r1, r2, r3, r4⟩ := ih d (t + 1) (P * m + x) (pb_set s x) (fm_wr C 7 t (nI x)) a (by omega) (by omega) hC1 hL1 (fun i hi => by
                by_cases ei : i = t
                · rw [ei, hi']; exact ⟨c3, c2⟩
                · rw [lo i (by omega)]; exact hv i (by omega)) (hi.step lo hi' hnew) (hs.step hm (by omega) lo hi') (fun i hi2 => by
                rw [pb_wr_e]
                by_cases ei : i = t
                · subst ei; rw [pb_up_e, hi']
                · rw [pb_up_n ei, lo i (by omega)]; exact hg i (by omega))
              rw [hsum] at r1
              have hag2 := hag0.trans r3
              have hg2 : ∀ i, i < t → C2.1 7 i = C.1 7 i := fun i hi2 => by rw [r4 i (by omega), pb_wr_e, pb_up_n (by omega)]
              obtain ⟨C3, w1, w2, w3, w4⟩ := ihj f (x + 1) C2 _ (by omega) (by omega) (hC.ag hbk hm hag2) r2 (fun i hi2 => by rw [hg2 i hi2]; exact hg i hi2)
              refine ⟨C3, ?_, w2, hag2.trans w3, fun i hi2 => (w4 i hi2).trans (hg2 i hi2)⟩
              have ew : (fm_wr C 7 t (nI x)).1 (bk + 2) x = nI (pb_wt R0 x) := hC1.2.2.2.2 x (by omega)
              simp (disch := omega) only [pb_l0, pb_l1, pb_l2, pb_l3, pb_l4, pb_l5, pb_l6, pb_l7, pb_l8, pb_l9, pb_l10, pb_l12, pb_l14, pb_l20, pb_l32, pb_l36, pb_l48, pb_l56, pb_l57, pb_l59, pb_l60, pb_l72, pb_l99, pb_l100, pb_l111, pb_l116, pb_l200, pb_l255, pb_l504, pb_l560, pb_l1000, pb_l9999, pb_l10000, pb_l100000, pb_l1000000, nI_add, pk_mul, pb_cl, pb_b, pb_le_t, pb_le_f, pb_lt_t, pb_lt_f, pb_eq_t, pb_eq_f, u3, pb_bi, fm_let, hbit, hfar, if_true, pb_ifn c3', z1, ew, r1, pb_bv]
              exact w1
          · rw [if_neg c2] at hfar
            simp (disch := omega) only [pb_l0, pb_l1, pb_l2, pb_l3, pb_l4, pb_l5, pb_l6, pb_l7, pb_l8, pb_l9, pb_l10, pb_l12, pb_l14, pb_l20, pb_l32, pb_l36, pb_l48, pb_l56, pb_l57, pb_l59, pb_l60, pb_l72, pb_l99, pb_l100, pb_l111, pb_l116, pb_l200, pb_l255, pb_l504, pb_l560, pb_l1000, pb_l9999, pb_l10000, pb_l100000, pb_l1000000, nI_add, pk_mul, pb_cl, pb_b, pb_le_t, pb_le_f, pb_lt_t, pb_lt_f, pb_eq_t, pb_eq_f, u3, pb_bi, fm_let, hbit, hfar, if_true]
            exact skip (Or.inr (Or.inr c2))
    rw [fX0_hangFrom, hC.1]
    simp (disch := omega) only [pb_l0, pb_l1, pb_l2, pb_l3, pb_l4, pb_l5, pb_l6, pb_l7, pb_l8, pb_l9, pb_l10, pb_l12, pb_l14, pb_l20, pb_l32, pb_l36, pb_l48, pb_l56, pb_l57, pb_l59, pb_l60, pb_l72, pb_l99, pb_l100, pb_l111, pb_l116, pb_l200, pb_l255, pb_l504, pb_l560, pb_l1000, pb_l9999, pb_l10000, pb_l100000, pb_l1000000, nI_add, pk_mul, pb_cl, pb_b, pb_le_t, pb_le_f, pb_lt_t, pb_lt_f, pb_eq_t, pb_eq_f]
    obtain ⟨C', e1, e2, e3, e4⟩ := loop m n 0 C a (by omega) (by omega) hC hL hg
    rw [Nat.add_zero, Nat.mul_assoc, ← Nat.pow_succ'] at e2
    exact ⟨C', e1, e2, e3, e4⟩
