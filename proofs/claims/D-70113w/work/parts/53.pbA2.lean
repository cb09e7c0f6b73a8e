/-! town, bell, far, oath, now, oaths, strokes, crossed, count, trace, found, forget -/
set_option maxRecDepth 100000
theorem pb_msk_congr {D D' : Nat → Bool} : ∀ (j t : Nat) (acc : Int32), (∀ i, t ≤ i → i < t + j → D i = D' i) → pb_msk D j t acc = pb_msk D' j t acc := by
  intro j
  induction j with
  | zero => intro t acc _; rfl
  | succ j ih =>
    intro t acc h
    rw [pb_msk, pb_msk, h t (by omega) (by omega)]
    exact ih (t + 1) _ (fun i h1 h2 => h i (by omega) (by omega))
def pb_bl (d0 d1 d2 d3 d4 d5 : Bool) (i : Nat) : Bool := [d0, d1, d2, d3, d4, d5].getD i false
theorem pb_msk6 : ∀ d0 d1 d2 d3 d4 d5 : Bool, ∀ m, m < 7 → ∀ t, t < m → ((pb_msk (pb_bl d0 d1 d2 d3 d4 d5) m 0 (nI 0)) >>> (nI t &&& 31)) &&& nI 1 = if pb_bl d0 d1 d2 d3 d4 d5 t = true then nI 1 else nI 0 := by decide +kernel
theorem pb_bl_eq (D : Nat → Bool) (i : Nat) (h : i < 6) : D i = pb_bl (D 0) (D 1) (D 2) (D 3) (D 4) (D 5) i := by
  have : i = 0 ∨ i = 1 ∨ i = 2 ∨ i = 3 ∨ i = 4 ∨ i = 5 := by omega
  rcases this with rfl | rfl | rfl | rfl | rfl | rfl <;> rfl
theorem pb_msk_bit (D : Nat → Bool) {m t : Nat} (hm : m ≤ 6) (ht : t < m) : ((pb_msk D m 0 (nI 0)) >>> (nI t &&& 31)) &&& nI 1 = if D t = true then nI 1 else nI 0 := by
  rw [pb_bl_eq D t (by omega), pb_msk_congr (D' := pb_bl (D 0) (D 1) (D 2) (D 3) (D 4) (D 5)) m 0 (nI 0) (fun i _ h => pb_bl_eq D i (by omega))]
  exact pb_msk6 _ _ _ _ _ _ m (by omega) t ht
theorem pb_town {n bk : Nat} {C R : fm_M} (h : pb_R bk C R) (hn : 10 ≤ n) (l l2 : Int32) : pb_ok bk (fX0_town n bk C l l2) (fX9_town n R l l2) := by
  have h' := h.thrown
  unfold fX9_town fX0_town
  simp only [fm_let, pb_l0, pb_l1, pb_l2, pb_l3]
  rw [pb_l0] at h'
  generalize fm_wr R 0 0 (nI 0) = R1 at h' ⊢
  clear h
  have hh := h'
  obtain ⟨m, o, d, f, y, p, ⟨⟨a1, a2, a3⟩, ⟨b1, b2, b3, b4⟩, c1, d1, e1, f1, g1⟩, s1, s2⟩ := h'
  rcases pb_isTown (n := n) (bk := bk) b1 b2 a1 l with ⟨t, ht, rfl, e0, e9⟩ | ⟨e0, e9⟩
  · rcases pb_in n bk C R1 0 3 (by omega) (by omega) l2 with ⟨v, _, hv, rfl, _, i9⟩ | ⟨hv, _, i9⟩
    · have : v = 0 ∨ v = 1 ∨ v = 2 ∨ v = 3 := by omega
      rcases this with rfl | rfl | rfl | rfl
      · simp (disch := omega) only [e0, e9, i9, pb_bi, pb_l0, pb_l1, pb_l2, pb_l3, pb_l4, pb_l5, pb_l6, pb_l7, pb_l8, pb_l9, pb_l10, pb_l12, pb_l14, pb_l20, pb_l32, pb_l36, pb_l48, pb_l56, pb_l57, pb_l59, pb_l60, pb_l72, pb_l99, pb_l100, pb_l111, pb_l116, pb_l200, pb_l255, pb_l504, pb_l560, pb_l1000, pb_l9999, pb_l10000, pb_l100000, pb_l1000000, nI_add, pk_mul, pb_cl, pb_b, pb_le_t, pb_le_f, pb_lt_t, pb_lt_f, pb_eq_t, pb_eq_f]
        rw [show C.1 41 t = R1.1 11 (8 + t) from s1.bears ht a1]
        exact ⟨_, _, _, rfl, rfl, hh⟩
      · simp (disch := omega) only [e0, e9, i9, pb_bi, pb_l0, pb_l1, pb_l2, pb_l3, pb_l4, pb_l5, pb_l6, pb_l7, pb_l8, pb_l9, pb_l10, pb_l12, pb_l14, pb_l20, pb_l32, pb_l36, pb_l48, pb_l56, pb_l57, pb_l59, pb_l60, pb_l72, pb_l99, pb_l100, pb_l111, pb_l116, pb_l200, pb_l255, pb_l504, pb_l560, pb_l1000, pb_l9999, pb_l10000, pb_l100000, pb_l1000000, nI_add, pk_mul, pb_cl, pb_b, pb_le_t, pb_le_f, pb_lt_t, pb_lt_f, pb_eq_t, pb_eq_f]
        rw [show C.1 40 t = R1.1 11 (2 + t) from s1.bell (by omega)]
        exact ⟨_, _, _, rfl, rfl, hh⟩
      · obtain ⟨u, hu, _, w0, w9⟩ := pb_where (n := n) (bk := bk) s1 a1 ht hn
        simp (disch := omega) only [e0, e9, i9, pb_bi, pb_l0, pb_l1, pb_l2, pb_l3, pb_l4, pb_l5, pb_l6, pb_l7, pb_l8, pb_l9, pb_l10, pb_l12, pb_l14, pb_l20, pb_l32, pb_l36, pb_l48, pb_l56, pb_l57, pb_l59, pb_l60, pb_l72, pb_l99, pb_l100, pb_l111, pb_l116, pb_l200, pb_l255, pb_l504, pb_l560, pb_l1000, pb_l9999, pb_l10000, pb_l100000, pb_l1000000, nI_add, pk_mul, pb_cl, pb_b, pb_le_t, pb_le_f, pb_lt_t, pb_lt_f, pb_eq_t, pb_eq_f, w0, w9]
        exact ⟨_, _, _, rfl, rfl, hh⟩
      · obtain ⟨q1, b, hb, hr⟩ := s1
        have hc : ∀ t, t < m → C.1 40 t = nI (b t) := fun t ht => by rw [← hr t ht, ← q1 (2 + t) (by omega) (by omega), pb_pl_bell (by omega)]
        have w0 := pb_dumb_loop (n := n) (bk := bk) (C := C) hn a1 b1 hb.1 hr hc (fun a b h1 h2 => (d1 a b h1 h2).1) (fun t ht => (c1 t ht).2.1) n 0 (nI 0) (by omega) (by omega)
        have w9 := pb_isDumb (n := n) a1 ht b2 hb.1 hr hn
        have w0' : fX2_dumb n bk 39 C = some (pb_msk (pb_dm R1 m) m 0 (nI 0), C) := w0
        simp (disch := omega) only [e0, e9, i9, pb_bi, pb_l0, pb_l1, pb_l2, pb_l3, pb_l4, pb_l5, pb_l6, pb_l7, pb_l8, pb_l9, pb_l10, pb_l12, pb_l14, pb_l20, pb_l32, pb_l36, pb_l48, pb_l56, pb_l57, pb_l59, pb_l60, pb_l72, pb_l99, pb_l100, pb_l111, pb_l116, pb_l200, pb_l255, pb_l504, pb_l560, pb_l1000, pb_l9999, pb_l10000, pb_l100000, pb_l1000000, nI_add, pk_mul, pb_cl, pb_b, pb_le_t, pb_le_f, pb_lt_t, pb_lt_f, pb_eq_t, pb_eq_f, w0', w9]
        rw [pb_msk_bit _ a1 ht]
        by_cases e : pb_dm R1 m t = true
        · simp (disch := omega) only [pb_ifp e, pb_l0, pb_l1, pb_l2, pb_l3, pb_l4, pb_l5, pb_l6, pb_l7, pb_l8, pb_l9, pb_l10, pb_l12, pb_l14, pb_l20, pb_l32, pb_l36, pb_l48, pb_l56, pb_l57, pb_l59, pb_l60, pb_l72, pb_l99, pb_l100, pb_l111, pb_l116, pb_l200, pb_l255, pb_l504, pb_l560, pb_l1000, pb_l9999, pb_l10000, pb_l100000, pb_l1000000, nI_add, pk_mul, pb_cl, pb_b, pb_le_t, pb_le_f, pb_lt_t, pb_lt_f, pb_eq_t, pb_eq_f]
          exact ⟨_, _, _, rfl, rfl, hh⟩
        · simp (disch := omega) only [pb_ifn e, pb_l0, pb_l1, pb_l2, pb_l3, pb_l4, pb_l5, pb_l6, pb_l7, pb_l8, pb_l9, pb_l10, pb_l12, pb_l14, pb_l20, pb_l32, pb_l36, pb_l48, pb_l56, pb_l57, pb_l59, pb_l60, pb_l72, pb_l99, pb_l100, pb_l111, pb_l116, pb_l200, pb_l255, pb_l504, pb_l560, pb_l1000, pb_l9999, pb_l10000, pb_l100000, pb_l1000000, nI_add, pk_mul, pb_cl, pb_b, pb_le_t, pb_le_f, pb_lt_t, pb_lt_f, pb_eq_t, pb_eq_f]
          exact ⟨_, _, _, rfl, rfl, hh⟩
    · have z0 := hv 0 (by omega) (by omega)
      have z1 := hv 1 (by omega) (by omega)
      have z2 := hv 2 (by omega) (by omega)
      have z3 := hv 3 (by omega) (by omega)
      simp (disch := omega) only [e0, e9, i9, pb_bi, pb_l0, pb_l1, pb_l2, pb_l3, pb_l4, pb_l5, pb_l6, pb_l7, pb_l8, pb_l9, pb_l10, pb_l12, pb_l14, pb_l20, pb_l32, pb_l36, pb_l48, pb_l56, pb_l57, pb_l59, pb_l60, pb_l72, pb_l99, pb_l100, pb_l111, pb_l116, pb_l200, pb_l255, pb_l504, pb_l560, pb_l1000, pb_l9999, pb_l10000, pb_l100000, pb_l1000000, nI_add, pk_mul, pb_cl, pb_b, pb_le_t, pb_le_f, pb_lt_t, pb_lt_f, pb_eq_t, pb_eq_f]
      rw [pb_ifn z0, pb_ifn z1, pb_ifn z2, pb_ifn z3]
      exact ⟨_, _, _, rfl, rfl, hh⟩
  · simp (disch := omega) only [e0, e9, pb_bi, pb_l0, pb_l1, pb_l2, pb_l3, pb_l4, pb_l5, pb_l6, pb_l7, pb_l8, pb_l9, pb_l10, pb_l12, pb_l14, pb_l20, pb_l32, pb_l36, pb_l48, pb_l56, pb_l57, pb_l59, pb_l60, pb_l72, pb_l99, pb_l100, pb_l111, pb_l116, pb_l200, pb_l255, pb_l504, pb_l560, pb_l1000, pb_l9999, pb_l10000, pb_l100000, pb_l1000000, nI_add, pk_mul, pb_cl, pb_b, pb_le_t, pb_le_f, pb_lt_t, pb_lt_f, pb_eq_t, pb_eq_f]
    exact ⟨_, _, _, rfl, rfl, hh⟩
theorem pb_bell {n bk : Nat} {C R : fm_M} (h : pb_R bk C R) (hn : 10 ≤ n) (l l2 : Int32) : pb_ok bk (fX0_bell n bk C l l2) (fX9_bell n R l l2) := by
  have h' := h.thrown
  unfold fX9_bell fX0_bell
  simp only [fm_let, pb_l0, pb_l1, pb_l2, pb_l3]
  rw [pb_l0] at h'
  generalize fm_wr R 0 0 (nI 0) = R1 at h' ⊢
  clear h
  have hh := h'
  obtain ⟨m, o, d, f, y, p, ⟨⟨a1, a2, a3⟩, ⟨b1, b2, b3, b4⟩, c1, d1, e1, f1, g1⟩, s1, s2⟩ := h'
  rcases pb_isTown (n := n) (bk := bk) b1 b2 a1 l with ⟨t, ht, rfl, e0, e9⟩ | ⟨e0, e9⟩
  · rcases pb_in n bk C R1 0 3 (by omega) (by omega) l2 with ⟨v, _, hv, rfl, _, i9⟩ | ⟨hv, _, i9⟩
    · have : v = 0 ∨ v = 1 ∨ v = 2 ∨ v = 3 := by omega
      rcases this with rfl | rfl | rfl | rfl
      · simp (disch := omega) only [e0, e9, i9, pb_bi, pb_l0, pb_l1, pb_l2, pb_l3, pb_l4, pb_l5, pb_l6, pb_l7, pb_l8, pb_l9, pb_l10, pb_l12, pb_l14, pb_l20, pb_l32, pb_l36, pb_l48, pb_l56, pb_l57, pb_l59, pb_l60, pb_l72, pb_l99, pb_l100, pb_l111, pb_l116, pb_l200, pb_l255, pb_l504, pb_l560, pb_l1000, pb_l9999, pb_l10000, pb_l100000, pb_l1000000, nI_add, pk_mul, pb_cl, pb_b, pb_le_t, pb_le_f, pb_lt_t, pb_lt_f, pb_eq_t, pb_eq_f]
        rw [(c1 t ht).1]
        exact ⟨_, _, _, rfl, rfl, hh⟩
      · simp (disch := omega) only [e0, e9, i9, pb_bi, pb_l0, pb_l1, pb_l2, pb_l3, pb_l4, pb_l5, pb_l6, pb_l7, pb_l8, pb_l9, pb_l10, pb_l12, pb_l14, pb_l20, pb_l32, pb_l36, pb_l48, pb_l56, pb_l57, pb_l59, pb_l60, pb_l72, pb_l99, pb_l100, pb_l111, pb_l116, pb_l200, pb_l255, pb_l504, pb_l560, pb_l1000, pb_l9999, pb_l10000, pb_l100000, pb_l1000000, nI_add, pk_mul, pb_cl, pb_b, pb_le_t, pb_le_f, pb_lt_t, pb_lt_f, pb_eq_t, pb_eq_f]
        rw [(c1 t ht).2.1]
        exact ⟨_, _, _, rfl, rfl, hh⟩
      · obtain ⟨u, hu, _, w0, w9⟩ := pb_where (n := n) (bk := bk) s1 a1 ht hn
        simp (disch := omega) only [e0, e9, i9, pb_bi, pb_l0, pb_l1, pb_l2, pb_l3, pb_l4, pb_l5, pb_l6, pb_l7, pb_l8, pb_l9, pb_l10, pb_l12, pb_l14, pb_l20, pb_l32, pb_l36, pb_l48, pb_l56, pb_l57, pb_l59, pb_l60, pb_l72, pb_l99, pb_l100, pb_l111, pb_l116, pb_l200, pb_l255, pb_l504, pb_l560, pb_l1000, pb_l9999, pb_l10000, pb_l100000, pb_l1000000, nI_add, pk_mul, pb_cl, pb_b, pb_le_t, pb_le_f, pb_lt_t, pb_lt_f, pb_eq_t, pb_eq_f, w0, w9]
        exact ⟨_, _, _, rfl, rfl, hh⟩
      · obtain ⟨r, w0, w9⟩ := pb_fits_loop (n := n) (bk := bk) (C := C) (R := R1) a1 ht b1 b2 (fun t ht => (c1 t ht).1) (fun t ht => s1.bears ht a1) n 0 (nI 0) (by omega) (by omega)
        have w0' : fX0_fits n bk C (nI t) = some (r, C) := w0
        have w9' : fX9_fits n R1 (nI t) = some (r, R1) := w9
        simp (disch := omega) only [e0, e9, i9, pb_bi, pb_l0, pb_l1, pb_l2, pb_l3, pb_l4, pb_l5, pb_l6, pb_l7, pb_l8, pb_l9, pb_l10, pb_l12, pb_l14, pb_l20, pb_l32, pb_l36, pb_l48, pb_l56, pb_l57, pb_l59, pb_l60, pb_l72, pb_l99, pb_l100, pb_l111, pb_l116, pb_l200, pb_l255, pb_l504, pb_l560, pb_l1000, pb_l9999, pb_l10000, pb_l100000, pb_l1000000, nI_add, pk_mul, pb_cl, pb_b, pb_le_t, pb_le_f, pb_lt_t, pb_lt_f, pb_eq_t, pb_eq_f, w0', w9']
        exact ⟨_, _, _, rfl, rfl, hh⟩
    · have z0 := hv 0 (by omega) (by omega)
      have z1 := hv 1 (by omega) (by omega)
      have z2 := hv 2 (by omega) (by omega)
      have z3 := hv 3 (by omega) (by omega)
      simp (disch := omega) only [e0, e9, i9, pb_bi, pb_l0, pb_l1, pb_l2, pb_l3, pb_l4, pb_l5, pb_l6, pb_l7, pb_l8, pb_l9, pb_l10, pb_l12, pb_l14, pb_l20, pb_l32, pb_l36, pb_l48, pb_l56, pb_l57, pb_l59, pb_l60, pb_l72, pb_l99, pb_l100, pb_l111, pb_l116, pb_l200, pb_l255, pb_l504, pb_l560, pb_l1000, pb_l9999, pb_l10000, pb_l100000, pb_l1000000, nI_add, pk_mul, pb_cl, pb_b, pb_le_t, pb_le_f, pb_lt_t, pb_lt_f, pb_eq_t, pb_eq_f]
      rw [pb_ifn z0, pb_ifn z1, pb_ifn z2, pb_ifn z3]
      exact ⟨_, _, _, rfl, rfl, hh⟩
  · simp (disch := omega) only [e0, e9, pb_bi, pb_l0, pb_l1, pb_l2, pb_l3, pb_l4, pb_l5, pb_l6, pb_l7, pb_l8, pb_l9, pb_l10, pb_l12, pb_l14, pb_l20, pb_l32, pb_l36, pb_l48, pb_l56, pb_l57, pb_l59, pb_l60, pb_l72, pb_l99, pb_l100, pb_l111, pb_l116, pb_l200, pb_l255, pb_l504, pb_l560, pb_l1000, pb_l9999, pb_l10000, pb_l100000, pb_l1000000, nI_add, pk_mul, pb_cl, pb_b, pb_le_t, pb_le_f, pb_lt_t, pb_lt_f, pb_eq_t, pb_eq_f]
    exact ⟨_, _, _, rfl, rfl, hh⟩
theorem pb_farop {n bk : Nat} {C R : fm_M} (h : pb_R bk C R) (l l2 : Int32) : pb_ok bk (fX0_far n bk C l l2) (fX9_far n R l l2) := by
  have h' := h.thrown
  unfold fX9_far fX0_far
  simp only [fm_let, pb_l0, pb_l1, pb_l2, pb_l3]
  rw [pb_l0] at h'
  generalize fm_wr R 0 0 (nI 0) = R1 at h' ⊢
  clear h
  have hh := h'
  obtain ⟨m, o, d, f, y, p, ⟨⟨a1, a2, a3⟩, ⟨b1, b2, b3, b4⟩, c1, d1, e1, f1, g1⟩, s1, s2⟩ := h'
  rcases pb_isTown (n := n) (bk := bk) b1 b2 a1 l with ⟨t, ht, rfl, e0, e9⟩ | ⟨e0, e9⟩
  · rcases pb_isTown (n := n) (bk := bk) b1 b2 a1 l2 with ⟨u, hu, rfl, k0, k9⟩ | ⟨k0, k9⟩
    · rcases f1 t u ht hu with ⟨v, hv, q0, q9⟩ | ⟨q0, q9⟩
      · simp (disch := omega) only [e0, e9, k0, k9, pb_bi, pb_l0, pb_l1, pb_l2, pb_l3, pb_l4, pb_l5, pb_l6, pb_l7, pb_l8, pb_l9, pb_l10, pb_l12, pb_l14, pb_l20, pb_l32, pb_l36, pb_l48, pb_l56, pb_l57, pb_l59, pb_l60, pb_l72, pb_l99, pb_l100, pb_l111, pb_l116, pb_l200, pb_l255, pb_l504, pb_l560, pb_l1000, pb_l9999, pb_l10000, pb_l100000, pb_l1000000, nI_add, pk_mul, pb_cl, pb_b, pb_le_t, pb_le_f, pb_lt_t, pb_lt_f, pb_eq_t, pb_eq_f, q0, q9]
        exact ⟨_, _, _, rfl, rfl, hh⟩
      · simp (disch := omega) only [e0, e9, k0, k9, pb_bi, pb_l0, pb_l1, pb_l2, pb_l3, pb_l4, pb_l5, pb_l6, pb_l7, pb_l8, pb_l9, pb_l10, pb_l12, pb_l14, pb_l20, pb_l32, pb_l36, pb_l48, pb_l56, pb_l57, pb_l59, pb_l60, pb_l72, pb_l99, pb_l100, pb_l111, pb_l116, pb_l200, pb_l255, pb_l504, pb_l560, pb_l1000, pb_l9999, pb_l10000, pb_l100000, pb_l1000000, nI_add, pk_mul, pb_cl, pb_b, pb_le_t, pb_le_f, pb_lt_t, pb_lt_f, pb_eq_t, pb_eq_f, q0, q9]
        exact ⟨_, _, _, rfl, rfl, hh⟩
    · simp (disch := omega) only [e0, e9, k0, k9, pb_bi, pb_l0, pb_l1, pb_l2, pb_l3, pb_l4, pb_l5, pb_l6, pb_l7, pb_l8, pb_l9, pb_l10, pb_l12, pb_l14, pb_l20, pb_l32, pb_l36, pb_l48, pb_l56, pb_l57, pb_l59, pb_l60, pb_l72, pb_l99, pb_l100, pb_l111, pb_l116, pb_l200, pb_l255, pb_l504, pb_l560, pb_l1000, pb_l9999, pb_l10000, pb_l100000, pb_l1000000, nI_add, pk_mul, pb_cl, pb_b, pb_le_t, pb_le_f, pb_lt_t, pb_lt_f, pb_eq_t, pb_eq_f]
      exact ⟨_, _, _, rfl, rfl, hh⟩
  · simp (disch := omega) only [e0, e9, pb_bi, pb_l0, pb_l1, pb_l2, pb_l3, pb_l4, pb_l5, pb_l6, pb_l7, pb_l8, pb_l9, pb_l10, pb_l12, pb_l14, pb_l20, pb_l32, pb_l36, pb_l48, pb_l56, pb_l57, pb_l59, pb_l60, pb_l72, pb_l99, pb_l100, pb_l111, pb_l116, pb_l200, pb_l255, pb_l504, pb_l560, pb_l1000, pb_l9999, pb_l10000, pb_l100000, pb_l1000000, nI_add, pk_mul, pb_cl, pb_b, pb_le_t, pb_le_f, pb_lt_t, pb_lt_f, pb_eq_t, pb_eq_f]
    exact ⟨_, _, _, rfl, rfl, hh⟩
theorem pb_oathop {n bk : Nat} {C R : fm_M} (h : pb_R bk C R) (l l2 : Int32) : pb_ok bk (fX0_oath n bk C l l2) (fX9_oath n R l l2) := by
  have h' := h.thrown
  unfold fX9_oath fX0_oath
  simp only [fm_let, pb_l0, pb_l1, pb_l2, pb_l3]
  rw [pb_l0] at h'
  generalize fm_wr R 0 0 (nI 0) = R1 at h' ⊢
  clear h
  have hh := h'
  obtain ⟨m, o, d, f, y, p, ⟨⟨a1, a2, a3⟩, ⟨b1, b2, b3, b4⟩, c1, d1, e1, f1, g1⟩, s1, s2⟩ := h'
  rw [b3, b4]
  rcases pb_inm n bk o C R1 a2 l with ⟨t, ht, rfl, e0, e9⟩ | ⟨e0, e9⟩
  · rcases pb_in n bk C R1 0 3 (by omega) (by omega) l2 with ⟨v, _, hv, rfl, i0, i9⟩ | ⟨hv, i0, i9⟩
    · have : v = 0 ∨ v = 1 ∨ v = 2 ∨ v = 3 := by omega
      obtain ⟨x1, x2, x3, _⟩ := g1 t ht
      rcases this with rfl | rfl | rfl | rfl
      · simp (disch := omega) only [e0, e9, i0, i9, pb_bi, pb_l0, pb_l1, pb_l2, pb_l3, pb_l4, pb_l5, pb_l6, pb_l7, pb_l8, pb_l9, pb_l10, pb_l12, pb_l14, pb_l20, pb_l32, pb_l36, pb_l48, pb_l56, pb_l57, pb_l59, pb_l60, pb_l72, pb_l99, pb_l100, pb_l111, pb_l116, pb_l200, pb_l255, pb_l504, pb_l560, pb_l1000, pb_l9999, pb_l10000, pb_l100000, pb_l1000000, nI_add, pk_mul, pb_cl, pb_b, pb_le_t, pb_le_f, pb_lt_t, pb_lt_f, pb_eq_t, pb_eq_f, x1]
        exact ⟨_, _, _, rfl, rfl, hh⟩
      · simp (disch := omega) only [e0, e9, i0, i9, pb_bi, pb_l0, pb_l1, pb_l2, pb_l3, pb_l4, pb_l5, pb_l6, pb_l7, pb_l8, pb_l9, pb_l10, pb_l12, pb_l14, pb_l20, pb_l32, pb_l36, pb_l48, pb_l56, pb_l57, pb_l59, pb_l60, pb_l72, pb_l99, pb_l100, pb_l111, pb_l116, pb_l200, pb_l255, pb_l504, pb_l560, pb_l1000, pb_l9999, pb_l10000, pb_l100000, pb_l1000000, nI_add, pk_mul, pb_cl, pb_b, pb_le_t, pb_le_f, pb_lt_t, pb_lt_f, pb_eq_t, pb_eq_f, x2]
        exact ⟨_, _, _, rfl, rfl, hh⟩
      · simp (disch := omega) only [e0, e9, i0, i9, pb_bi, pb_l0, pb_l1, pb_l2, pb_l3, pb_l4, pb_l5, pb_l6, pb_l7, pb_l8, pb_l9, pb_l10, pb_l12, pb_l14, pb_l20, pb_l32, pb_l36, pb_l48, pb_l56, pb_l57, pb_l59, pb_l60, pb_l72, pb_l99, pb_l100, pb_l111, pb_l116, pb_l200, pb_l255, pb_l504, pb_l560, pb_l1000, pb_l9999, pb_l10000, pb_l100000, pb_l1000000, nI_add, pk_mul, pb_cl, pb_b, pb_le_t, pb_le_f, pb_lt_t, pb_lt_f, pb_eq_t, pb_eq_f, x3]
        exact ⟨_, _, _, rfl, rfl, hh⟩
      · simp (disch := omega) only [e0, e9, i0, i9, pb_bi, pb_l0, pb_l1, pb_l2, pb_l3, pb_l4, pb_l5, pb_l6, pb_l7, pb_l8, pb_l9, pb_l10, pb_l12, pb_l14, pb_l20, pb_l32, pb_l36, pb_l48, pb_l56, pb_l57, pb_l59, pb_l60, pb_l72, pb_l99, pb_l100, pb_l111, pb_l116, pb_l200, pb_l255, pb_l504, pb_l560, pb_l1000, pb_l9999, pb_l10000, pb_l100000, pb_l1000000, nI_add, pk_mul, pb_cl, pb_b, pb_le_t, pb_le_f, pb_lt_t, pb_lt_f, pb_eq_t, pb_eq_f]
        rw [show C.1 42 t = R1.1 11 (14 + t) from s1.oath (by omega)]
        exact ⟨_, _, _, rfl, rfl, hh⟩
    · simp (disch := omega) only [e0, e9, i0, i9, pb_bi, pb_l0, pb_l1, pb_l2, pb_l3, pb_l4, pb_l5, pb_l6, pb_l7, pb_l8, pb_l9, pb_l10, pb_l12, pb_l14, pb_l20, pb_l32, pb_l36, pb_l48, pb_l56, pb_l57, pb_l59, pb_l60, pb_l72, pb_l99, pb_l100, pb_l111, pb_l116, pb_l200, pb_l255, pb_l504, pb_l560, pb_l1000, pb_l9999, pb_l10000, pb_l100000, pb_l1000000, nI_add, pk_mul, pb_cl, pb_b, pb_le_t, pb_le_f, pb_lt_t, pb_lt_f, pb_eq_t, pb_eq_f]
      exact ⟨_, _, _, rfl, rfl, hh⟩
  · simp (disch := omega) only [e0, e9, pb_bi, pb_l0, pb_l1, pb_l2, pb_l3, pb_l4, pb_l5, pb_l6, pb_l7, pb_l8, pb_l9, pb_l10, pb_l12, pb_l14, pb_l20, pb_l32, pb_l36, pb_l48, pb_l56, pb_l57, pb_l59, pb_l60, pb_l72, pb_l99, pb_l100, pb_l111, pb_l116, pb_l200, pb_l255, pb_l504, pb_l560, pb_l1000, pb_l9999, pb_l10000, pb_l100000, pb_l1000000, nI_add, pk_mul, pb_cl, pb_b, pb_le_t, pb_le_f, pb_lt_t, pb_lt_f, pb_eq_t, pb_eq_f]
    exact ⟨_, _, _, rfl, rfl, hh⟩
theorem pb_strokes {n bk : Nat} {C R : fm_M} (h : pb_R bk C R) (l l2 : Int32) : pb_ok bk (fX0_strokes n bk C l l2) (fX9_strokes n R l l2) := by
  have h' := h.thrown
  unfold fX9_strokes fX0_strokes
  simp only [fm_let, pb_l0, pb_l1, pb_l2, pb_l3]
  rw [pb_l0] at h'
  generalize fm_wr R 0 0 (nI 0) = R1 at h' ⊢
  clear h
  have hh := h'
  obtain ⟨m, o, d, f, y, p, ⟨⟨a1, a2, a3⟩, ⟨b1, b2, b3, b4⟩, c1, d1, e1, f1, g1⟩, s1, s2⟩ := h'
  rcases pb_isTown (n := n) (bk := bk) b1 b2 a1 l with ⟨t, ht, rfl, e0, e9⟩ | ⟨e0, e9⟩
  · rcases pb_isTown (n := n) (bk := bk) b1 b2 a1 l2 with ⟨u, hu, rfl, k0, k9⟩ | ⟨k0, k9⟩
    · simp (disch := omega) only [e0, e9, k0, k9, pb_bi, pb_l0, pb_l1, pb_l2, pb_l3, pb_l4, pb_l5, pb_l6, pb_l7, pb_l8, pb_l9, pb_l10, pb_l12, pb_l14, pb_l20, pb_l32, pb_l36, pb_l48, pb_l56, pb_l57, pb_l59, pb_l60, pb_l72, pb_l99, pb_l100, pb_l111, pb_l116, pb_l200, pb_l255, pb_l504, pb_l560, pb_l1000, pb_l9999, pb_l10000, pb_l100000, pb_l1000000, nI_add, pk_mul, pb_cl, pb_b, pb_le_t, pb_le_f, pb_lt_t, pb_lt_f, pb_eq_t, pb_eq_f]
      rw [show C.1 (39 + 5 + t) u = R1.1 11 (20 + 6 * t + u) from s1.stroke (by omega) (by omega)]
      exact ⟨_, _, _, rfl, rfl, hh⟩
    · simp (disch := omega) only [e0, e9, k0, k9, pb_bi, pb_l0, pb_l1, pb_l2, pb_l3, pb_l4, pb_l5, pb_l6, pb_l7, pb_l8, pb_l9, pb_l10, pb_l12, pb_l14, pb_l20, pb_l32, pb_l36, pb_l48, pb_l56, pb_l57, pb_l59, pb_l60, pb_l72, pb_l99, pb_l100, pb_l111, pb_l116, pb_l200, pb_l255, pb_l504, pb_l560, pb_l1000, pb_l9999, pb_l10000, pb_l100000, pb_l1000000, nI_add, pk_mul, pb_cl, pb_b, pb_le_t, pb_le_f, pb_lt_t, pb_lt_f, pb_eq_t, pb_eq_f]
      exact ⟨_, _, _, rfl, rfl, hh⟩
  · simp (disch := omega) only [e0, e9, pb_bi, pb_l0, pb_l1, pb_l2, pb_l3, pb_l4, pb_l5, pb_l6, pb_l7, pb_l8, pb_l9, pb_l10, pb_l12, pb_l14, pb_l20, pb_l32, pb_l36, pb_l48, pb_l56, pb_l57, pb_l59, pb_l60, pb_l72, pb_l99, pb_l100, pb_l111, pb_l116, pb_l200, pb_l255, pb_l504, pb_l560, pb_l1000, pb_l9999, pb_l10000, pb_l100000, pb_l1000000, nI_add, pk_mul, pb_cl, pb_b, pb_le_t, pb_le_f, pb_lt_t, pb_lt_f, pb_eq_t, pb_eq_f]
    exact ⟨_, _, _, rfl, rfl, hh⟩
theorem pb_now_loop {n m v : Nat} {R : fm_M} {b : Nat → Nat} (hn : 10 ≤ n) (hm : m ≤ 6) (r0 : R.1 2 0 = nI m) (hb : ∀ t, t < m → b t < m) (hr : ∀ t, t < m → R.1 11 (2 + t) = nI (b t)) : ∀ (k t : Nat) (x z : Int32), t ≤ m → m < t + k → fX9_now_23 n k R (nI v) x z (nI t) = fX9_now_23 n 1 R (nI v) (pb_msk (fun t => decide (R.1 11 (2 + t) = nI t)) (m - t) t x) (pb_msk (pb_dm R m) (m - t) t z) (nI m) := by
  intro k
  induction k with
  | zero => intro t x z h1 h2; omega
  | succ k ih =>
    intro t x z h1 h2
    by_cases ht : t = m
    · subst ht
      rw [Nat.sub_self, pb_msk, pb_msk, fX9_now_23, fX9_now_23]
      simp (disch := omega) only [r0, pb_l0, pb_l1, pb_l2, pb_l3, pb_l4, pb_l5, pb_l6, pb_l7, pb_l8, pb_l9, pb_l10, pb_l12, pb_l14, pb_l20, pb_l32, pb_l36, pb_l48, pb_l56, pb_l57, pb_l59, pb_l60, pb_l72, pb_l99, pb_l100, pb_l111, pb_l116, pb_l200, pb_l255, pb_l504, pb_l560, pb_l1000, pb_l9999, pb_l10000, pb_l100000, pb_l1000000, nI_add, pk_mul, pb_cl, pb_b, pb_le_t, pb_le_f, pb_lt_t, pb_lt_f, pb_eq_t, pb_eq_f]
    · obtain ⟨j, hj⟩ : ∃ j, m - t = j + 1 := ⟨m - t - 1, by omega⟩
      have hj' : m - (t + 1) = j := by omega
      rw [fX9_now_23, hj, pb_msk, pb_msk]
      simp (disch := omega) only [r0, pb_l0, pb_l1, pb_l2, pb_l3, pb_l4, pb_l5, pb_l6, pb_l7, pb_l8, pb_l9, pb_l10, pb_l12, pb_l14, pb_l20, pb_l32, pb_l36, pb_l48, pb_l56, pb_l57, pb_l59, pb_l60, pb_l72, pb_l99, pb_l100, pb_l111, pb_l116, pb_l200, pb_l255, pb_l504, pb_l560, pb_l1000, pb_l9999, pb_l10000, pb_l100000, pb_l1000000, nI_add, pk_mul, pb_cl, pb_b, pb_le_t, pb_le_f, pb_lt_t, pb_lt_f, pb_eq_t, pb_eq_f]
      have w9 := pb_isDumb (n := n) hm (by omega : t < m) r0 hb hr hn
      have ih' := fun x z => ih (t + 1) x z (by omega) (by omega)
      rw [hj'] at ih'
      by_cases c1 : R.1 11 (2 + t) = nI t
      · simp only [pb_ifp c1, c1, decide_true, if_true, fX9_now_57, w9, pb_bi]
        by_cases c2 : pb_dm R m t = true
        · simp (disch := omega) only [pb_ifp c2, fm_let, pb_l0, pb_l1, pb_l2, pb_l3, pb_l4, pb_l5, pb_l6, pb_l7, pb_l8, pb_l9, pb_l10, pb_l12, pb_l14, pb_l20, pb_l32, pb_l36, pb_l48, pb_l56, pb_l57, pb_l59, pb_l60, pb_l72, pb_l99, pb_l100, pb_l111, pb_l116, pb_l200, pb_l255, pb_l504, pb_l560, pb_l1000, pb_l9999, pb_l10000, pb_l100000, pb_l1000000, nI_add, pk_mul, pb_cl, pb_b, pb_le_t, pb_le_f, pb_lt_t, pb_lt_f, pb_eq_t, pb_eq_f]
          exact ih' _ _
        · simp (disch := omega) only [pb_ifn c2, pb_or0, pb_l0, pb_l1, pb_l2, pb_l3, pb_l4, pb_l5, pb_l6, pb_l7, pb_l8, pb_l9, pb_l10, pb_l12, pb_l14, pb_l20, pb_l32, pb_l36, pb_l48, pb_l56, pb_l57, pb_l59, pb_l60, pb_l72, pb_l99, pb_l100, pb_l111, pb_l116, pb_l200, pb_l255, pb_l504, pb_l560, pb_l1000, pb_l9999, pb_l10000, pb_l100000, pb_l1000000, nI_add, pk_mul, pb_cl, pb_b, pb_le_t, pb_le_f, pb_lt_t, pb_lt_f, pb_eq_t, pb_eq_f]
          exact ih' _ _
      · simp only [pb_ifn c1, c1, decide_false, Bool.false_eq_true, if_false, fX9_now_57, w9, pb_bi]
        by_cases c2 : pb_dm R m t = true
        · simp (disch := omega) only [pb_ifp c2, fm_let, pb_or0, pb_l0, pb_l1, pb_l2, pb_l3, pb_l4, pb_l5, pb_l6, pb_l7, pb_l8, pb_l9, pb_l10, pb_l12, pb_l14, pb_l20, pb_l32, pb_l36, pb_l48, pb_l56, pb_l57, pb_l59, pb_l60, pb_l72, pb_l99, pb_l100, pb_l111, pb_l116, pb_l200, pb_l255, pb_l504, pb_l560, pb_l1000, pb_l9999, pb_l10000, pb_l100000, pb_l1000000, nI_add, pk_mul, pb_cl, pb_b, pb_le_t, pb_le_f, pb_lt_t, pb_lt_f, pb_eq_t, pb_eq_f]
          exact ih' _ _
        · simp (disch := omega) only [pb_ifn c2, pb_or0, pb_l0, pb_l1, pb_l2, pb_l3, pb_l4, pb_l5, pb_l6, pb_l7, pb_l8, pb_l9, pb_l10, pb_l12, pb_l14, pb_l20, pb_l32, pb_l36, pb_l48, pb_l56, pb_l57, pb_l59, pb_l60, pb_l72, pb_l99, pb_l100, pb_l111, pb_l116, pb_l200, pb_l255, pb_l504, pb_l560, pb_l1000, pb_l9999, pb_l10000, pb_l100000, pb_l1000000, nI_add, pk_mul, pb_cl, pb_b, pb_le_t, pb_le_f, pb_lt_t, pb_lt_f, pb_eq_t, pb_eq_f]
          exact ih' _ _
theorem pb_nowop {n bk : Nat} {C R : fm_M} (h : pb_R bk C R) (hn : 10 ≤ n) (l : Int32) : pb_ok bk (fX0_now n bk C l) (fX9_now n R l) := by
  have h' := h.thrown
  unfold fX9_now fX0_now
  simp only [fm_let, pb_l0, pb_l1, pb_l2, pb_l3, pb_l4]
  rw [pb_l0] at h'
  generalize fm_wr R 0 0 (nI 0) = R1 at h' ⊢
  clear h
  have hh := h'
  obtain ⟨m, o, d, f, y, p, ⟨⟨a1, a2, a3⟩, ⟨b1, b2, b3, b4⟩, c1, d1, e1, f1, g1⟩, s1, s2, s3⟩ := h'
  have hs1 := s1
  obtain ⟨q1, b, hb, hr⟩ := s1
  have hc : ∀ t, t < m → C.1 40 t = nI (b t) := fun t ht => by rw [← hr t ht, ← q1 (2 + t) (by omega) (by omega), pb_pl_bell (by omega)]
  have hc' : ∀ t, t < m → C.1 40 t = R1.1 11 (2 + t) := fun t ht => by rw [hc t ht, hr t ht]
  rcases pb_in n bk C R1 0 4 (by omega) (by omega) l with ⟨v, _, hv, rfl, _, i9⟩ | ⟨hv, _, i9⟩
  · have w := pb_now_loop (n := n) (v := v) hn a1 b2 hb.1 hr n 0 (nI 0) (nI 0) (by omega) (by omega)
    rw [Nat.sub_zero, fX9_now_23.eq_2] at w
    simp (disch := omega) only [i9, pb_bi, pb_l0, pb_l1, pb_l2, pb_l3, pb_l4, pb_l5, pb_l6, pb_l7, pb_l8, pb_l9, pb_l10, pb_l12, pb_l14, pb_l20, pb_l32, pb_l36, pb_l48, pb_l56, pb_l57, pb_l59, pb_l60, pb_l72, pb_l99, pb_l100, pb_l111, pb_l116, pb_l200, pb_l255, pb_l504, pb_l560, pb_l1000, pb_l9999, pb_l10000, pb_l100000, pb_l1000000, nI_add, pk_mul, pb_cl, pb_b, pb_le_t, pb_le_f, pb_lt_t, pb_lt_f, pb_eq_t, pb_eq_f, w, b2]
    have : v = 0 ∨ v = 1 ∨ v = 2 ∨ v = 3 ∨ v = 4 := by omega
    rcases this with rfl | rfl | rfl | rfl | rfl
    · simp (disch := omega) only [pb_l0, pb_l1, pb_l2, pb_l3, pb_l4, pb_l5, pb_l6, pb_l7, pb_l8, pb_l9, pb_l10, pb_l12, pb_l14, pb_l20, pb_l32, pb_l36, pb_l48, pb_l56, pb_l57, pb_l59, pb_l60, pb_l72, pb_l99, pb_l100, pb_l111, pb_l116, pb_l200, pb_l255, pb_l504, pb_l560, pb_l1000, pb_l9999, pb_l10000, pb_l100000, pb_l1000000, nI_add, pk_mul, pb_cl, pb_b, pb_le_t, pb_le_f, pb_lt_t, pb_lt_f, pb_eq_t, pb_eq_f]
      rw [show C.1 39 0 = R1.1 11 0 from hs1.term]
      exact ⟨_, _, _, rfl, rfl, hh⟩
    · simp (disch := omega) only [pb_l0, pb_l1, pb_l2, pb_l3, pb_l4, pb_l5, pb_l6, pb_l7, pb_l8, pb_l9, pb_l10, pb_l12, pb_l14, pb_l20, pb_l32, pb_l36, pb_l48, pb_l56, pb_l57, pb_l59, pb_l60, pb_l72, pb_l99, pb_l100, pb_l111, pb_l116, pb_l200, pb_l255, pb_l504, pb_l560, pb_l1000, pb_l9999, pb_l10000, pb_l100000, pb_l1000000, nI_add, pk_mul, pb_cl, pb_b, pb_le_t, pb_le_f, pb_lt_t, pb_lt_f, pb_eq_t, pb_eq_f]
      rw [show C.1 39 1 = R1.1 11 1 from hs1.cuts]
      exact ⟨_, _, _, rfl, rfl, hh⟩
    · have w0 : fX2_homes n bk 39 C = _ := pb_homes_loop (n := n) (bk := bk) (C := C) (R := R1) a1 b1 hc' n 0 (nI 0) (by omega) (by omega)
      simp (disch := omega) only [pb_l0, pb_l1, pb_l2, pb_l3, pb_l4, pb_l5, pb_l6, pb_l7, pb_l8, pb_l9, pb_l10, pb_l12, pb_l14, pb_l20, pb_l32, pb_l36, pb_l48, pb_l56, pb_l57, pb_l59, pb_l60, pb_l72, pb_l99, pb_l100, pb_l111, pb_l116, pb_l200, pb_l255, pb_l504, pb_l560, pb_l1000, pb_l9999, pb_l10000, pb_l100000, pb_l1000000, nI_add, pk_mul, pb_cl, pb_b, pb_le_t, pb_le_f, pb_lt_t, pb_lt_f, pb_eq_t, pb_eq_f, w0, pb_bi]
      exact ⟨_, _, _, rfl, rfl, hh⟩
    · have w0 : fX2_dumb n bk 39 C = _ := pb_dumb_loop (n := n) (bk := bk) (C := C) hn a1 b1 hb.1 hr hc (fun a b h1 h2 => (d1 a b h1 h2).1) (fun t ht => (c1 t ht).2.1) n 0 (nI 0) (by omega) (by omega)
      simp (disch := omega) only [pb_l0, pb_l1, pb_l2, pb_l3, pb_l4, pb_l5, pb_l6, pb_l7, pb_l8, pb_l9, pb_l10, pb_l12, pb_l14, pb_l20, pb_l32, pb_l36, pb_l48, pb_l56, pb_l57, pb_l59, pb_l60, pb_l72, pb_l99, pb_l100, pb_l111, pb_l116, pb_l200, pb_l255, pb_l504, pb_l560, pb_l1000, pb_l9999, pb_l10000, pb_l100000, pb_l1000000, nI_add, pk_mul, pb_cl, pb_b, pb_le_t, pb_le_f, pb_lt_t, pb_lt_f, pb_eq_t, pb_eq_f, w0, pb_bi]
      exact ⟨_, _, _, rfl, rfl, hh⟩
    · simp (disch := omega) only [pb_l0, pb_l1, pb_l2, pb_l3, pb_l4, pb_l5, pb_l6, pb_l7, pb_l8, pb_l9, pb_l10, pb_l12, pb_l14, pb_l20, pb_l32, pb_l36, pb_l48, pb_l56, pb_l57, pb_l59, pb_l60, pb_l72, pb_l99, pb_l100, pb_l111, pb_l116, pb_l200, pb_l255, pb_l504, pb_l560, pb_l1000, pb_l9999, pb_l10000, pb_l100000, pb_l1000000, nI_add, pk_mul, pb_cl, pb_b, pb_le_t, pb_le_f, pb_lt_t, pb_lt_f, pb_eq_t, pb_eq_f]
      rw [s2.2.1, s2.2.2.1]
      exact ⟨_, _, _, rfl, rfl, hh⟩
  · have z0 := hv 0 (by omega) (by omega)
    have z1 := hv 1 (by omega) (by omega)
    have z2 := hv 2 (by omega) (by omega)
    have z3 := hv 3 (by omega) (by omega)
    have z4 := hv 4 (by omega) (by omega)
    simp (disch := omega) only [i9, pb_bi, pb_l0, pb_l1, pb_l2, pb_l3, pb_l4, pb_l5, pb_l6, pb_l7, pb_l8, pb_l9, pb_l10, pb_l12, pb_l14, pb_l20, pb_l32, pb_l36, pb_l48, pb_l56, pb_l57, pb_l59, pb_l60, pb_l72, pb_l99, pb_l100, pb_l111, pb_l116, pb_l200, pb_l255, pb_l504, pb_l560, pb_l1000, pb_l9999, pb_l10000, pb_l100000, pb_l1000000, nI_add, pk_mul, pb_cl, pb_b, pb_le_t, pb_le_f, pb_lt_t, pb_lt_f, pb_eq_t, pb_eq_f]
    rw [pb_ifn z0, pb_ifn z1, pb_ifn z2, pb_ifn z3, pb_ifn z4]
    exact ⟨_, _, _, rfl, rfl, hh⟩
