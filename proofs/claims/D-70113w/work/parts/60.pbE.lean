/-! the lots to come, a lot's cost -/
set_option maxRecDepth 100000
theorem pb_asNow_loop {n : Nat} : ∀ (k t : Nat) (R : fm_M), t ≤ 56 → 56 < t + k → ∃ R', fX9_asNow_2 n k R (nI t) = some R' ∧ (∀ c, c ≠ 12 → R'.1 c = R.1 c) ∧ (∀ j, R'.1 12 j = if t ≤ j ∧ j < 56 then R.1 11 j else R.1 12 j) ∧ R'.2 = R.2 := by
  intro k
  induction k with
  | zero => intro t R h1 h2; omega
  | succ k ih =>
    intro t R h1 h2
    rw [fX9_asNow_2]
    by_cases ht : t = 56
    · simp (disch := omega) only [pb_l0, pb_l1, pb_l2, pb_l3, pb_l4, pb_l5, pb_l6, pb_l7, pb_l8, pb_l9, pb_l10, pb_l12, pb_l14, pb_l20, pb_l32, pb_l36, pb_l48, pb_l56, pb_l57, pb_l59, pb_l60, pb_l72, pb_l99, pb_l100, pb_l111, pb_l116, pb_l200, pb_l255, pb_l504, pb_l560, pb_l1000, pb_l9999, pb_l10000, pb_l100000, pb_l1000000, nI_add, pk_mul, pb_cl, pb_b, pb_le_t, pb_le_f, pb_lt_t, pb_lt_f, pb_eq_t, pb_eq_f]
      exact ⟨_, rfl, fun c c1 => rfl, fun j => by rw [if_neg (by omega)], rfl⟩
    · simp (disch := omega) only [pb_l0, pb_l1, pb_l2, pb_l3, pb_l4, pb_l5, pb_l6, pb_l7, pb_l8, pb_l9, pb_l10, pb_l12, pb_l14, pb_l20, pb_l32, pb_l36, pb_l48, pb_l56, pb_l57, pb_l59, pb_l60, pb_l72, pb_l99, pb_l100, pb_l111, pb_l116, pb_l200, pb_l255, pb_l504, pb_l560, pb_l1000, pb_l9999, pb_l10000, pb_l100000, pb_l1000000, nI_add, pk_mul, pb_cl, pb_b, pb_le_t, pb_le_f, pb_lt_t, pb_lt_f, pb_eq_t, pb_eq_f, fm_let]
      obtain ⟨R', e1, e2, e3, e4⟩ := ih (t + 1) (fm_wr R 12 t (R.1 11 t)) (by omega) (by omega)
      refine ⟨R', e1, fun c c1 => ?_, fun j => ?_, e4⟩
      · rw [e2 c c1, pb_wr_n c1]
      · rw [e3 j]
        by_cases j1 : j = t
        · subst j1
          rw [if_neg (by omega), if_pos (by omega), pb_wr_e, pb_up_e]
        · by_cases j2 : t + 1 ≤ j ∧ j < 56
          · rw [if_pos j2, if_pos (by omega), pb_wr_n (by omega)]
          · rw [if_neg j2, if_neg (by omega), pb_wr_e, pb_up_n j1]
theorem pb_fC.of {bk : Nat} {C C' : fm_M} (hbk : bk = 18 ∨ 193 ≤ bk) (h : ∀ c, c ≠ 1 → c ≠ 2 → c ≠ 7 → c ≠ 8 → (c < 50 ∨ 61 ≤ c) → C'.1 c = C.1 c) (h2 : C'.2 = C.2) : pb_fC bk C C' := by
  have h0 := h 0 (by omega) (by omega) (by omega) (by omega) (by omega)
  exact ⟨fun c hc => h c (by omega) (by omega) (by omega) (by omega) (by omega), ⟨by rw [h0], by rw [h0], by rw [h0]⟩, h2⟩
theorem pb_fR.of {R R' : fm_M} (h : ∀ c, c ≠ 12 → c ≠ 18 → c ≠ 19 → R'.1 c = R.1 c) (h2 : R'.2 = R.2) : pb_fR R R' := by
  have h0 := h 0 (by omega) (by omega) (by omega)
  have h02 := h 2 (by omega) (by omega) (by omega)
  exact ⟨fun c hc => h c (by omega) (by omega) (by omega), fun c k hc _ => by rw [h c (by omega) (by omega) (by omega)], fun k _ => by rw [h 6 (by omega) (by omega) (by omega)], ⟨by rw [h02], by rw [h02]⟩, ⟨by rw [h0], by rw [h0], by rw [h0]⟩, h2⟩
theorem pb_inLots_loop {n bk m o z K : Nat} {l3 : Int32} (hn : 30 ≤ n) (hz : z ≤ 9999) (hK : K ≤ 20) (h3 : l3 = -1 ∨ ((∃ t, t < m ∧ l3 = nI t) ∧ l3 ≠ -1)) : ∀ (k i : Nat) (C R : fm_M) (sum : Int32), pb_B m o bk C R → pb_PR m C 50 (R.1 12) → C.1 50 1 = C.1 39 1 + sum → i ≤ K → K < i + k → ∃ r C' R', fX0_inLots_46 n bk k C (nI z) (nI K) l3 (nI i) = some (r, C') ∧ fX9_inLots_51 n k R (nI z) (nI K) l3 sum (nI i) = some (r, R') ∧ pb_fC bk C C' ∧ pb_fR R R' := by
  intro k
  induction k with
  | zero => intro i C R sum h0 h1 h2 h3; omega
  | succ k ih =>
    intro i C R sum hB hP hs h1 h2
    have hm := hB.1.1
    have hbk := hB.1.2.2
    rw [fX0_inLots_46, fX9_inLots_51]
    by_cases hi : i = K
    · rcases h3 with e3 | ⟨⟨t, ht, e3⟩, e4⟩
      · simp (disch := omega) only [pb_l0, pb_l1, pb_l2, pb_l3, pb_l4, pb_l5, pb_l6, pb_l7, pb_l8, pb_l9, pb_l10, pb_l12, pb_l14, pb_l20, pb_l32, pb_l36, pb_l48, pb_l56, pb_l57, pb_l59, pb_l60, pb_l72, pb_l99, pb_l100, pb_l111, pb_l116, pb_l200, pb_l255, pb_l504, pb_l560, pb_l1000, pb_l9999, pb_l10000, pb_l100000, pb_l1000000, nI_add, pk_mul, pb_cl, pb_b, pb_le_t, pb_le_f, pb_lt_t, pb_lt_f, pb_eq_t, pb_eq_f]
        rw [pb_l1] at e3
        simp only [pb_ifp e3]
        have e : C.1 50 1 - C.1 39 1 = sum := by rw [hs, Int32.add_comm, Int32.add_sub_cancel]
        rw [e]
        exact ⟨_, _, _, rfl, rfl, pb_fC.refl, pb_fR.refl⟩
      · rw [pb_l1, e3] at e4
        simp (disch := omega) only [pb_l0, pb_l1, pb_l2, pb_l3, pb_l4, pb_l5, pb_l6, pb_l7, pb_l8, pb_l9, pb_l10, pb_l12, pb_l14, pb_l20, pb_l32, pb_l36, pb_l48, pb_l56, pb_l57, pb_l59, pb_l60, pb_l72, pb_l99, pb_l100, pb_l111, pb_l116, pb_l200, pb_l255, pb_l504, pb_l560, pb_l1000, pb_l9999, pb_l10000, pb_l100000, pb_l1000000, nI_add, pk_mul, pb_cl, pb_b, pb_le_t, pb_le_f, pb_lt_t, pb_lt_f, pb_eq_t, pb_eq_f, pb_ifn e4, e3]
        rw [show C.1 51 t = R.1 12 (2 + t) from hP.bell (by omega)]
        exact ⟨_, _, _, rfl, rfl, pb_fC.refl, pb_fR.refl⟩
    · have ez : nI (z + i) - nI (z + i) / nI 10000 * nI 10000 = nI ((z + i) % 10000) := pk_rem (by omega) (by omega) (by omega)
      have hzz : (z + i) % 10000 ≤ 9999 := by omega
      obtain ⟨x, C1, R1, e1, e2, e3, e4, e5, e6, e7, e8⟩ := pb_draw (n := n) (by omega) (Or.inr ⟨rfl, rfl⟩) hB hP hzz
      simp (disch := omega) only [pb_l0, pb_l1, pb_l2, pb_l3, pb_l4, pb_l5, pb_l6, pb_l7, pb_l8, pb_l9, pb_l10, pb_l12, pb_l14, pb_l20, pb_l32, pb_l36, pb_l48, pb_l56, pb_l57, pb_l59, pb_l60, pb_l72, pb_l99, pb_l100, pb_l111, pb_l116, pb_l200, pb_l255, pb_l504, pb_l560, pb_l1000, pb_l9999, pb_l10000, pb_l100000, pb_l1000000, nI_add, pk_mul, pb_cl, pb_b, pb_le_t, pb_le_f, pb_lt_t, pb_lt_f, pb_eq_t, pb_eq_f, fm_let, ez, e1, e2, pb_bi]
      obtain ⟨r, C', R', g1, g2, g3, g4⟩ := ih (i + 1) C1 R1 (sum + x) (hB.keep (fun c c1 c2 => e5 c (by omega) (by omega) (by omega)) (fun c hc => e7 c (by omega) (by omega) (by omega))) e3 (by rw [e4, hs, e5 39 (by omega) (by omega) (by omega), Int32.add_assoc]) (by omega) (by omega)
      exact ⟨r, C', R', g1, g2, (pb_fC.of hbk (fun c c1 c2 c3 c4 c5 => e5 c c1 c2 (by omega)) e6).trans g3, (pb_fR.of (fun c c1 c2 c3 => e7 c c1 c2 c3) e8).trans g4⟩
theorem pb_inLotsop {n bk : Nat} {C R : fm_M} (h : pb_R bk C R) (hn : 100 ≤ n) (l l2 l3 : Int32) : pb_ok bk (fX0_inLots n bk C l l2 l3) (fX9_inLots n R l l2 l3) := by
  have h' := h.thrown
  unfold fX9_inLots fX0_inLots
  simp only [fm_let, pb_l0, pb_l9999, pb_l20]
  rw [pb_l0] at h'
  generalize fm_wr R 0 0 (nI 0) = R1 at h' ⊢
  clear h
  have hh := h'
  obtain ⟨m, o, d, f, y, p, hB, hS⟩ := h'
  have hbk := hB.1.2.2
  have hm := hB.1.1
  rcases pb_isSeed n bk C R1 l with ⟨z, hz, rfl, i0, i9⟩ | ⟨i0, i9⟩
  · rcases pb_in n bk C R1 0 20 (by omega) (by omega) l2 with ⟨K, _, hK, rfl, j0, j9⟩ | ⟨_, j0, j9⟩
    · have go : (l3 = -1 ∨ ((∃ t, t < m ∧ l3 = nI t) ∧ l3 ≠ -1)) → pb_ok bk (fX0_inLots_32 n bk C (nI z) (nI K) l3) (fX9_inLots_41 n R1 (nI z) (nI K) l3) := by
        intro h3
        obtain ⟨C1, e1, e2, e3, e4⟩ := pb_copyOf (n := n) (bk := bk) (a := 50) (b := 39) (C := C) (by omega) (by omega)
        obtain ⟨R2, r1, r2, r3, r4⟩ := pb_asNow_loop (n := n) n 0 R1 (by omega) (by omega)
        have P : pb_PR m C1 50 (R2.1 12) := pb_PR.copy hS.1 e3 (fun k hk => by rw [r3, if_pos (by omega)]) hm
        have fc : pb_fC bk C C1 := pb_fC.of hbk (fun c c1 c2 c3 c4 c5 => e2 c (by omega)) e4
        have fr : pb_fR R1 R2 := pb_fR.of (fun c c1 c2 c3 => r2 c c1) r4
        have ec : C1.1 50 1 = C1.1 39 1 + nI 0 := by
          have := e3 1 (by omega)
          rw [pb_pl_cuts, pb_pl_cuts] at this
          rw [this, e2 39 (by omega)]
          exact (Int32.add_zero _).symm
        obtain ⟨r, C', R', g1, g2, g3, g4⟩ := pb_inLots_loop (n := n) (bk := bk) (m := m) (o := o) (l3 := l3) (by omega) hz hK h3 n 0 C1 R2 (nI 0) (hB.keep (fun c c1 c2 => e2 c (by omega)) (fun c hc => r2 c (by omega))) P ec (by omega) (by omega)
        refine ⟨r, C', R', ?_, ?_, hh.frame (fc.trans g3) (fr.trans g4)⟩
        · unfold fX0_inLots_32
          rw [e1]
          exact g1
        · unfold fX9_inLots_41 fX9_asNow
          rw [show (0 : Int32) = nI 0 from rfl, r1]
          exact g2
      by_cases e3 : l3 = -1
      · rw [pb_l1] at e3
        simp (disch := omega) only [i0, i9, j0, j9, pb_bi, pb_l0, pb_l1, pb_l2, pb_l3, pb_l4, pb_l5, pb_l6, pb_l7, pb_l8, pb_l9, pb_l10, pb_l12, pb_l14, pb_l20, pb_l32, pb_l36, pb_l48, pb_l56, pb_l57, pb_l59, pb_l60, pb_l72, pb_l99, pb_l100, pb_l111, pb_l116, pb_l200, pb_l255, pb_l504, pb_l560, pb_l1000, pb_l9999, pb_l10000, pb_l100000, pb_l1000000, nI_add, pk_mul, pb_cl, pb_b, pb_le_t, pb_le_f, pb_lt_t, pb_lt_f, pb_eq_t, pb_eq_f, pb_ifp e3]
        exact go (Or.inl e3)
      · rcases pb_isTown (n := n) (bk := bk) hB.2.1.1 hB.2.1.2.1 hm l3 with ⟨t, ht, et, k0, k9⟩ | ⟨k0, k9⟩
        · have := go (Or.inr ⟨⟨t, ht, et⟩, e3⟩)
          rw [pb_l1] at e3
          simp (disch := omega) only [i0, i9, j0, j9, pb_bi, pb_l0, pb_l1, pb_l2, pb_l3, pb_l4, pb_l5, pb_l6, pb_l7, pb_l8, pb_l9, pb_l10, pb_l12, pb_l14, pb_l20, pb_l32, pb_l36, pb_l48, pb_l56, pb_l57, pb_l59, pb_l60, pb_l72, pb_l99, pb_l100, pb_l111, pb_l116, pb_l200, pb_l255, pb_l504, pb_l560, pb_l1000, pb_l9999, pb_l10000, pb_l100000, pb_l1000000, nI_add, pk_mul, pb_cl, pb_b, pb_le_t, pb_le_f, pb_lt_t, pb_lt_f, pb_eq_t, pb_eq_f, pb_ifn e3, k0, k9]
          exact this
        · rw [pb_l1] at e3
          simp (disch := omega) only [i0, i9, j0, j9, pb_bi, pb_l0, pb_l1, pb_l2, pb_l3, pb_l4, pb_l5, pb_l6, pb_l7, pb_l8, pb_l9, pb_l10, pb_l12, pb_l14, pb_l20, pb_l32, pb_l36, pb_l48, pb_l56, pb_l57, pb_l59, pb_l60, pb_l72, pb_l99, pb_l100, pb_l111, pb_l116, pb_l200, pb_l255, pb_l504, pb_l560, pb_l1000, pb_l9999, pb_l10000, pb_l100000, pb_l1000000, nI_add, pk_mul, pb_cl, pb_b, pb_le_t, pb_le_f, pb_lt_t, pb_lt_f, pb_eq_t, pb_eq_f, pb_ifn e3, k0, k9]
          exact ⟨_, _, _, rfl, rfl, hh⟩
    · simp (disch := omega) only [i0, i9, j0, j9, pb_bi, pb_l0, pb_l1, pb_l2, pb_l3, pb_l4, pb_l5, pb_l6, pb_l7, pb_l8, pb_l9, pb_l10, pb_l12, pb_l14, pb_l20, pb_l32, pb_l36, pb_l48, pb_l56, pb_l57, pb_l59, pb_l60, pb_l72, pb_l99, pb_l100, pb_l111, pb_l116, pb_l200, pb_l255, pb_l504, pb_l560, pb_l1000, pb_l9999, pb_l10000, pb_l100000, pb_l1000000, nI_add, pk_mul, pb_cl, pb_b, pb_le_t, pb_le_f, pb_lt_t, pb_lt_f, pb_eq_t, pb_eq_f]
      exact ⟨_, _, _, rfl, rfl, hh⟩
  · simp (disch := omega) only [i0, i9, pb_bi, pb_l0, pb_l1, pb_l2, pb_l3, pb_l4, pb_l5, pb_l6, pb_l7, pb_l8, pb_l9, pb_l10, pb_l12, pb_l14, pb_l20, pb_l32, pb_l36, pb_l48, pb_l56, pb_l57, pb_l59, pb_l60, pb_l72, pb_l99, pb_l100, pb_l111, pb_l116, pb_l200, pb_l255, pb_l504, pb_l560, pb_l1000, pb_l9999, pb_l10000, pb_l100000, pb_l1000000, nI_add, pk_mul, pb_cl, pb_b, pb_le_t, pb_le_f, pb_lt_t, pb_lt_f, pb_eq_t, pb_eq_f]
    exact ⟨_, _, _, rfl, rfl, hh⟩
theorem pb_nm9 {s : Nat} (h : s < 2147483648) : ¬ nI s = -nI 9 := by
  intro e
  have := congrArg Int32.toInt e
  rw [nI_toInt h, show (-nI 9 : Int32).toInt = -9 from rfl] at this
  omega
theorem pb_nm1 {s : Nat} (h : s < 2147483648) : ¬ nI s = -nI 1 := by
  intro e
  have := congrArg Int32.toInt e
  rw [nI_toInt h, show (-nI 1 : Int32).toInt = -1 from rfl] at this
  omega
theorem pb_cost_loop {n bk m : Nat} {C R : fm_M} {b q : Nat → Nat} (hm : m ≤ 6) (c8 : C.1 bk 8 = nI m) (r0 : R.1 2 0 = nI m) (hq : ∀ t, t < m → q t < m) (hb : ∀ t, t < m → b t < m) (hlC : ∀ t, t < m → C.1 2 t = nI (q t)) (hlR : ∀ t, t < m → R.1 18 t = nI (q t)) (hf : ∀ a b, a < m → b < m → pb_far (C.1 (bk + 12 + a) b) (R.1 10 (6 * a + b))) (hC : ∀ t, t < m → C.1 40 t = nI (b t)) (hR : ∀ t, t < m → R.1 11 (2 + t) = nI (b t)) (hw : ∀ t, t < m → C.1 (bk + 2) t = R.1 4 t ∧ ∃ w, w ≤ 99 ∧ R.1 4 t = nI w) : ∀ (k t : Nat) (x z : Int32), t ≤ m → m < t + k → ((∃ s, s ≤ 4455 * t ∧ x = nI s ∧ z = nI s) ∨ (x = -nI 9 ∧ z = nI 1000000)) → pb_sm C R (fX0_cost_18 n bk k C x (nI t)) (fX9_cost_27 n k R z (nI t)) := by
  intro k
  induction k with
  | zero => intro t x z h0 h1 h2; omega
  | succ k ih =>
    intro t x z h1 h2 h3
    rw [fX0_cost_18, fX9_cost_27]
    by_cases ht : t = m
    · rcases h3 with ⟨s, hs, e1, e2⟩ | ⟨e1, e2⟩
      · simp (disch := omega) only [pb_l0, pb_l1, pb_l2, pb_l3, pb_l4, pb_l5, pb_l6, pb_l7, pb_l8, pb_l9, pb_l10, pb_l12, pb_l14, pb_l20, pb_l32, pb_l36, pb_l48, pb_l56, pb_l57, pb_l59, pb_l60, pb_l72, pb_l99, pb_l100, pb_l111, pb_l116, pb_l200, pb_l255, pb_l504, pb_l560, pb_l1000, pb_l9999, pb_l10000, pb_l100000, pb_l1000000, nI_add, pk_mul, pb_cl, pb_b, pb_le_t, pb_le_f, pb_lt_t, pb_lt_f, pb_eq_t, pb_eq_f, c8, r0, e1, e2]
        exact ⟨_, rfl, rfl⟩
      · simp (disch := omega) only [pb_l0, pb_l1, pb_l2, pb_l3, pb_l4, pb_l5, pb_l6, pb_l7, pb_l8, pb_l9, pb_l10, pb_l12, pb_l14, pb_l20, pb_l32, pb_l36, pb_l48, pb_l56, pb_l57, pb_l59, pb_l60, pb_l72, pb_l99, pb_l100, pb_l111, pb_l116, pb_l200, pb_l255, pb_l504, pb_l560, pb_l1000, pb_l9999, pb_l10000, pb_l100000, pb_l1000000, nI_add, pk_mul, pb_cl, pb_b, pb_le_t, pb_le_f, pb_lt_t, pb_lt_f, pb_eq_t, pb_eq_f, c8, r0, e1, e2]
        exact ⟨_, rfl, rfl⟩
    · have hqt := hq t (by omega)
      have hbq := hb _ hqt
      obtain ⟨w1, w, w2, w3⟩ := hw _ hbq
      rcases hf (q t) t hqt (by omega) with ⟨v, v1, v2, v3⟩ | ⟨v2, v3⟩
      · rcases h3 with ⟨s, hs, e1, e2⟩ | ⟨e1, e2⟩
        · have hvw : v * w ≤ 45 * 99 := Nat.mul_le_mul v1 w2
          have h9 := pb_nm9 (s := s) (by omega)
          simp (disch := omega) only [pb_l0, pb_l1, pb_l2, pb_l3, pb_l4, pb_l5, pb_l6, pb_l7, pb_l8, pb_l9, pb_l10, pb_l12, pb_l14, pb_l20, pb_l32, pb_l36, pb_l48, pb_l56, pb_l57, pb_l59, pb_l60, pb_l72, pb_l99, pb_l100, pb_l111, pb_l116, pb_l200, pb_l255, pb_l504, pb_l560, pb_l1000, pb_l9999, pb_l10000, pb_l100000, pb_l1000000, nI_add, pk_mul, pb_cl, pb_b, pb_le_t, pb_le_f, pb_lt_t, pb_lt_f, pb_eq_t, pb_eq_f, c8, r0, fm_let, hlC, hlR, v2, v3, e1, e2, hC, hR, w1, w3, pb_ifn h9]
          rw [Nat.mul_comm w v]
          exact ih (t + 1) _ _ (by omega) (by omega) (Or.inl ⟨_, by omega, rfl, rfl⟩)
        · simp (disch := omega) only [pb_l0, pb_l1, pb_l2, pb_l3, pb_l4, pb_l5, pb_l6, pb_l7, pb_l8, pb_l9, pb_l10, pb_l12, pb_l14, pb_l20, pb_l32, pb_l36, pb_l48, pb_l56, pb_l57, pb_l59, pb_l60, pb_l72, pb_l99, pb_l100, pb_l111, pb_l116, pb_l200, pb_l255, pb_l504, pb_l560, pb_l1000, pb_l9999, pb_l10000, pb_l100000, pb_l1000000, nI_add, pk_mul, pb_cl, pb_b, pb_le_t, pb_le_f, pb_lt_t, pb_lt_f, pb_eq_t, pb_eq_f, c8, r0, fm_let, hlC, hlR, v2, v3, e1, e2, if_true]
          exact ih (t + 1) _ _ (by omega) (by omega) (Or.inr ⟨rfl, rfl⟩)
      · simp (disch := omega) only [pb_l0, pb_l1, pb_l2, pb_l3, pb_l4, pb_l5, pb_l6, pb_l7, pb_l8, pb_l9, pb_l10, pb_l12, pb_l14, pb_l20, pb_l32, pb_l36, pb_l48, pb_l56, pb_l57, pb_l59, pb_l60, pb_l72, pb_l99, pb_l100, pb_l111, pb_l116, pb_l200, pb_l255, pb_l504, pb_l560, pb_l1000, pb_l9999, pb_l10000, pb_l100000, pb_l1000000, nI_add, pk_mul, pb_cl, pb_b, pb_le_t, pb_le_f, pb_lt_t, pb_lt_f, pb_eq_t, pb_eq_f, c8, r0, fm_let, hlC, hlR, v2, v3]
        exact ih (t + 1) _ _ (by omega) (by omega) (Or.inr ⟨rfl, rfl⟩)
theorem pb_costop {n bk : Nat} {C R : fm_M} (h : pb_R bk C R) (hn : 20 ≤ n) (l : Int32) : pb_ok bk (fX0_cost n bk C l) (fX9_cost n R l) := by
  have h' := h.thrown
  unfold fX9_cost fX0_cost
  simp only [fm_let, pb_l0, pb_l9999]
  rw [pb_l0] at h'
  generalize fm_wr R 0 0 (nI 0) = R1 at h' ⊢
  clear h
  have hh := h'
  obtain ⟨m, o, d, f, y, p, ⟨⟨a1, a2, a3⟩, ⟨b1, b2, b3, b4⟩, c1, d1, e1, f1, g1⟩, s1, s2⟩ := h'
  rcases pb_isSeed n bk C R1 l with ⟨z, hz, rfl, i0, i9⟩ | ⟨i0, i9⟩
  · obtain ⟨C', R', t1, t2, q, hq, hl, u1, u2, u3, u4⟩ := pb_lots (n := n) (bk := bk) (C := C) (R := R1) (z := z) (by omega) a1 hz (by omega) b1 b2
    simp (disch := omega) only [i0, i9, pb_bi, pb_l0, pb_l1, pb_l2, pb_l3, pb_l4, pb_l5, pb_l6, pb_l7, pb_l8, pb_l9, pb_l10, pb_l12, pb_l14, pb_l20, pb_l32, pb_l36, pb_l48, pb_l56, pb_l57, pb_l59, pb_l60, pb_l72, pb_l99, pb_l100, pb_l111, pb_l116, pb_l200, pb_l255, pb_l504, pb_l560, pb_l1000, pb_l9999, pb_l10000, pb_l100000, pb_l1000000, nI_add, pk_mul, pb_cl, pb_b, pb_le_t, pb_le_f, pb_lt_t, pb_lt_f, pb_eq_t, pb_eq_f, t1, t2, pb_bv]
    obtain ⟨b, hb, hr⟩ := s1.2
    obtain ⟨r, w0, w9⟩ := pb_cost_loop (n := n) (bk := bk) (C := C') (R := R') (b := b) (q := q) a1 (by rw [u1 bk (by omega)]; exact b1) (by rw [u3 2 (by omega)]; exact b2) hq.1 hb.1 (fun t ht => (hl t ht).1) (fun t ht => (hl t ht).2) (fun a b ha hb => by rw [u1 _ (by omega), u3 10 (by omega)]; exact f1 a b ha hb) (fun t ht => by rw [u1 40 (by omega), ← hr t ht]; exact s1.bell (by omega)) (fun t ht => by rw [u3 11 (by omega)]; exact hr t ht) (fun t ht => by rw [u1 _ (by omega), u3 4 (by omega)]; exact ⟨(c1 t ht).1, (c1 t ht).2.2⟩) n 0 (nI 0) (nI 0) (by omega) (by omega) (Or.inl ⟨0, by omega, rfl, rfl⟩)
    exact ⟨r, C', R', w0, w9, hh.frame (pb_fC.of a3 (fun c k1 k2 k3 k4 k5 => u1 c k2) u2) (pb_fR.of (fun c k1 k2 k3 => u3 c k2) u4)⟩
  · simp (disch := omega) only [i0, i9, pb_bi, pb_l0, pb_l1, pb_l2, pb_l3, pb_l4, pb_l5, pb_l6, pb_l7, pb_l8, pb_l9, pb_l10, pb_l12, pb_l14, pb_l20, pb_l32, pb_l36, pb_l48, pb_l56, pb_l57, pb_l59, pb_l60, pb_l72, pb_l99, pb_l100, pb_l111, pb_l116, pb_l200, pb_l255, pb_l504, pb_l560, pb_l1000, pb_l9999, pb_l10000, pb_l100000, pb_l1000000, nI_add, pk_mul, pb_cl, pb_b, pb_le_t, pb_le_f, pb_lt_t, pb_lt_f, pb_eq_t, pb_eq_f]
    exact ⟨_, _, _, rfl, rfl, hh⟩
