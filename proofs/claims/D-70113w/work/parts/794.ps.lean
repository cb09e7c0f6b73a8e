/-! the two memories after the constructors -/
set_option maxRecDepth 100000
theorem ps_begin_loop {n bk : Nat} {C0 : fm_M} (hn : 10 ≤ n) (hbk : bk = 18 ∨ 193 ≤ bk) : ∀ (k t : Nat) (C : fm_M), t ≤ 6 → 6 < t + k → (∀ c, (c < 39 ∨ 50 ≤ c) → C.1 c = C0.1 c) → C.1 39 0 = nI 0 → C.1 39 1 = nI 0 → (∀ j, j < t → C.1 40 j = nI j ∧ C.1 41 j = (if C0.1 (bk + 1) j < C0.1 (bk + 2) j then C0.1 (bk + 2) j else C0.1 (bk + 1) j)) → (∀ i j, i < t → j < 6 → C.1 (44 + i) j = nI 0) → C.2 = C0.2 → ∃ C', fX2_begin_12 n bk 39 k C (nI t) = some C' ∧ (∀ c, (c < 39 ∨ 50 ≤ c) → C'.1 c = C0.1 c) ∧ C'.1 39 0 = nI 0 ∧ C'.1 39 1 = nI 0 ∧ (∀ j, j < 6 → C'.1 40 j = nI j ∧ C'.1 41 j = (if C0.1 (bk + 1) j < C0.1 (bk + 2) j then C0.1 (bk + 2) j else C0.1 (bk + 1) j)) ∧ (∀ i j, i < 6 → j < 6 → C'.1 (44 + i) j = nI 0) ∧ (∀ j, j < 6 → C'.1 42 j = nI 0) ∧ C'.2 = C0.2 := by
  intro k
  induction k with
  | zero => intro t C h1 h2; omega
  | succ k ih =>
    intro t C h1 h2 g1 g2 g3 g4 g5 g6
    rw [fX2_begin_12]
    by_cases ht : t = 6
    · subst ht
      obtain ⟨C', e1, e2, e3, e4⟩ := pb_fill (n := n) (bk := bk) (a := 39 + 3) (v := nI 0) n 0 C (by omega) (by omega)
      have e1' : fJ1_fill n bk (39 + 3) C (nI 0) = some C' := e1
      simp (disch := omega) only [pb_l0, pb_l1, pb_l2, pb_l3, pb_l4, pb_l5, pb_l6, pb_l7, pb_l8, pb_l9, pb_l10, pb_l12, pb_l14, pb_l20, pb_l32, pb_l36, pb_l48, pb_l56, pb_l57, pb_l59, pb_l60, pb_l72, pb_l99, pb_l100, pb_l111, pb_l116, pb_l200, pb_l255, pb_l504, pb_l560, pb_l1000, pb_l9999, pb_l10000, pb_l100000, pb_l1000000, nI_add, pk_mul, pb_cl, pb_b, pb_le_t, pb_le_f, pb_lt_t, pb_lt_f, pb_eq_t, pb_eq_f, e1', pb_bv]
      refine ⟨C', rfl, fun c hc => by rw [e2 c (by omega)]; exact g1 c hc, by rw [e2 39 (by omega)]; exact g2, by rw [e2 39 (by omega)]; exact g3, fun j hj => by rw [e2 40 (by omega), e2 41 (by omega)]; exact g4 j hj, fun i j hi hj => by rw [e2 _ (by omega)]; exact g5 i j hi hj, fun j hj => ?_, e4.trans g6⟩
      rw [show (42 : Nat) = 39 + 3 from rfl, e3 j, if_pos (by omega)]
    · have key : ∀ v : Int32, v = (if C0.1 (bk + 1) t < C0.1 (bk + 2) t then C0.1 (bk + 2) t else C0.1 (bk + 1) t) → ∃ C', (fm_bv (fJ1_fill n bk (39 + 5 + t) (fm_wr (fm_wr C (39 + 1) t (nI t)) (39 + 2) t v) (nI 0)) fun M15 => fX2_begin_12 n bk 39 k M15 (nI (t + 1))) = some C' ∧ (∀ c, (c < 39 ∨ 50 ≤ c) → C'.1 c = C0.1 c) ∧ C'.1 39 0 = nI 0 ∧ C'.1 39 1 = nI 0 ∧ (∀ j, j < 6 → C'.1 40 j = nI j ∧ C'.1 41 j = (if C0.1 (bk + 1) j < C0.1 (bk + 2) j then C0.1 (bk + 2) j else C0.1 (bk + 1) j)) ∧ (∀ i j, i < 6 → j < 6 → C'.1 (44 + i) j = nI 0) ∧ (∀ j, j < 6 → C'.1 42 j = nI 0) ∧ C'.2 = C0.2 := by
        intro v hv
        obtain ⟨C1, e1, e2, e3, e4⟩ := pb_fill (n := n) (bk := bk) (a := 39 + 5 + t) (v := nI 0) n 0 (fm_wr (fm_wr C (39 + 1) t (nI t)) (39 + 2) t v) (by omega) (by omega)
        have e1' : fJ1_fill n bk (39 + 5 + t) (fm_wr (fm_wr C (39 + 1) t (nI t)) (39 + 2) t v) (nI 0) = some C1 := e1
        rw [e1']
        simp only [pb_bv]
        refine ih (t + 1) C1 (by omega) (by omega) (fun c hc => by rw [e2 c (by omega), pb_wr_n (by omega), pb_wr_n (by omega)]; exact g1 c hc) (by rw [e2 39 (by omega), pb_wr_n (by omega), pb_wr_n (by omega)]; exact g2) (by rw [e2 39 (by omega), pb_wr_n (by omega), pb_wr_n (by omega)]; exact g3) (fun j hj => ?_) (fun i j hi hj => ?_) (e4.trans g6)
        · rw [e2 40 (by omega), e2 41 (by omega), pb_wr_n (by omega : 40 ≠ 39 + 2)]
          by_cases ej : j = t
          · subst ej
            exact ⟨by simp (disch := omega) only [pb_wr_e, pb_wr_n, pb_row_e, pb_row_n, pb_up_e, pb_up_n, pb_wr_2, pb_row_2], by simp (disch := omega) only [pb_wr_e, pb_wr_n, pb_row_e, pb_row_n, pb_up_e, pb_up_n, pb_wr_2, pb_row_2]; exact hv⟩
          · obtain ⟨z1, z2⟩ := g4 j (by omega)
            exact ⟨by rw [pb_wr_ne (by omega)]; exact z1, by rw [pb_wr_ne (by omega), pb_wr_ne (by omega)]; exact z2⟩
        · by_cases ei : i = t
          · subst ei
            rw [show 44 + i = 39 + 5 + i from rfl, e3 j, if_pos (by omega)]
          · rw [e2 _ (by omega), pb_wr_n (by omega), pb_wr_n (by omega)]; exact g5 i j (by omega) hj
      have x1 : C.1 (bk + 1) = C0.1 (bk + 1) := g1 _ (by omega)
      have x2 : C.1 (bk + 2) = C0.1 (bk + 2) := g1 _ (by omega)
      simp (disch := omega) only [pb_l0, pb_l1, pb_l2, pb_l3, pb_l4, pb_l5, pb_l6, pb_l7, pb_l8, pb_l9, pb_l10, pb_l12, pb_l14, pb_l20, pb_l32, pb_l36, pb_l48, pb_l56, pb_l57, pb_l59, pb_l60, pb_l72, pb_l99, pb_l100, pb_l111, pb_l116, pb_l200, pb_l255, pb_l504, pb_l560, pb_l1000, pb_l9999, pb_l10000, pb_l100000, pb_l1000000, nI_add, pk_mul, pb_cl, pb_b, pb_le_t, pb_le_f, pb_lt_t, pb_lt_f, pb_eq_t, pb_eq_f, pb_wr_e, pb_wr_n, pb_row_e, pb_row_n, pb_up_e, pb_up_n, pb_wr_2, pb_row_2, fm_let, x1, x2]
      exact key _ rfl
theorem ps_begin {n bk : Nat} {C : fm_M} (hn : 10 ≤ n) (hbk : bk = 18 ∨ 193 ≤ bk) : ∃ C', fX2_begin n bk 39 C = some C' ∧ (∀ c, (c < 39 ∨ 50 ≤ c) → C'.1 c = C.1 c) ∧ C'.2 = C.2 ∧ ∀ k, k < 56 → pb_pl C' 39 k = if 2 ≤ k ∧ k < 8 then nI (k - 2) else if 8 ≤ k ∧ k < 14 then (if C.1 (bk + 1) (k - 8) < C.1 (bk + 2) (k - 8) then C.1 (bk + 2) (k - 8) else C.1 (bk + 1) (k - 8)) else nI 0 := by
  unfold fX2_begin
  simp (disch := omega) only [pb_l0, pb_l1, pb_l2, pb_l3, pb_l4, pb_l5, pb_l6, pb_l7, pb_l8, pb_l9, pb_l10, pb_l12, pb_l14, pb_l20, pb_l32, pb_l36, pb_l48, pb_l56, pb_l57, pb_l59, pb_l60, pb_l72, pb_l99, pb_l100, pb_l111, pb_l116, pb_l200, pb_l255, pb_l504, pb_l560, pb_l1000, pb_l9999, pb_l10000, pb_l100000, pb_l1000000, nI_add, pk_mul, pb_cl, pb_b, pb_le_t, pb_le_f, pb_lt_t, pb_lt_f, pb_eq_t, pb_eq_f, fm_let]
  obtain ⟨C', e1, e2, e3, e4, e5, e6, e7, e8⟩ := ps_begin_loop (n := n) (bk := bk) (C0 := C) hn hbk n 0 (fm_wr (fm_wr C 39 0 (nI 0)) 39 1 (nI 0)) (by omega) (by omega) (fun c hc => by rw [pb_wr_n (by omega), pb_wr_n (by omega)]) (by simp (disch := omega) only [pb_wr_e, pb_wr_n, pb_row_e, pb_row_n, pb_up_e, pb_up_n, pb_wr_2, pb_row_2]) (by simp (disch := omega) only [pb_wr_e, pb_wr_n, pb_row_e, pb_row_n, pb_up_e, pb_up_n, pb_wr_2, pb_row_2]) (fun j hj => by omega) (fun i j hi => by omega) rfl
  refine ⟨C', e1, e2, e8, fun k hk => ?_⟩
  unfold pb_pl
  by_cases k1 : k < 2
  · have z1 : ¬ (2 ≤ k ∧ k < 8) := by omega
    have z2 : ¬ (8 ≤ k ∧ k < 14) := by omega
    rw [if_pos k1, if_neg z1, if_neg z2]
    have : k = 0 ∨ k = 1 := by omega
    rcases this with rfl | rfl
    · exact e3
    · exact e4
  · rw [if_neg k1]
    by_cases k2 : k < 8
    · have z1 : 2 ≤ k ∧ k < 8 := by omega
      rw [if_pos k2, if_pos z1]; exact (e5 (k - 2) (by omega)).1
    · have z1 : ¬ (2 ≤ k ∧ k < 8) := by omega
      rw [if_neg k2, if_neg z1]
      by_cases k3 : k < 14
      · have z2 : 8 ≤ k ∧ k < 14 := by omega
        rw [if_pos k3, if_pos z2]; exact (e5 (k - 8) (by omega)).2
      · have z2 : ¬ (8 ≤ k ∧ k < 14) := by omega
        rw [if_neg k3, if_neg z2]
        by_cases k4 : k < 20
        · rw [if_pos k4]; exact e7 (k - 14) (by omega)
        · rw [if_neg k4]; exact e6 ((k - 20) / 6) ((k - 20) % 6) (by omega) (by omega)

def ps_0 : fm_M := (fun _ _ => 0, 0)
theorem ps_start {n : Nat} {M0 : fm_M} (hn : 10 ≤ n) (h3 : ∀ j, j < 10 → M0.1 3 j = nI (j + 2)) (h0 : ∀ c j, c ≠ 3 → M0.1 c j = 0) (ht : M0.2 = 0) : ∃ M', fX2_begin n 18 39 M0 = some M' ∧ pb_R 18 M' ps_0 := by
  obtain ⟨M', hf, hc, h2, hp⟩ := ps_begin (n := n) (bk := 18) (C := M0) hn (Or.inl rfl)
  have hz : ∀ c j, c ≠ 3 → (c < 39 ∨ 50 ≤ c) → M'.1 c j = nI 0 := fun c j h1 h2 => by rw [hc c h2, h0 c j h1, nI_0]
  have hr : ∀ c j, ps_0.1 c j = nI 0 := fun c j => nI_0.symm
  refine ⟨M', hf, 0, 0, 0, 0, 0, fun j => j + 2, ⟨⟨by omega, by omega, Or.inl rfl⟩, ⟨hz 18 8 (by omega) (by omega), hr 2 0, hz 18 9 (by omega) (by omega), hr 2 1⟩, fun t h => absurd h (by omega), fun a b ha hb => ⟨?_, ?_⟩, fun a _ => hr 6 _, fun a b h => absurd h (by omega), fun i h => absurd h (by omega)⟩, ⟨fun k hk hk2 => ?_, fun _ => 0, ⟨fun t h => absurd h (by omega), fun t u h => absurd h (by omega), fun s h => absurd h (by omega)⟩, fun t h => absurd h (by omega)⟩, ⟨by omega, hz 0 6 (by omega) (by omega), hr 0 23, fun j hj => ⟨?_, by show 2 ≤ j + 2; omega, by show j + 2 < 12; omega⟩, fun i j _ _ h => by have h : i + 2 = j + 2 := h; omega, fun j h => absurd h (by omega)⟩, fun i hi => ⟨?_, Or.inl (hr 14 i)⟩, ⟨by omega, hz 0 16 (by omega) (by omega), hr 0 26, fun k h => absurd h (by omega)⟩, ⟨by omega, hz 0 10 (by omega) (by omega), hr 0 3, fun k h => absurd h (by omega)⟩, ?_⟩
  · rw [hz _ b (by omega) (by omega), hr]
  · rw [hr, hr]
  · rw [hp k hk, hr]
    rw [if_neg (by omega), if_neg (by omega)]
  · rw [hc 3 (by omega), h3 j hj]
  · rw [hz 5 i (by omega) (by omega), hr]
  · rw [h2, ht]; rfl
