/-! plain, whole -/
set_option maxRecDepth 100000
theorem pb_pl34 {n : Nat} {R0 : fm_M} {Q : Option (Int32 × fm_M) → Prop} (hQ : ∀ R', (∀ c, c ≠ 6 → R'.1 c = R0.1 c) → (∀ j, j < 36 → R'.1 6 j = R0.1 6 j) → (∀ j, 36 ≤ j → j < 72 → R'.1 6 j = nI 0) → R'.2 = R0.2 → Q (fm_bv (fX9_advances n R') fun M3 => fX9_plain_57 n n M3 (nI 0))) : ∀ (k t : Nat) (R : fm_M), 36 ≤ t → t ≤ 72 → 72 < t + k → (∀ c, c ≠ 6 → R.1 c = R0.1 c) → (∀ j, j < 36 → R.1 6 j = R0.1 6 j) → (∀ j, 36 ≤ j → j < t → R.1 6 j = nI 0) → R.2 = R0.2 → Q (fX9_plain_34 n k R (nI 0) (nI t)) := by
  intro k
  induction k with
  | zero => intro t R h0 h1 h2; omega
  | succ k ih =>
    intro t R h0 h1 h2 g1 g2 g3 g4
    rw [fX9_plain_34]
    by_cases ht : t = 72
    · subst ht
      simp (disch := omega) only [pb_l0, pb_l1, pb_l2, pb_l3, pb_l4, pb_l5, pb_l6, pb_l7, pb_l8, pb_l9, pb_l10, pb_l12, pb_l14, pb_l20, pb_l32, pb_l36, pb_l48, pb_l56, pb_l57, pb_l59, pb_l60, pb_l72, pb_l99, pb_l100, pb_l111, pb_l116, pb_l200, pb_l255, pb_l504, pb_l560, pb_l1000, pb_l9999, pb_l10000, pb_l100000, pb_l1000000, nI_add, pk_mul, pb_cl, pb_b, pb_le_t, pb_le_f, pb_lt_t, pb_lt_f, pb_eq_t, pb_eq_f]
      exact hQ R g1 g2 g3 g4
    · simp (disch := omega) only [pb_l0, pb_l1, pb_l2, pb_l3, pb_l4, pb_l5, pb_l6, pb_l7, pb_l8, pb_l9, pb_l10, pb_l12, pb_l14, pb_l20, pb_l32, pb_l36, pb_l48, pb_l56, pb_l57, pb_l59, pb_l60, pb_l72, pb_l99, pb_l100, pb_l111, pb_l116, pb_l200, pb_l255, pb_l504, pb_l560, pb_l1000, pb_l9999, pb_l10000, pb_l100000, pb_l1000000, nI_add, pk_mul, pb_cl, pb_b, pb_le_t, pb_le_f, pb_lt_t, pb_lt_f, pb_eq_t, pb_eq_f, fm_let]
      refine ih (t + 1) _ (by omega) (by omega) (by omega) (fun c hc => by rw [pb_wr_n hc]; exact g1 c hc) (fun j hj => by rw [pb_wr_ne (by omega)]; exact g2 j hj) (fun j h3 h4 => ?_) g4
      rw [pb_wr_e]
      by_cases e : j = t
      · subst e; rw [pb_up_e]
      · rw [pb_up_n e]; exact g3 j h3 (by omega)
theorem pb_fill2 {n bk : Nat} {C : fm_M} (hn : 10 ≤ n) : ∃ C', fJ1_fill_2 n bk C (nI 0) = some C' ∧ (∀ c, c ≠ 5 → C'.1 c = C.1 c) ∧ C'.1 5 0 = nI 0 ∧ C'.1 5 1 = nI 0 ∧ C'.2 = C.2 := by
  obtain ⟨n, rfl⟩ : ∃ j, n = j + 1 + 1 + 1 := ⟨n - 3, by omega⟩
  unfold fJ1_fill_2
  rw [fJ1_fill_2_5]
  simp (disch := omega) only [pb_l0, pb_l1, pb_l2, pb_l3, pb_l4, pb_l5, pb_l6, pb_l7, pb_l8, pb_l9, pb_l10, pb_l12, pb_l14, pb_l20, pb_l32, pb_l36, pb_l48, pb_l56, pb_l57, pb_l59, pb_l60, pb_l72, pb_l99, pb_l100, pb_l111, pb_l116, pb_l200, pb_l255, pb_l504, pb_l560, pb_l1000, pb_l9999, pb_l10000, pb_l100000, pb_l1000000, nI_add, pk_mul, pb_cl, pb_b, pb_le_t, pb_le_f, pb_lt_t, pb_lt_f, pb_eq_t, pb_eq_f, fm_let, pb_bz0]
  rw [fJ1_fill_2_5]
  simp (disch := omega) only [pb_l0, pb_l1, pb_l2, pb_l3, pb_l4, pb_l5, pb_l6, pb_l7, pb_l8, pb_l9, pb_l10, pb_l12, pb_l14, pb_l20, pb_l32, pb_l36, pb_l48, pb_l56, pb_l57, pb_l59, pb_l60, pb_l72, pb_l99, pb_l100, pb_l111, pb_l116, pb_l200, pb_l255, pb_l504, pb_l560, pb_l1000, pb_l9999, pb_l10000, pb_l100000, pb_l1000000, nI_add, pk_mul, pb_cl, pb_b, pb_le_t, pb_le_f, pb_lt_t, pb_lt_f, pb_eq_t, pb_eq_f, fm_let, pb_bz0]
  rw [fJ1_fill_2_5]
  simp (disch := omega) only [pb_l0, pb_l1, pb_l2, pb_l3, pb_l4, pb_l5, pb_l6, pb_l7, pb_l8, pb_l9, pb_l10, pb_l12, pb_l14, pb_l20, pb_l32, pb_l36, pb_l48, pb_l56, pb_l57, pb_l59, pb_l60, pb_l72, pb_l99, pb_l100, pb_l111, pb_l116, pb_l200, pb_l255, pb_l504, pb_l560, pb_l1000, pb_l9999, pb_l10000, pb_l100000, pb_l1000000, nI_add, pk_mul, pb_cl, pb_b, pb_le_t, pb_le_f, pb_lt_t, pb_lt_f, pb_eq_t, pb_eq_f]
  refine ⟨_, rfl, fun c hc => by rw [pb_wr_n hc, pb_wr_n hc], ?_, ?_, rfl⟩
  all_goals simp (disch := omega) only [pb_wr_e, pb_wr_n, pb_row_e, pb_row_n, pb_up_e, pb_up_n, pb_wr_2, pb_row_2]
theorem pb_plain {n bk N : Nat} {C R : fm_M} (h : pb_R bk C R) (hN : 193 ≤ N) (hbN : bk + 21 ≤ N) (hz : ∀ c, N ≤ c → c < N + 22 → ∀ j, C.1 c j = nI 0) (hn : 300 ≤ n) :
    (∃ st C' R', fX10_read n bk N C = some (Sum.inr (nI st), C') ∧ fX9_plain n R = some (-nI 10 - nI st, R') ∧ pb_R bk C' R') ∨
    (∃ C1 C2 C3 R' it, fX10_read n bk N C = some (Sum.inl (), C1) ∧ fX2_begin n (N + 1) 39 C1 = some C2 ∧ fJ1_fill_2 n (N + 1) (fm_wr (fm_wr C2 0 6 (nI 0)) 0 16 (nI 0)) (nI 0) = some C3 ∧ C3.1 (N + 1) 10 = nI it ∧ fX9_plain n R = some (nI it, R') ∧ pb_R (N + 1) (fm_wr C3 0 10 (nI 0)) R') := by
  have h' := h.thrown
  unfold fX9_plain fX10_read
  simp (disch := omega) only [pb_l0, pb_l1, pb_l2, pb_l3, pb_l4, pb_l5, pb_l6, pb_l7, pb_l8, pb_l9, pb_l10, pb_l12, pb_l14, pb_l20, pb_l32, pb_l36, pb_l48, pb_l56, pb_l57, pb_l59, pb_l60, pb_l72, pb_l99, pb_l100, pb_l111, pb_l116, pb_l200, pb_l255, pb_l504, pb_l560, pb_l1000, pb_l9999, pb_l10000, pb_l100000, pb_l1000000, nI_add, pk_mul, pb_cl, pb_b, pb_le_t, pb_le_f, pb_lt_t, pb_lt_f, pb_eq_t, pb_eq_f, fm_let]
  rw [pb_l0] at h'
  generalize fm_wr R 0 0 (nI 0) = R1 at h' ⊢
  clear h
  have hh := h'
  obtain ⟨m, o, d, f, y, p, hB, s1, s2, s3, s4, ⟨y1, y2, y3, y4⟩, s6⟩ := h'
  have hbk := hB.1.2.2
  refine pb_pl34 (n := n) (Q := fun z => (∃ st C' R', (fm_bv (fX10_step n bk N C) fun M2 => fX10_read_4 n bk N n M2) = some (Sum.inr (nI st), C') ∧ z = some (-nI 10 - nI st, R') ∧ pb_R bk C' R') ∨ (∃ C1 C2 C3 R' it, (fm_bv (fX10_step n bk N C) fun M2 => fX10_read_4 n bk N n M2) = some (Sum.inl (), C1) ∧ fX2_begin n (N + 1) 39 C1 = some C2 ∧ fJ1_fill_2 n (N + 1) (fm_wr (fm_wr C2 0 6 (nI 0)) 0 16 (nI 0)) (nI 0) = some C3 ∧ C3.1 (N + 1) 10 = nI it ∧ z = some (nI it, R') ∧ pb_R (N + 1) (fm_wr C3 0 10 (nI 0)) R')) (fun R2 a1 a2 a3 a4 => ?_) n 36 _ (by omega) (by omega) (by omega) (fun _ _ => rfl) (fun _ _ => rfl) (fun j h1 h2 => by omega) rfl
  have fr0 : pb_fR R1 R2 := by
    refine (((pb_fR.wr (k := 8) (v := -nI 1) (by omega)).trans (pb_fR.wr (c := 0) (k := 4) (v := nI 0) (by omega))).trans (pb_fR.wr (c := 2) (k := 2) (v := nI 0) (by omega))).trans ((pb_fR.wr (c := 2) (k := 3) (v := nI 0) (by omega)).trans ⟨fun c hc => a1 c (by omega), fun c k hc _ => by rw [a1 c (by omega)], fun k hk => a2 k hk, ⟨by rw [a1 2 (by omega)], by rw [a1 2 (by omega)]⟩, ⟨by rw [a1 0 (by omega)], by rw [a1 0 (by omega)], by rw [a1 0 (by omega)]⟩, a4⟩)
  have e08 : R2.1 0 8 = -nI 1 := by rw [a1 0 (by omega)]; simp (disch := omega) only [pb_wr_e, pb_wr_n, pb_row_e, pb_row_n, pb_up_e, pb_up_n, pb_wr_2, pb_row_2]
  have e04 : R2.1 0 4 = nI 0 := by rw [a1 0 (by omega)]; simp (disch := omega) only [pb_wr_e, pb_wr_n, pb_row_e, pb_row_n, pb_up_e, pb_up_n, pb_wr_2, pb_row_2]
  have e22 : R2.1 2 2 = nI 0 := by rw [a1 2 (by omega)]; simp (disch := omega) only [pb_wr_e, pb_wr_n, pb_row_e, pb_row_n, pb_up_e, pb_up_n, pb_wr_2, pb_row_2]
  have e23 : R2.1 2 3 = nI 0 := by rw [a1 2 (by omega)]; simp (disch := omega) only [pb_wr_e, pb_wr_n, pb_row_e, pb_row_n, pb_up_e, pb_up_n, pb_wr_2, pb_row_2]
  have htx : pb_tx y (fun k => (R1.1 1 k).toNatClampNeg) C R2 := by
    refine ⟨y1, y2, by rw [fr0.2.2.2.2.1.1]; exact y3, fun k hk => ?_⟩
    obtain ⟨c, c1, c2, c3⟩ := y4 k hk
    have ec : (R1.1 1 k).toNatClampNeg = c := by rw [c2, pb_cl (by omega)]
    show (R1.1 1 k).toNatClampNeg < 256 ∧ R2.1 1 k = nI ((R1.1 1 k).toNatClampNeg) ∧ C.1 6 k &&& 255 = nI ((R1.1 1 k).toNatClampNeg)
    rw [ec, fr0.1 1 (by omega)]
    exact ⟨c1, c2, c3⟩
  obtain ⟨Ca, Ra, p', st', q', v', b1, b2, b3, b4, b5, b6, b7⟩ := pb_step (n := n) (bk := bk) (rd := N) hN hn htx (hz N (by omega) (by omega) 0) e04 (by omega)
  have hpi : pb_pi N y p' st' q' v' 0 0 0 (fun k => (R1.1 1 k).toNatClampNeg) Ca Ra := by
    refine ⟨htx.step hN b6 b7, b3, ⟨⟨by omega, by omega⟩, ⟨?_, ?_, ?_, ?_⟩, fun t ht => by omega, fun a b ha hb => ?_, fun i hi => by omega⟩, ?_, ?_⟩
    · rw [b6.1 _ (by omega)]; exact hz _ (by omega) (by omega) _
    · rw [b7.1 2 (by omega)]; exact e22
    · rw [b6.1 _ (by omega)]; exact hz _ (by omega) (by omega) _
    · rw [b7.1 2 (by omega)]; exact e23
    · rw [b6.1 _ (by omega), b7.1 6 (by omega), a3 _ (by omega) (by omega), a3 _ (by omega) (by omega), hz _ (by omega) (by omega)]
      exact ⟨rfl, rfl, 0, by omega, rfl, fun _ => rfl⟩
    · rw [b7.2.1 8 (by omega)]; exact e08
    · rw [b6.1 _ (by omega)]; exact hz _ (by omega) (by omega) _
  have frA : pb_fR R1 Ra := fr0.trans b7.f
  rw [b1, b2]
  simp only [pb_bv]
  rcases pb_read (n := n) (bk := bk) (rd := N) hN hn n p' st' q' v' 0 0 0 Ca Ra hpi (by omega) with ⟨C1, R3, p3, st3, v3, mt, mo, it, g1, g2, g3, g4, g5⟩ | ⟨st3, C1, R3, g0, g1, g2, g3, g4⟩
  · right
    have gC : pb_gC N C C1 := b6.g.trans g4
    obtain ⟨t1, t2, ⟨⟨h1, h2⟩, ⟨h3, h4, h5, h6⟩, h7, h8, h9⟩, hwl, hit⟩ := g3
    have hx : ∀ i j, i < 6 → j < 6 → R3.1 6 (36 + 6 * i + j) = nI (if i < 6 ∧ j < 6 then (R3.1 6 (36 + 6 * i + j)).toNatClampNeg else 0) ∧ (if i < 6 ∧ j < 6 then (R3.1 6 (36 + 6 * i + j)).toNatClampNeg else 0) ≤ 9 ∧ ((i = j ∨ mt ≤ i ∨ mt ≤ j) → (if i < 6 ∧ j < 6 then (R3.1 6 (36 + 6 * i + j)).toNatClampNeg else 0) = 0) := by
      intro i j hi hj
      obtain ⟨_, _, w, w1, w2, w3⟩ := h8 i j hi hj
      rw [if_pos ⟨hi, hj⟩, w2, pb_cl (by omega)]
      exact ⟨rfl, w1, w3⟩
    have hxo : ∀ i j, ¬ (i < 6 ∧ j < 6) → (if i < 6 ∧ j < 6 then (R3.1 6 (36 + 6 * i + j)).toNatClampNeg else 0) = 0 := fun i j hij => if_neg hij
    obtain ⟨x, xdef⟩ : ∃ x : Nat → Nat → Nat, x = fun i j => if i < 6 ∧ j < 6 then (R3.1 6 (36 + 6 * i + j)).toNatClampNeg else 0 := ⟨_, rfl⟩
    have hxe : ∀ i j, (if i < 6 ∧ j < 6 then (R3.1 6 (36 + 6 * i + j)).toNatClampNeg else 0) = x i j := fun i j => by rw [xdef]
    simp only [hxe] at hx hxo
    clear xdef hxe
    have hx9 : ∀ i j, x i j ≤ 9 := fun i j => by
      by_cases c : i < 6 ∧ j < 6
      · exact (hx i j c.1 c.2).2.1
      · rw [hxo i j c]; omega
    have hx0 : ∀ i j, (i = j ∨ mt ≤ i ∨ mt ≤ j) → x i j = 0 := fun i j hij => by
      by_cases c : i < 6 ∧ j < 6
      · exact (hx i j c.1 c.2).2.2 hij
      · exact hxo i j c
    obtain ⟨C2, m1, m2, m3, m4⟩ := pb_measure (n := n) (bk := bk) (b0 := N + 1) (x := x) (C := C1) (by omega) (fun i j hi hj => by rw [(h8 i j hi hj).1]; exact (hx i j hi hj).1) hx9
    obtain ⟨R', r1, r2, r3, r4, r5, r6, r7, ⟨r8, r9, r10, r11, r12⟩, r13⟩ := pb_settles (n := n) (mt := mt) (x := x) (R := R3) (by omega) h1 h4 (fun j hj => by
      have := (hx (j / 6) (j % 6) (by omega) (by omega)).1
      rw [show 36 + 6 * (j / 6) + j % 6 = 36 + j by omega] at this
      exact this) hx9
    obtain ⟨C3, n1, n2, n3, n4⟩ := pb_begin (n := n) (bk := N + 1) (C := C2) (by omega) (by omega)
    obtain ⟨C4, k1, k2, k3, k4, k5⟩ := pb_fill2 (n := n) (bk := N + 1) (C := fm_wr (fm_wr C3 0 6 (nI 0)) 0 16 (nI 0)) (by omega)
    have eB : ∀ c, N ≤ c → c < N + 22 → (fm_wr C4 0 10 (nI 0)).1 c = C2.1 c := fun c c1 c2 => by
      rw [pb_wr_n (by omega), k2 c (by omega), pb_wr_n (by omega), pb_wr_n (by omega), n2 c (by omega)]
    have eA : ∀ c, N + 1 ≤ c → c < N + 22 → (c < N + 1 + 12 ∨ N + 1 + 18 ≤ c) → (fm_wr C4 0 10 (nI 0)).1 c = C1.1 c := fun c c1 c2 c3 => by rw [eB c (by omega) c2, m3 c (by omega)]
    have eL : ∀ c, c ≠ 0 → c ≠ 5 → c < 39 → (fm_wr C4 0 10 (nI 0)).1 c = C.1 c := fun c c1 c2 c3 => by
      rw [pb_wr_n c1, k2 c c2, pb_wr_n c1, pb_wr_n c1, n2 c (by omega), m3 c (by omega), gC.1 c (by omega)]
    have hit4 : C4.1 (N + 1) 10 = nI it := by
      rw [k2 _ (by omega), pb_wr_n (by omega), pb_wr_n (by omega), n2 _ (by omega), m3 _ (by omega)]; exact hit
    refine ⟨C2, C3, C4, R', it, by rw [g1, m1]; rfl, n1, k1, hit4, by rw [g2, r1]; rfl, mt, mo, 0, 0, 0, p, ⟨⟨h1, h2, by omega⟩, ⟨?_, r2, ?_, ?_⟩, fun t ht => ?_, fun a b ha hb => ?_, fun a ha => ?_, fun a b ha hb => ?_, fun i hi => ?_⟩, ⟨fun k hk hl => ?_, fun t => t, ⟨fun t ht => ht, fun t u _ _ e => e, fun s hs => ⟨s, hs, rfl⟩⟩, fun t ht => ?_⟩, ⟨by omega, ?_, r10, fun j hj => ?_, s2.2.2.2.2.1, fun j hj => by omega⟩, fun i hi => ⟨?_, Or.inl ?_⟩, ⟨by omega, ?_, r9, fun k hk => by omega⟩, ⟨by omega, ?_, r8, fun k hk => by omega⟩, ?_⟩
    · rw [eA _ (by omega) (by omega) (by omega)]; exact h3
    · rw [eA _ (by omega) (by omega) (by omega)]; exact h5
    · rw [r3]; exact h6
    · obtain ⟨z1, z2, z3, w, z4, z5⟩ := h7 t ht
      rw [eA _ (by omega) (by omega) (by omega), eA _ (by omega) (by omega) (by omega), r4 4 t (by omega) (by omega), r4 5 t (by omega) (by omega)]
      exact ⟨z2, z3, w, z4, z5⟩
    · obtain ⟨z1, z2, _⟩ := h8 a b ha hb
      rw [eA _ (by omega) (by omega) (by omega), r5 _ (by omega), r5 _ (by omega), ← Nat.add_assoc, ← Nat.add_assoc]
      exact ⟨z1, z2⟩
    · rw [r5 _ (by omega), show 36 + 7 * a = 36 + 6 * a + a by omega, (hx a a ha ha).1, hx0 a a (Or.inl rfl)]
    · rw [eB _ (by omega) (by omega), m2 a b (by omega) (by omega), r6 _ (by omega), show (6 * a + b) / 6 = a by omega, show (6 * a + b) % 6 = b by omega]
      have hF : ∀ a b, pb_d0 1000000 x a b ≤ 1000000 := pb_d0_le (by omega) hx9
      have iso : ∀ a b, a ≠ b → (mt ≤ a ∨ mt ≤ b) → pb_d0 1000000 x a b = 1000000 := fun a b hab hm => by
        unfold pb_d0
        rw [if_neg hab, if_pos (hx0 a b (Or.inr hm))]
      have est := pb_fk_stop (D := pb_d0 1000000 x) pb_d0_diag hF iso (6 - mt) a b
      rw [show mt + (6 - mt) = 6 by omega] at est
      rw [← est]
      have two := pb_fk_two (D := pb_d0 100000 x) (E := pb_d0 1000000 x) (fun a b _ _ => by
        unfold pb_d0
        have := hx9 a b
        split
        · left; omega
        · split
          · right; omega
          · left; omega) 6 (by omega) a b (by omega) (by omega)
      have b45 := pb_fk_45 (D := pb_d0 100000 x) (F := 100000) pb_d0_diag (pb_d0_le (by omega) hx9) (fun a b _ _ => by
        unfold pb_d0
        have := hx9 a b
        split
        · left; omega
        · split
          · right; rfl
          · left; omega) a b (by omega) (by omega)
      rcases b45 with b45 | b45
      · left
        refine ⟨pb_fk (pb_d0 100000 x) 6 a b, b45, rfl, ?_⟩
        rcases two with ⟨t1, _⟩ | ⟨t1, _⟩
        · rw [t1]
        · omega
      · right
        rcases two with ⟨_, t2⟩ | ⟨t1, t2⟩
        · omega
        · rw [t1, t2]; exact ⟨rfl, rfl⟩
    · obtain ⟨z1, z2, z3, t, z4, z5⟩ := h9 i hi
      rw [eA _ (by omega) (by omega) (by omega), eA _ (by omega) (by omega) (by omega), eA _ (by omega) (by omega) (by omega), r4 7 i (by omega) (by omega), r4 8 i (by omega) (by omega), r4 9 i (by omega) (by omega)]
      exact ⟨z1, z2, z3, t, z4, z5⟩
    · rw [pb_pl_same (C := C3) (fun c c1 c2 => by rw [pb_wr_n (by omega), k2 c (by omega), pb_wr_n (by omega), pb_wr_n (by omega)]) k hk, n4 k hk, r7 k hk]
      by_cases q1 : 2 ≤ k ∧ k < 8
      · rw [if_pos q1, if_pos q1]
      · rw [if_neg q1, if_neg q1]
        by_cases q2 : 8 ≤ k ∧ k < 14
        · rw [if_pos q2, if_pos q2]
          obtain ⟨z1, z2, _⟩ := h7 (k - 8) (by omega)
          unfold pb_mx
          rw [m3 (N + 1 + 1) (by omega), m3 (N + 1 + 2) (by omega), z1, z2]
          by_cases q3 : R3.1 3 (6 + (k - 8)) < R3.1 4 (6 + (k - 8))
          · have q4 : ¬ R3.1 4 (6 + (k - 8)) ≤ R3.1 3 (6 + (k - 8)) := by rw [Int32.not_le]; exact q3
            rw [if_pos q3, if_neg q4]
          · have q4 : R3.1 4 (6 + (k - 8)) ≤ R3.1 3 (6 + (k - 8)) := by rw [← Int32.not_lt]; exact q3
            rw [if_neg q3, if_pos q4]
        · rw [if_neg q2, if_neg q2]
    · rw [r7 _ (by omega), if_pos (by omega), show 2 + t - 2 = t by omega]
    · rw [pb_wr_ne (by omega), k2 0 (by omega)]; simp (disch := omega) only [pb_wr_e, pb_wr_n, pb_row_e, pb_row_n, pb_up_e, pb_up_n, pb_wr_2, pb_row_2]
    · rw [eL 3 (by omega) (by omega) (by omega)]; exact s2.2.2.2.1 j hj
    · have : i = 0 ∨ i = 1 := by omega
      rcases this with rfl | rfl
      · rw [pb_wr_n (by omega), k3, r11]
      · rw [pb_wr_n (by omega), k4, r12]
    · have : i = 0 ∨ i = 1 := by omega
      rcases this with rfl | rfl
      · exact r11
      · exact r12
    · rw [pb_wr_ne (by omega), k2 0 (by omega)]; simp (disch := omega) only [pb_wr_e, pb_wr_n, pb_row_e, pb_row_n, pb_up_e, pb_up_n, pb_wr_2, pb_row_2]
    · simp (disch := omega) only [pb_wr_e, pb_wr_n, pb_row_e, pb_row_n, pb_up_e, pb_up_n, pb_wr_2, pb_row_2]
    · show C4.2 = R'.2
      rw [k5]
      show C3.2 = R'.2
      rw [n3, m4, gC.2, s6, r13, (frA.trans g5).2.2.2.2.2]
  · left
    refine ⟨st3, C1, R3, g1, g2, hh.frame ⟨fun c hc => ?_, ⟨?_, ?_, ?_⟩, ?_⟩ (frA.trans g4)⟩
    · rw [(b6.g.trans g3).1 c (by omega)]
    · rw [(b6.g.trans g3).1 0 (by omega)]
    · rw [(b6.g.trans g3).1 0 (by omega)]
    · rw [(b6.g.trans g3).1 0 (by omega)]
    · exact (b6.g.trans g3).2
