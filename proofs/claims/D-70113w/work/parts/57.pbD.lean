/-! a lot drawn on a plain: both sides do the same to the row -/
set_option maxRecDepth 100000
/-- the oaths that are due -/
def pb_rOath (R : fm_M) (o i0 : Nat) (r : Nat → Int32) (k : Nat) : Int32 := if 14 + i0 ≤ k ∧ k < 14 + o ∧ (R.1 9 (k - 14) = r 0 ∧ r k = nI 0) then (if r (2 + (R.1 8 (k - 14)).toNatClampNeg) = R.1 7 (k - 14) then nI 1 else nI 2) else r k
/-- a stroke for each town's bell -/
def pb_rStr (m t0 : Nat) (b : Nat → Nat) (r : Nat → Int32) (k : Nat) : Int32 := if 20 ≤ k ∧ t0 ≤ (k - 20) % 6 ∧ (k - 20) % 6 < m ∧ b ((k - 20) % 6) = (k - 20) / 6 then r k + nI 1 else r k
theorem pb_rOath_end {R : fm_M} {o : Nat} {r : Nat → Int32} : pb_rOath R o o r = r := by
  funext k
  unfold pb_rOath
  rw [if_neg (by omega)]
theorem pb_rStr_end {m : Nat} {b : Nat → Nat} {r : Nat → Int32} : pb_rStr m m b r = r := by
  funext k
  unfold pb_rStr
  rw [if_neg (by omega)]
theorem pb_rOath_step {R R2 : fm_M} {o i m : Nat} {r r' : Nat → Int32} {v : Int32} (ho : o ≤ 6) (hm : m ≤ 6) (x4 : ∀ i, i < o → ∃ t, t < m ∧ R.1 8 i = nI t) (h7 : R2.1 7 = R.1 7) (h8 : R2.1 8 = R.1 8) (h9 : R2.1 9 = R.1 9) (h : ∀ j, j < 56 → r' j = if j = 14 + i then v else r j) (hv : v = pb_rOath R o i r (14 + i)) (j : Nat) (hj : j < 56) : pb_rOath R2 o (i + 1) r' j = pb_rOath R o i r j := by
  by_cases ej : j = 14 + i
  · have e1 : pb_rOath R2 o (i + 1) r' j = r' j := by
      unfold pb_rOath
      exact if_neg (by omega)
    rw [e1, h j hj, if_pos ej, hv, ej]
  · have e0 : r' 0 = r 0 := by rw [h 0 (by omega), if_neg (by omega)]
    have ejj : r' j = r j := by rw [h j hj, if_neg ej]
    unfold pb_rOath
    rw [h7, h8, h9, e0, ejj]
    by_cases cj : 14 + i ≤ j ∧ j < 14 + o ∧ (R.1 9 (j - 14) = r 0 ∧ r j = nI 0)
    · obtain ⟨t', ht', et'⟩ := x4 (j - 14) (by omega)
      have cj' : 14 + (i + 1) ≤ j ∧ j < 14 + o ∧ (R.1 9 (j - 14) = r 0 ∧ r j = nI 0) := ⟨by omega, cj.2.1, cj.2.2⟩
      rw [if_pos cj', if_pos cj, et', pb_cl (by omega), h (2 + t') (by omega), if_neg (by omega : ¬ 2 + t' = 14 + i)]
    · have cj' : ¬ (14 + (i + 1) ≤ j ∧ j < 14 + o ∧ (R.1 9 (j - 14) = r 0 ∧ r j = nI 0)) := fun h => cj ⟨by omega, h.2.1, h.2.2⟩
      rw [if_neg cj', if_neg cj]
/-- component: the oaths' loop -/
theorem pb_over2 {n bk a o m : Nat} {R : fm_M} (ho : o ≤ 6) (hm : m ≤ 6) (ha : a + 11 ≤ bk ∨ bk + 21 ≤ a) (x4 : ∀ i, i < o → ∃ t, t < m ∧ R.1 8 i = nI t) : ∀ (k i : Nat) (C : fm_M), C.1 bk 9 = nI o → (∀ i, i < o → C.1 (bk + 18) i = R.1 7 i ∧ C.1 (bk + 19) i = R.1 8 i ∧ C.1 (bk + 20) i = R.1 9 i) → i ≤ o → o < i + k → ∃ C', fX2_over_2 n bk a k C (nI i) = fX2_over_114 n bk a n C' (nI 0) ∧ (∀ c, c ≠ a + 3 → C'.1 c = C.1 c) ∧ (∀ j, j < 56 → pb_pl C' a j = pb_rOath R o i (pb_pl C a) j) ∧ C'.2 = C.2 := by
  intro k
  induction k with
  | zero => intro i C h0 h1 h2 h3; omega
  | succ k ih =>
    intro i C c9 hx h1 h2
    rw [fX2_over_2]
    by_cases hi : i = o
    · subst hi
      simp (disch := omega) only [pb_l0, pb_l1, pb_l2, pb_l3, pb_l4, pb_l5, pb_l6, pb_l7, pb_l8, pb_l9, pb_l10, pb_l12, pb_l14, pb_l20, pb_l32, pb_l36, pb_l48, pb_l56, pb_l57, pb_l59, pb_l60, pb_l72, pb_l99, pb_l100, pb_l111, pb_l116, pb_l200, pb_l255, pb_l504, pb_l560, pb_l1000, pb_l9999, pb_l10000, pb_l100000, pb_l1000000, nI_add, pk_mul, pb_cl, pb_b, pb_le_t, pb_le_f, pb_lt_t, pb_lt_f, pb_eq_t, pb_eq_f, c9]
      exact ⟨C, rfl, fun _ _ => rfl, fun j hj => by rw [pb_rOath_end], rfl⟩
    · obtain ⟨t, ht, et⟩ := x4 i (by omega)
      obtain ⟨y1, y2, y3⟩ := hx i (by omega)
      have key : ∀ v : Int32, v = pb_rOath R o i (pb_pl C a) (14 + i) → ∃ C', fX2_over_2 n bk a k (fm_wr C (a + 3) i v) (nI (i + 1)) = fX2_over_114 n bk a n C' (nI 0) ∧ (∀ c, c ≠ a + 3 → C'.1 c = C.1 c) ∧ (∀ j, j < 56 → pb_pl C' a j = pb_rOath R o i (pb_pl C a) j) ∧ C'.2 = C.2 := by
        intro v hv
        obtain ⟨C', e1, e2, e3, e4⟩ := ih (i + 1) (fm_wr C (a + 3) i v) (by rw [pb_wr_n (by omega)]; exact c9) (fun j hj => by rw [pb_wr_n (by omega), pb_wr_n (by omega), pb_wr_n (by omega)]; exact hx j hj) (by omega) (by omega)
        have hpl : ∀ j, j < 56 → pb_pl (fm_wr C (a + 3) i v) a j = if j = 14 + i then v else pb_pl C a j := by
          intro j hj
          by_cases ej : j = 14 + i
          · subst ej
            rw [if_pos rfl, pb_pl_oath (by omega), pb_wr_e, pb_up_e]
          · rw [if_neg ej]
            unfold pb_pl
            rw [pb_wr_n (by omega), pb_wr_n (by omega), pb_wr_n (by omega), pb_wr_e]
            by_cases j1 : j < 14
            · rw [if_pos j1, if_pos j1]
            · rw [if_neg (by omega : ¬ j < 2), if_neg (by omega : ¬ j < 2), if_neg (by omega : ¬ j < 8), if_neg (by omega : ¬ j < 8), if_neg j1, if_neg j1]
              by_cases j2 : j < 20
              · rw [if_pos j2, if_pos j2, pb_up_n (by omega)]
              · rw [if_neg j2, if_neg j2, pb_wr_n (by omega)]
        exact ⟨C', e1, fun c hc => (e2 c hc).trans (pb_wr_n hc), fun j hj => (e3 j hj).trans (pb_rOath_step ho hm x4 rfl rfl rfl hpl hv j hj), e4⟩
      have e0 : pb_pl C a (14 + i) = C.1 (a + 3) i := pb_pl_oath (by omega)
      have e00 : pb_pl C a 0 = C.1 a 0 := rfl
      have eb : pb_pl C a (2 + t) = C.1 (a + 1) t := pb_pl_bell (by omega)
      have hro : pb_rOath R o i (pb_pl C a) (14 + i) = if (R.1 9 i = C.1 a 0 ∧ C.1 (a + 3) i = nI 0) then (if C.1 (a + 1) t = R.1 7 i then nI 1 else nI 2) else C.1 (a + 3) i := by
        unfold pb_rOath
        rw [show 14 + i - 14 = i by omega, e0, e00, et, pb_cl (by omega), eb]
        by_cases c : R.1 9 i = C.1 a 0 ∧ C.1 (a + 3) i = nI 0
        · rw [if_pos ⟨by omega, by omega, c⟩, if_pos c]
        · rw [if_neg (fun h => c h.2.2), if_neg c]
      simp (disch := omega) only [pb_l0, pb_l1, pb_l2, pb_l3, pb_l4, pb_l5, pb_l6, pb_l7, pb_l8, pb_l9, pb_l10, pb_l12, pb_l14, pb_l20, pb_l32, pb_l36, pb_l48, pb_l56, pb_l57, pb_l59, pb_l60, pb_l72, pb_l99, pb_l100, pb_l111, pb_l116, pb_l200, pb_l255, pb_l504, pb_l560, pb_l1000, pb_l9999, pb_l10000, pb_l100000, pb_l1000000, nI_add, pk_mul, pb_cl, pb_b, pb_le_t, pb_le_f, pb_lt_t, pb_lt_f, pb_eq_t, pb_eq_f, c9, y1, y2, y3, fX2_over_49, fX2_over_48, fm_let, et]
      by_cases q1 : C.1 (a + 3) i = nI 0
      · by_cases q2 : R.1 9 i = C.1 a 0
        · by_cases q3 : C.1 (a + 1) t = R.1 7 i
          · simp only [pb_ifp q1, pb_ifp q2, pb_ifp q3]
            exact key _ (by rw [hro, if_pos ⟨q2, q1⟩, if_pos q3])
          · simp only [pb_ifp q1, pb_ifp q2, pb_ifn q3]
            exact key _ (by rw [hro, if_pos ⟨q2, q1⟩, if_neg q3])
        · simp only [pb_ifp q1, pb_ifn q2]
          exact key _ (by rw [hro, if_neg (fun h => q2 h.1)])
      · simp only [pb_ifn q1]
        exact key _ (by rw [hro, if_neg (fun h => q1 h.2)])
/-- component: the strokes' loop -/
theorem pb_over114 {n bk a m : Nat} {b : Nat → Nat} (hm : m ≤ 6) (ha : a + 11 ≤ bk ∨ bk + 21 ≤ a) (hb : ∀ t, t < m → b t < m) : ∀ (k t : Nat) (C : fm_M), C.1 bk 8 = nI m → (∀ t, t < m → C.1 (a + 1) t = nI (b t)) → t ≤ m → m < t + k → ∃ C', fX2_over_114 n bk a k C (nI t) = some C' ∧ (∀ c, (c < a + 5 ∨ a + 11 ≤ c) → C'.1 c = C.1 c) ∧ (∀ j, j < 56 → pb_pl C' a j = pb_rStr m t b (pb_pl C a) j) ∧ C'.2 = C.2 := by
  intro k
  induction k with
  | zero => intro i C h0 h1 h2 h3; omega
  | succ k ih =>
    intro t C c8 hc h1 h2
    rw [fX2_over_114]
    by_cases ht : t = m
    · subst ht
      simp (disch := omega) only [pb_l0, pb_l1, pb_l2, pb_l3, pb_l4, pb_l5, pb_l6, pb_l7, pb_l8, pb_l9, pb_l10, pb_l12, pb_l14, pb_l20, pb_l32, pb_l36, pb_l48, pb_l56, pb_l57, pb_l59, pb_l60, pb_l72, pb_l99, pb_l100, pb_l111, pb_l116, pb_l200, pb_l255, pb_l504, pb_l560, pb_l1000, pb_l9999, pb_l10000, pb_l100000, pb_l1000000, nI_add, pk_mul, pb_cl, pb_b, pb_le_t, pb_le_f, pb_lt_t, pb_lt_f, pb_eq_t, pb_eq_f, c8]
      exact ⟨C, rfl, fun _ _ => rfl, fun j hj => by rw [pb_rStr_end], rfl⟩
    · have hbt := hb t (by omega)
      simp (disch := omega) only [pb_l0, pb_l1, pb_l2, pb_l3, pb_l4, pb_l5, pb_l6, pb_l7, pb_l8, pb_l9, pb_l10, pb_l12, pb_l14, pb_l20, pb_l32, pb_l36, pb_l48, pb_l56, pb_l57, pb_l59, pb_l60, pb_l72, pb_l99, pb_l100, pb_l111, pb_l116, pb_l200, pb_l255, pb_l504, pb_l560, pb_l1000, pb_l9999, pb_l10000, pb_l100000, pb_l1000000, nI_add, pk_mul, pb_cl, pb_b, pb_le_t, pb_le_f, pb_lt_t, pb_lt_f, pb_eq_t, pb_eq_f, c8, hc, fm_let]
      obtain ⟨C', e1, e2, e3, e4⟩ := ih (t + 1) (fm_wr C (a + 5 + b t) t (C.1 (a + 5 + b t) t + nI 1)) (by rw [pb_wr_n (by omega)]; exact c8) (fun j hj => by rw [pb_wr_n (by omega)]; exact hc j hj) (by omega) (by omega)
      refine ⟨C', e1, fun c hc => (e2 c hc).trans (pb_wr_n (by omega)), fun j hj => ?_, e4⟩
      rw [e3 j hj]
      have hpl : pb_pl (fm_wr C (a + 5 + b t) t (C.1 (a + 5 + b t) t + nI 1)) a j = if j = 20 + 6 * b t + t then pb_pl C a j + nI 1 else pb_pl C a j := by
        by_cases ej : j = 20 + 6 * b t + t
        · subst ej
          rw [if_pos rfl, pb_pl_stroke (by omega), pb_pl_stroke (by omega), pb_wr_e, pb_up_e]
        · rw [if_neg ej]
          unfold pb_pl
          rw [pb_wr_n (by omega), pb_wr_n (by omega), pb_wr_n (by omega), pb_wr_n (by omega)]
          by_cases j2 : j < 20
          · rw [if_pos j2, if_pos j2]
          · rw [if_neg j2, if_neg j2]
            by_cases j3 : (j - 20) / 6 = b t
            · rw [j3, pb_wr_e, pb_up_n (by omega)]
            · rw [pb_wr_n (by omega)]
      unfold pb_rStr
      rw [hpl]
      by_cases ej : j = 20 + 6 * b t + t
      · have z1 : (j - 20) % 6 = t := by omega
        have z2 : (j - 20) / 6 = b t := by omega
        rw [if_neg (by omega), if_pos ej, if_pos ⟨by omega, by omega, by omega, by rw [z1, z2]⟩]
      · rw [if_neg ej]
        by_cases cj : 20 ≤ j ∧ t ≤ (j - 20) % 6 ∧ (j - 20) % 6 < m ∧ b ((j - 20) % 6) = (j - 20) / 6
        · have z : (j - 20) % 6 ≠ t := fun z => by
            have := cj.2.2.2
            rw [z] at this
            omega
          rw [if_pos cj, if_pos ⟨cj.1, by omega, cj.2.2.1, cj.2.2.2⟩]
        · rw [if_neg cj, if_neg (fun h => cj ⟨h.1, by omega, h.2.2.1, h.2.2.2⟩)]
/-- reference: the oaths' loop -/
theorem pb_drawn2 {n c o m z : Nat} (hc : c = 11 ∨ c = 12) (ho : o ≤ 6) (hm : m ≤ 6) : ∀ (k i : Nat) (R : fm_M), R.1 2 1 = nI o → (∀ i, i < o → ∃ t, t < m ∧ R.1 8 i = nI t) → i ≤ o → o < i + k → ∃ R', fX9_drawn_2 n c k R (nI z) (nI i) = (fm_bv (fX9_draws n R' (nI z)) fun M3 => fX9_drawn_76 n c n M3 (nI 0)) ∧ (∀ c', c' ≠ c → R'.1 c' = R.1 c') ∧ (∀ j, j < 56 → R'.1 c j = pb_rOath R o i (R.1 c) j) ∧ R'.2 = R.2 := by
  intro k
  induction k with
  | zero => intro i R h0 h1 h2 h3; omega
  | succ k ih =>
    intro i R r1 x4 h1 h2
    rw [fX9_drawn_2]
    by_cases hi : i = o
    · subst hi
      simp (disch := omega) only [pb_l0, pb_l1, pb_l2, pb_l3, pb_l4, pb_l5, pb_l6, pb_l7, pb_l8, pb_l9, pb_l10, pb_l12, pb_l14, pb_l20, pb_l32, pb_l36, pb_l48, pb_l56, pb_l57, pb_l59, pb_l60, pb_l72, pb_l99, pb_l100, pb_l111, pb_l116, pb_l200, pb_l255, pb_l504, pb_l560, pb_l1000, pb_l9999, pb_l10000, pb_l100000, pb_l1000000, nI_add, pk_mul, pb_cl, pb_b, pb_le_t, pb_le_f, pb_lt_t, pb_lt_f, pb_eq_t, pb_eq_f, r1]
      exact ⟨R, rfl, fun _ _ => rfl, fun j hj => by rw [pb_rOath_end], rfl⟩
    · obtain ⟨t, ht, et⟩ := x4 i (by omega)
      have hro : pb_rOath R o i (R.1 c) (14 + i) = if (R.1 9 i = R.1 c 0 ∧ R.1 c (14 + i) = nI 0) then (if R.1 c (2 + t) = R.1 7 i then nI 1 else nI 2) else R.1 c (14 + i) := by
        unfold pb_rOath
        rw [show 14 + i - 14 = i by omega, et, pb_cl (by omega)]
        by_cases c' : R.1 9 i = R.1 c 0 ∧ R.1 c (14 + i) = nI 0
        · rw [if_pos ⟨by omega, by omega, c'⟩, if_pos c']
        · rw [if_neg (fun h => c' h.2.2), if_neg c']
      have rest : ∀ (R2 : fm_M) (v : Int32), v = pb_rOath R o i (R.1 c) (14 + i) → (∀ c', c' ≠ c → R2.1 c' = R.1 c') → (∀ j, j < 56 → R2.1 c j = if j = 14 + i then v else R.1 c j) → R2.2 = R.2 → ∃ R', fX9_drawn_2 n c k R2 (nI z) (nI (i + 1)) = (fm_bv (fX9_draws n R' (nI z)) fun M3 => fX9_drawn_76 n c n M3 (nI 0)) ∧ (∀ c', c' ≠ c → R'.1 c' = R.1 c') ∧ (∀ j, j < 56 → R'.1 c j = pb_rOath R o i (R.1 c) j) ∧ R'.2 = R.2 := by
        intro R2 v hv w1 w2 w3
        obtain ⟨R', e1, e2, e3, e4⟩ := ih (i + 1) R2 (by rw [w1 2 (by omega)]; exact r1) (fun j hj => by rw [w1 8 (by omega)]; exact x4 j hj) (by omega) (by omega)
        exact ⟨R', e1, fun c' h' => (e2 c' h').trans (w1 c' h'), fun j hj => (e3 j hj).trans (pb_rOath_step ho hm x4 (w1 7 (by omega)) (w1 8 (by omega)) (w1 9 (by omega)) w2 hv j hj), e4.trans w3⟩
      have keyW : ∀ v : Int32, v = pb_rOath R o i (R.1 c) (14 + i) → ∃ R', fX9_drawn_2 n c k (fm_wr R c (14 + i) v) (nI z) (nI (i + 1)) = (fm_bv (fX9_draws n R' (nI z)) fun M3 => fX9_drawn_76 n c n M3 (nI 0)) ∧ (∀ c', c' ≠ c → R'.1 c' = R.1 c') ∧ (∀ j, j < 56 → R'.1 c j = pb_rOath R o i (R.1 c) j) ∧ R'.2 = R.2 := fun v hv => rest _ v hv (fun c' h' => pb_wr_n h') (fun j hj => by
          rw [pb_wr_e]
          by_cases ej : j = 14 + i
          · rw [ej, pb_up_e, if_pos rfl]
          · rw [pb_up_n ej, if_neg ej]) rfl
      have keyN : R.1 c (14 + i) = pb_rOath R o i (R.1 c) (14 + i) → ∃ R', fX9_drawn_2 n c k R (nI z) (nI (i + 1)) = (fm_bv (fX9_draws n R' (nI z)) fun M3 => fX9_drawn_76 n c n M3 (nI 0)) ∧ (∀ c', c' ≠ c → R'.1 c' = R.1 c') ∧ (∀ j, j < 56 → R'.1 c j = pb_rOath R o i (R.1 c) j) ∧ R'.2 = R.2 := fun hv => rest R _ hv (fun c' h' => rfl) (fun j hj => by
          by_cases ej : j = 14 + i
          · rw [if_pos ej, ej]
          · rw [if_neg ej]) rfl
      simp (disch := omega) only [pb_l0, pb_l1, pb_l2, pb_l3, pb_l4, pb_l5, pb_l6, pb_l7, pb_l8, pb_l9, pb_l10, pb_l12, pb_l14, pb_l20, pb_l32, pb_l36, pb_l48, pb_l56, pb_l57, pb_l59, pb_l60, pb_l72, pb_l99, pb_l100, pb_l111, pb_l116, pb_l200, pb_l255, pb_l504, pb_l560, pb_l1000, pb_l9999, pb_l10000, pb_l100000, pb_l1000000, nI_add, pk_mul, pb_cl, pb_b, pb_le_t, pb_le_f, pb_lt_t, pb_lt_f, pb_eq_t, pb_eq_f, r1, fm_let, et]
      by_cases q2 : R.1 9 i = R.1 c 0
      · by_cases q1 : R.1 c (14 + i) = nI 0
        · by_cases q3 : R.1 c (2 + t) = R.1 7 i
          · simp only [pb_ifp q1, pb_ifp q2, pb_ifp q3]
            exact keyW _ (by rw [hro, if_pos ⟨q2, q1⟩, if_pos q3])
          · simp only [pb_ifp q1, pb_ifp q2, pb_ifn q3]
            exact keyW _ (by rw [hro, if_pos ⟨q2, q1⟩, if_neg q3])
        · simp only [pb_ifp q2, pb_ifn q1]
          exact keyN (by rw [hro, if_neg (fun h => q1 h.2)])
      · simp only [pb_ifn q2]
        exact keyN (by rw [hro, if_neg (fun h => q2 h.1)])
/-- reference: strokes and the new bells -/
theorem pb_drawn76 {n c m : Nat} {b q : Nat → Nat} (hc : c = 11 ∨ c = 12) (hm : m ≤ 6) (hb : ∀ t, t < m → b t < m) (hq : ∀ t, t < m → q t < m) : ∀ (k t : Nat) (R : fm_M), R.1 2 0 = nI m → (∀ t, t < m → R.1 c (2 + t) = nI (b t)) → (∀ t, t < m → R.1 18 t = nI (q t)) → t ≤ m → m < t + k → ∃ R', fX9_drawn_76 n c k R (nI t) = fX9_drawn_129 n c n R' (nI 0) ∧ (∀ c', c' ≠ c → c' ≠ 19 → R'.1 c' = R.1 c') ∧ (∀ j, j < 56 → R'.1 c j = pb_rStr m t b (R.1 c) j) ∧ (∀ j, j < m → R'.1 19 j = if t ≤ j then nI (b (q j)) else R.1 19 j) ∧ R'.2 = R.2 := by
  intro k
  induction k with
  | zero => intro i R h0 h1 h2 h3; omega
  | succ k ih =>
    intro t R r0 hr hl h1 h2
    rw [fX9_drawn_76]
    by_cases ht : t = m
    · subst ht
      simp (disch := omega) only [pb_l0, pb_l1, pb_l2, pb_l3, pb_l4, pb_l5, pb_l6, pb_l7, pb_l8, pb_l9, pb_l10, pb_l12, pb_l14, pb_l20, pb_l32, pb_l36, pb_l48, pb_l56, pb_l57, pb_l59, pb_l60, pb_l72, pb_l99, pb_l100, pb_l111, pb_l116, pb_l200, pb_l255, pb_l504, pb_l560, pb_l1000, pb_l9999, pb_l10000, pb_l100000, pb_l1000000, nI_add, pk_mul, pb_cl, pb_b, pb_le_t, pb_le_f, pb_lt_t, pb_lt_f, pb_eq_t, pb_eq_f, r0]
      exact ⟨R, rfl, fun _ _ _ => rfl, fun j hj => by rw [pb_rStr_end], fun j hj => by rw [if_neg (by omega)], rfl⟩
    · have hbt := hb t (by omega)
      have hqt := hq t (by omega)
      simp (disch := omega) only [pb_l0, pb_l1, pb_l2, pb_l3, pb_l4, pb_l5, pb_l6, pb_l7, pb_l8, pb_l9, pb_l10, pb_l12, pb_l14, pb_l20, pb_l32, pb_l36, pb_l48, pb_l56, pb_l57, pb_l59, pb_l60, pb_l72, pb_l99, pb_l100, pb_l111, pb_l116, pb_l200, pb_l255, pb_l504, pb_l560, pb_l1000, pb_l9999, pb_l10000, pb_l100000, pb_l1000000, nI_add, pk_mul, pb_cl, pb_b, pb_le_t, pb_le_f, pb_lt_t, pb_lt_f, pb_eq_t, pb_eq_f, r0, hr, hl, pb_wr_e, pb_wr_n, pb_row_e, pb_row_n, pb_up_e, pb_up_n, pb_wr_2, pb_row_2, fm_let]
      obtain ⟨R', e1, e2, e3, e4, e5⟩ := ih (t + 1) (fm_wr (fm_wr R c (20 + 6 * b t + t) (R.1 c (20 + 6 * b t + t) + nI 1)) 19 t (nI (b (q t)))) (by rw [pb_wr_n (by omega), pb_wr_n (by omega)]; exact r0) (fun j hj => by rw [pb_wr_n (by omega), pb_wr_e, pb_up_n (by omega)]; exact hr j hj) (fun j hj => by rw [pb_wr_n (by omega), pb_wr_n (by omega)]; exact hl j hj) (by omega) (by omega)
      refine ⟨R', e1, fun c' h' h'' => (e2 c' h' h'').trans (by rw [pb_wr_n h'', pb_wr_n h']), fun j hj => ?_, fun j hj => ?_, e5⟩
      · rw [e3 j hj, pb_wr_n (by omega), pb_wr_e]
        unfold pb_rStr
        by_cases ej : j = 20 + 6 * b t + t
        · have z1 : (j - 20) % 6 = t := by omega
          have z2 : (j - 20) / 6 = b t := by omega
          rw [if_neg (by omega), if_pos ⟨by omega, by omega, by omega, by rw [z1, z2]⟩, ej, pb_up_e]
        · rw [pb_up_n ej]
          by_cases cj : 20 ≤ j ∧ t ≤ (j - 20) % 6 ∧ (j - 20) % 6 < m ∧ b ((j - 20) % 6) = (j - 20) / 6
          · have z : (j - 20) % 6 ≠ t := fun z => by
              have := cj.2.2.2
              rw [z] at this
              omega
            rw [if_pos cj, if_pos ⟨cj.1, by omega, cj.2.2.1, cj.2.2.2⟩]
          · rw [if_neg cj, if_neg (fun h => cj ⟨h.1, by omega, h.2.2.1, h.2.2.2⟩)]
      · rw [e4 j hj]
        by_cases ej : j = t
        · subst ej
          rw [if_neg (by omega), if_pos (by omega), pb_wr_e, pb_up_e]
        · by_cases e2 : t + 1 ≤ j
          · rw [if_pos e2, if_pos (by omega)]
          · rw [if_neg e2, if_neg (by omega), pb_wr_e, pb_up_n ej, pb_wr_n (by omega)]
