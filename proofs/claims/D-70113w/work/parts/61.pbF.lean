/-! the round of a lot, which lots fit what was found -/
set_option maxRecDepth 100000
theorem pb_pigeon : ∀ (n : Nat) (f : Nat → Nat), (∀ i, i ≤ n → f i < n) → ∃ i j, i < j ∧ j ≤ n ∧ f i = f j := by
  intro n
  induction n with
  | zero => intro f h; have := h 0 (by omega); omega
  | succ n ih =>
    intro f h
    by_cases hx : ∃ i, i ≤ n ∧ f i = f (n + 1)
    · obtain ⟨i, hi, e⟩ := hx
      exact ⟨i, n + 1, by omega, by omega, e⟩
    · have hne : ∀ i, i ≤ n → f i ≠ f (n + 1) := fun i hi e => hx ⟨i, hi, e⟩
      obtain ⟨i, j, h1, h2, e⟩ := ih (fun i => if f i = n then f (n + 1) else f i) (fun i hi => by
        have a1 := h i (by omega)
        have a2 := h (n + 1) (by omega)
        have a3 := hne i hi
        show (if f i = n then f (n + 1) else f i) < n
        split <;> omega)
      have e' : (if f i = n then f (n + 1) else f i) = (if f j = n then f (n + 1) else f j) := e
      have a3 := hne i (by omega)
      have a4 := hne j (by omega)
      split at e' <;> split at e' <;> first | exact ⟨i, j, h1, by omega, by omega⟩ | omega
def pb_it (q : Nat → Nat) : Nat → Nat → Nat
  | 0, t => t
  | j + 1, t => q (pb_it q j t)
theorem pb_it_lt {m : Nat} {q : Nat → Nat} (hq : pb_perm m q) {t : Nat} (ht : t < m) : ∀ j, pb_it q j t < m := by
  intro j
  induction j with
  | zero => exact ht
  | succ j ih => exact hq.1 _ ih
theorem pb_it_add {q : Nat → Nat} {t : Nat} : ∀ i j, pb_it q (i + j) t = pb_it q i (pb_it q j t) := by
  intro i
  induction i with
  | zero => intro j; rw [Nat.zero_add]; rfl
  | succ i ih => intro j; rw [show i + 1 + j = (i + j) + 1 by omega, pb_it, pb_it, ih]
theorem pb_it_inj {m : Nat} {q : Nat → Nat} (hq : pb_perm m q) : ∀ (i a b : Nat), a < m → b < m → pb_it q i a = pb_it q i b → a = b := by
  intro i
  induction i with
  | zero => intro a b _ _ h; exact h
  | succ i ih =>
    intro a b ha hb h
    exact ih a b ha hb (hq.2.1 _ _ (pb_it_lt hq ha i) (pb_it_lt hq hb i) h)
theorem pb_it_mul {q : Nat → Nat} {t r : Nat} (h : pb_it q r t = t) : ∀ c, pb_it q (r * c) t = t := by
  intro c
  induction c with
  | zero => rfl
  | succ c ih => rw [Nat.mul_succ, pb_it_add, h, ih]
theorem pb_it60 {m : Nat} {q : Nat → Nat} (hm : m ≤ 6) (hq : pb_perm m q) {t : Nat} (ht : t < m) : pb_it q 60 t = t := by
  obtain ⟨i, j, h1, h2, e⟩ := pb_pigeon m (fun j => pb_it q j t) (fun i _ => pb_it_lt hq ht i)
  have e' : pb_it q i t = pb_it q j t := e
  have h3 : pb_it q (j - i) t = t := by
    rw [show j = i + (j - i) by omega, pb_it_add] at e'
    exact (pb_it_inj hq i _ _ ht (pb_it_lt hq ht _) e').symm
  have h4 : j - i = 1 ∨ j - i = 2 ∨ j - i = 3 ∨ j - i = 4 ∨ j - i = 5 ∨ j - i = 6 := by omega
  rcases h4 with h4 | h4 | h4 | h4 | h4 | h4 <;> rw [h4] at h3
  · exact pb_it_mul h3 60
  · exact pb_it_mul h3 30
  · exact pb_it_mul h3 20
  · exact pb_it_mul h3 15
  · exact pb_it_mul h3 12
  · exact pb_it_mul h3 10
/-- one turn of the round -/
theorem pb_turn {n bk m : Nat} {q g : Nat → Nat} {P : Option (Int32 × fm_M) → Option (Int32 × fm_M) → Prop} (hm : m ≤ 6) (hbk : bk ≠ 7) (hq : ∀ t, t < m → q t < m) (hg : ∀ t, t < m → g t < m) (k44 : fm_M → Int32 → Int32 → Option (Int32 × fm_M)) (k56 : fm_M → Int32 → Int32 → Option (Int32 × fm_M)) (x : Int32) : ∀ (k t : Nat) (C R : fm_M) (is : Bool), C.1 bk 8 = nI m → R.1 2 0 = nI m → (∀ t, t < m → C.1 2 t = nI (q t) ∧ R.1 18 t = nI (q t)) → (∀ j, t ≤ j → j < m → C.1 7 j = nI (g j) ∧ R.1 19 j = nI (g j)) → (∀ j, j < t → C.1 7 j = nI (q (g j)) ∧ R.1 19 j = nI (q (g j))) → t ≤ m → m < t + k →
    (∀ C' R' is', (∀ c, c ≠ 7 → C'.1 c = C.1 c) → C'.2 = C.2 → (∀ c, c ≠ 19 → R'.1 c = R.1 c) → R'.2 = R.2 → (∀ j, j < m → C'.1 7 j = nI (q (g j)) ∧ R'.1 19 j = nI (q (g j))) → ((is' = true) ↔ (is = true ∧ ∀ j, t ≤ j → j < m → q (g j) = j)) → P (k44 C' (x + nI 1) (if is' = true then nI 1 else nI 0)) (k56 R' (x + nI 1) (if is' = true then nI 0 else nI 1))) →
    P (fX0_round_53 n bk k44 k C x (if is = true then nI 1 else nI 0) (nI t)) (fX9_round_68 n k56 k R (x + nI 1) (if is = true then nI 0 else nI 1) (nI t)) := by
  intro k
  induction k with
  | zero => intro t C R is h0 h1 h2 h3 h4 h5 h6; omega
  | succ k ih =>
    intro t C R is c8 r0 hl ho hd h1 h2 hP
    rw [fX0_round_53, fX9_round_68]
    by_cases ht : t = m
    · simp (disch := omega) only [pb_l0, pb_l1, pb_l2, pb_l3, pb_l4, pb_l5, pb_l6, pb_l7, pb_l8, pb_l9, pb_l10, pb_l12, pb_l14, pb_l20, pb_l32, pb_l36, pb_l48, pb_l56, pb_l57, pb_l59, pb_l60, pb_l72, pb_l99, pb_l100, pb_l111, pb_l116, pb_l200, pb_l255, pb_l504, pb_l560, pb_l1000, pb_l9999, pb_l10000, pb_l100000, pb_l1000000, nI_add, pk_mul, pb_cl, pb_b, pb_le_t, pb_le_f, pb_lt_t, pb_lt_f, pb_eq_t, pb_eq_f, c8, r0]
      exact hP C R is (fun _ _ => rfl) rfl (fun _ _ => rfl) rfl (fun j hj => hd j (by omega)) ⟨fun h => ⟨h, fun j h1 h2 => by omega⟩, fun h => h.1⟩
    · have hgt := hg t (by omega)
      have hqg := hq _ hgt
      have o1 := (ho t (by omega) (by omega)).1
      have o2 := (ho t (by omega) (by omega)).2
      have l1 := (hl _ hgt).1
      have l2 := (hl _ hgt).2
      have step : ∀ is1 : Bool, ((is1 = true) ↔ (is = true ∧ q (g t) = t)) → P (fX0_round_53 n bk k44 k (fm_wr C 7 t (nI (q (g t)))) x (if is1 = true then nI 1 else nI 0) (nI (t + 1))) (fX9_round_68 n k56 k (fm_wr R 19 t (nI (q (g t)))) (x + nI 1) (if is1 = true then nI 0 else nI 1) (nI (t + 1))) := by
        intro is1 h1s
        refine ih (t + 1) _ _ is1 (by rw [pb_wr_n hbk]; exact c8) (by rw [pb_wr_n (by omega)]; exact r0) (fun j hj => by rw [pb_wr_n (by omega), pb_wr_n (by omega)]; exact hl j hj) (fun j h3 h4 => by rw [pb_wr_e, pb_wr_e, pb_up_n (by omega), pb_up_n (by omega)]; exact ho j (by omega) h4) (fun j hj => ?_) (by omega) (by omega) (fun C' R' is' w1 w2 w3 w4 w5 w6 => hP C' R' is' (fun c hc => (w1 c hc).trans (pb_wr_n hc)) w2 (fun c hc => (w3 c hc).trans (pb_wr_n hc)) w4 w5 (w6.trans ?_))
        · rw [pb_wr_e, pb_wr_e]
          by_cases ej : j = t
          · subst ej; rw [pb_up_e, pb_up_e]; exact ⟨rfl, rfl⟩
          · rw [pb_up_n ej, pb_up_n ej]; exact hd j (by omega)
        · rw [h1s]
          constructor
          · intro h
            refine ⟨h.1.1, fun j h3 h4 => ?_⟩
            by_cases ej : j = t
            · subst ej; exact h.1.2
            · exact h.2 j (by omega) h4
          · intro h
            exact ⟨⟨h.1, h.2 t (by omega) (by omega)⟩, fun j h3 h4 => h.2 j (by omega) h4⟩
      cases is
      · simp (disch := omega) only [pb_l0, pb_l1, pb_l2, pb_l3, pb_l4, pb_l5, pb_l6, pb_l7, pb_l8, pb_l9, pb_l10, pb_l12, pb_l14, pb_l20, pb_l32, pb_l36, pb_l48, pb_l56, pb_l57, pb_l59, pb_l60, pb_l72, pb_l99, pb_l100, pb_l111, pb_l116, pb_l200, pb_l255, pb_l504, pb_l560, pb_l1000, pb_l9999, pb_l10000, pb_l100000, pb_l1000000, nI_add, pk_mul, pb_cl, pb_b, pb_le_t, pb_le_f, pb_lt_t, pb_lt_f, pb_eq_t, pb_eq_f, c8, r0, fm_let, o1, o2, l1, l2, Bool.false_eq_true, if_false]
        exact step false ⟨fun h => (by cases h), fun h => (by cases h.1)⟩
      · by_cases e : q (g t) = t
        · simp (disch := omega) only [pb_l0, pb_l1, pb_l2, pb_l3, pb_l4, pb_l5, pb_l6, pb_l7, pb_l8, pb_l9, pb_l10, pb_l12, pb_l14, pb_l20, pb_l32, pb_l36, pb_l48, pb_l56, pb_l57, pb_l59, pb_l60, pb_l72, pb_l99, pb_l100, pb_l111, pb_l116, pb_l200, pb_l255, pb_l504, pb_l560, pb_l1000, pb_l9999, pb_l10000, pb_l100000, pb_l1000000, nI_add, pk_mul, pb_cl, pb_b, pb_le_t, pb_le_f, pb_lt_t, pb_lt_f, pb_eq_t, pb_eq_f, c8, r0, fm_let, o1, o2, l1, l2, if_true, pb_wr_e, pb_up_e]
          exact step true ⟨fun _ => ⟨rfl, e⟩, fun _ => rfl⟩
        · simp (disch := omega) only [pb_l0, pb_l1, pb_l2, pb_l3, pb_l4, pb_l5, pb_l6, pb_l7, pb_l8, pb_l9, pb_l10, pb_l12, pb_l14, pb_l20, pb_l32, pb_l36, pb_l48, pb_l56, pb_l57, pb_l59, pb_l60, pb_l72, pb_l99, pb_l100, pb_l111, pb_l116, pb_l200, pb_l255, pb_l504, pb_l560, pb_l1000, pb_l9999, pb_l10000, pb_l100000, pb_l1000000, nI_add, pk_mul, pb_cl, pb_b, pb_le_t, pb_le_f, pb_lt_t, pb_lt_f, pb_eq_t, pb_eq_f, c8, r0, fm_let, o1, o2, l1, l2, if_true, pb_wr_e, pb_up_e]
          exact step false ⟨fun h => (by cases h), fun h => absurd h.2 e⟩
theorem pb_round_while {n bk m : Nat} {q : Nat → Nat} (hn : 70 ≤ n) (hm : m ≤ 6) (hbk : bk ≠ 7) (hq : pb_perm m q) : ∀ (k j : Nat) (C R : fm_M) (x : Int32), C.1 bk 8 = nI m → R.1 2 0 = nI m → (∀ t, t < m → C.1 2 t = nI (q t) ∧ R.1 18 t = nI (q t)) → (∀ t, t < m → C.1 7 t = nI (pb_it q j t) ∧ R.1 19 t = nI (pb_it q j t)) → j < 60 → 61 < j + k → ∃ r C' R', fX0_round_44 n bk k C x (nI 0) = some (r, C') ∧ fX9_round_56 n k R x (nI 1) = some (r, R') ∧ (∀ c, c ≠ 7 → C'.1 c = C.1 c) ∧ C'.2 = C.2 ∧ (∀ c, c ≠ 19 → R'.1 c = R.1 c) ∧ R'.2 = R.2 := by
  intro k
  induction k with
  | zero => intro j C R x h0 h1 h2 h3 h4; omega
  | succ k ih =>
    intro j C R x c8 r0 hl hg h1 h2
    rw [fX0_round_44, fX9_round_56]
    simp (disch := omega) only [pb_l0, pb_l1, pb_l2, pb_l3, pb_l4, pb_l5, pb_l6, pb_l7, pb_l8, pb_l9, pb_l10, pb_l12, pb_l14, pb_l20, pb_l32, pb_l36, pb_l48, pb_l56, pb_l57, pb_l59, pb_l60, pb_l72, pb_l99, pb_l100, pb_l111, pb_l116, pb_l200, pb_l255, pb_l504, pb_l560, pb_l1000, pb_l9999, pb_l10000, pb_l100000, pb_l1000000, nI_add, pk_mul, pb_cl, pb_b, pb_le_t, pb_le_f, pb_lt_t, pb_lt_f, pb_eq_t, pb_eq_f]
    refine pb_turn (n := n) (bk := bk) (m := m) (q := q) (g := pb_it q j) (P := fun a b => ∃ r C' R', a = some (r, C') ∧ b = some (r, R') ∧ (∀ c, c ≠ 7 → C'.1 c = C.1 c) ∧ C'.2 = C.2 ∧ (∀ c, c ≠ 19 → R'.1 c = R.1 c) ∧ R'.2 = R.2) hm hbk hq.1 (fun t ht => pb_it_lt hq ht j) _ _ x n 0 C R true c8 r0 hl (fun j _ h => hg j h) (fun j h => by omega) (by omega) (by omega) (fun C' R' is' w1 w2 w3 w4 w5 w6 => ?_)
    cases is' with
    | true =>
      obtain ⟨k, rfl⟩ : ∃ i, k = i + 1 := ⟨k - 1, by omega⟩
      rw [fX0_round_44, fX9_round_56]
      simp (disch := omega) only [pb_l0, pb_l1, pb_l2, pb_l3, pb_l4, pb_l5, pb_l6, pb_l7, pb_l8, pb_l9, pb_l10, pb_l12, pb_l14, pb_l20, pb_l32, pb_l36, pb_l48, pb_l56, pb_l57, pb_l59, pb_l60, pb_l72, pb_l99, pb_l100, pb_l111, pb_l116, pb_l200, pb_l255, pb_l504, pb_l560, pb_l1000, pb_l9999, pb_l10000, pb_l100000, pb_l1000000, nI_add, pk_mul, pb_cl, pb_b, pb_le_t, pb_le_f, pb_lt_t, pb_lt_f, pb_eq_t, pb_eq_f, if_true]
      exact ⟨_, C', R', rfl, rfl, w1, w2, w3, w4⟩
    | false =>
      have hne : j + 1 ≠ 60 := by
        intro e
        have : ∀ t, 0 ≤ t → t < m → q (pb_it q j t) = t := fun t _ ht => by
          have := pb_it60 hm hq ht
          rw [← e] at this
          exact this
        have := w6.mpr ⟨rfl, this⟩
        cases this
      obtain ⟨r, C2, R2, e1, e2, e3, e4, e5, e6⟩ := ih (j + 1) C' R' (x + nI 1) (by rw [w1 bk hbk]; exact c8) (by rw [w3 2 (by omega)]; exact r0) (fun t ht => by rw [w1 2 (by omega), w3 18 (by omega)]; exact hl t ht) w5 (by omega) (by omega)
      simp only [Bool.false_eq_true, if_false]
      exact ⟨r, C2, R2, e1, e2, fun c hc => (e3 c hc).trans (w1 c hc), e4.trans w2, fun c hc => (e5 c hc).trans (w3 c hc), e6.trans w4⟩
theorem pb_round_init {n bk m : Nat} {Q : Option (Int32 × fm_M) → Option (Int32 × fm_M) → Prop} (hm : m ≤ 6) (hbk : bk ≠ 7) : ∀ (k t : Nat) (C R : fm_M), C.1 bk 8 = nI m → R.1 2 0 = nI m → (∀ j, j < t → C.1 7 j = nI j ∧ R.1 19 j = nI j) → t ≤ m → m < t + k → (∀ C' R', (∀ c, c ≠ 7 → C'.1 c = C.1 c) → C'.2 = C.2 → (∀ c, c ≠ 19 → R'.1 c = R.1 c) → R'.2 = R.2 → (∀ j, j < m → C'.1 7 j = nI j ∧ R'.1 19 j = nI j) → Q (fX0_round_44 n bk n C' (nI 0) (nI 0)) (fX9_round_56 n n R' (nI 0) (nI 1))) → Q (fX0_round_16 n bk k C (nI t)) (fX9_round_30 n k R (nI 0) (nI 1) (nI t)) := by
  intro k
  induction k with
  | zero => intro t C R h0 h1 h2 h3 h4; omega
  | succ k ih =>
    intro t C R c8 r0 hd h1 h2 hQ
    rw [fX0_round_16, fX9_round_30]
    by_cases ht : t = m
    · simp (disch := omega) only [pb_l0, pb_l1, pb_l2, pb_l3, pb_l4, pb_l5, pb_l6, pb_l7, pb_l8, pb_l9, pb_l10, pb_l12, pb_l14, pb_l20, pb_l32, pb_l36, pb_l48, pb_l56, pb_l57, pb_l59, pb_l60, pb_l72, pb_l99, pb_l100, pb_l111, pb_l116, pb_l200, pb_l255, pb_l504, pb_l560, pb_l1000, pb_l9999, pb_l10000, pb_l100000, pb_l1000000, nI_add, pk_mul, pb_cl, pb_b, pb_le_t, pb_le_f, pb_lt_t, pb_lt_f, pb_eq_t, pb_eq_f, c8, r0]
      exact hQ C R (fun _ _ => rfl) rfl (fun _ _ => rfl) rfl (fun j hj => hd j (by omega))
    · simp (disch := omega) only [pb_l0, pb_l1, pb_l2, pb_l3, pb_l4, pb_l5, pb_l6, pb_l7, pb_l8, pb_l9, pb_l10, pb_l12, pb_l14, pb_l20, pb_l32, pb_l36, pb_l48, pb_l56, pb_l57, pb_l59, pb_l60, pb_l72, pb_l99, pb_l100, pb_l111, pb_l116, pb_l200, pb_l255, pb_l504, pb_l560, pb_l1000, pb_l9999, pb_l10000, pb_l100000, pb_l1000000, nI_add, pk_mul, pb_cl, pb_b, pb_le_t, pb_le_f, pb_lt_t, pb_lt_f, pb_eq_t, pb_eq_f, c8, r0, fm_let]
      refine ih (t + 1) _ _ (by rw [pb_wr_n hbk]; exact c8) (by rw [pb_wr_n (by omega)]; exact r0) (fun j hj => ?_) (by omega) (by omega) (fun C' R' w1 w2 w3 w4 w5 => hQ C' R' (fun c hc => (w1 c hc).trans (pb_wr_n hc)) w2 (fun c hc => (w3 c hc).trans (pb_wr_n hc)) w4 w5)
      rw [pb_wr_e, pb_wr_e]
      by_cases ej : j = t
      · subst ej; rw [pb_up_e, pb_up_e]; exact ⟨rfl, rfl⟩
      · rw [pb_up_n ej, pb_up_n ej]; exact hd j (by omega)
theorem pb_roundop {n bk : Nat} {C R : fm_M} (h : pb_R bk C R) (hn : 100 ≤ n) (l : Int32) : pb_ok bk (fX0_round n bk C l) (fX9_round n R l) := by
  have h' := h.thrown
  unfold fX9_round fX0_round
  simp only [fm_let, pb_l0, pb_l1, pb_l9999]
  rw [pb_l0] at h'
  generalize fm_wr R 0 0 (nI 0) = R1 at h' ⊢
  clear h
  have hh := h'
  obtain ⟨m, o, d, f, y, p, ⟨⟨a1, a2, a3⟩, ⟨b1, b2, b3, b4⟩, c1, d1, e1, f1, g1⟩, s1, s2⟩ := h'
  rcases pb_isSeed n bk C R1 l with ⟨z, hz, rfl, i0, i9⟩ | ⟨i0, i9⟩
  · obtain ⟨C', R', t1, t2, q, hq, hl, u1, u2, u3, u4⟩ := pb_lots (n := n) (bk := bk) (C := C) (R := R1) (z := z) (by omega) a1 hz (by omega) b1 b2
    simp (disch := omega) only [i0, i9, pb_bi, pb_l0, pb_l1, pb_l2, pb_l3, pb_l4, pb_l5, pb_l6, pb_l7, pb_l8, pb_l9, pb_l10, pb_l12, pb_l14, pb_l20, pb_l32, pb_l36, pb_l48, pb_l56, pb_l57, pb_l59, pb_l60, pb_l72, pb_l99, pb_l100, pb_l111, pb_l116, pb_l200, pb_l255, pb_l504, pb_l560, pb_l1000, pb_l9999, pb_l10000, pb_l100000, pb_l1000000, nI_add, pk_mul, pb_cl, pb_b, pb_le_t, pb_le_f, pb_lt_t, pb_lt_f, pb_eq_t, pb_eq_f, t1, t2, pb_bv]
    refine pb_round_init (n := n) (bk := bk) (m := m) (Q := fun a b => pb_ok bk a b) a1 (by omega) n 0 C' R' (by rw [u1 bk (by omega)]; exact b1) (by rw [u3 2 (by omega)]; exact b2) (fun j hj => by omega) (by omega) (by omega) (fun C2 R2 w1 w2 w3 w4 w5 => ?_)
    obtain ⟨r, C3, R3, x1, x2, x3, x4, x5, x6⟩ := pb_round_while (n := n) (bk := bk) (m := m) (q := q) (by omega) a1 (by omega) hq n 0 C2 R2 (nI 0) (by rw [w1 bk (by omega), u1 bk (by omega)]; exact b1) (by rw [w3 2 (by omega), u3 2 (by omega)]; exact b2) (fun t ht => by rw [w1 2 (by omega), w3 18 (by omega)]; exact hl t ht) w5 (by omega) (by omega)
    exact ⟨r, C3, R3, x1, x2, hh.frame (pb_fC.of a3 (fun c k1 k2 k3 k4 k5 => by rw [x3 c k3, w1 c k3, u1 c k2]) (by rw [x4, w2, u2])) (pb_fR.of (fun c k1 k2 k3 => by rw [x5 c k3, w3 c k3, u3 c k2]) (by rw [x6, w4, u4]))⟩
  · simp (disch := omega) only [i0, i9, pb_bi, pb_l0, pb_l1, pb_l2, pb_l3, pb_l4, pb_l5, pb_l6, pb_l7, pb_l8, pb_l9, pb_l10, pb_l12, pb_l14, pb_l20, pb_l32, pb_l36, pb_l48, pb_l56, pb_l57, pb_l59, pb_l60, pb_l72, pb_l99, pb_l100, pb_l111, pb_l116, pb_l200, pb_l255, pb_l504, pb_l560, pb_l1000, pb_l9999, pb_l10000, pb_l100000, pb_l1000000, nI_add, pk_mul, pb_cl, pb_b, pb_le_t, pb_le_f, pb_lt_t, pb_lt_f, pb_eq_t, pb_eq_f]
    exact ⟨_, _, _, rfl, rfl, hh⟩
/-! which -/
theorem pb_which_in {n bk m f z : Nat} {C R : fm_M} {q b : Nat → Nat} {l1 x y : Int32} {Q : Option (Int32 × fm_M) → Option (Int32 × fm_M) → Prop} (k19 k24 : fm_M → Int32 → Int32 → Int32 → Int32 → Option (Int32 × fm_M)) (hm : m ≤ 6) (hf : f ≤ 5) (cf : C.1 0 16 = nI f) (rf : R.1 0 26 = nI f) (hl : ∀ t, t < m → C.1 2 t = nI (q t) ∧ R.1 18 t = nI (q t)) (hq : ∀ t, t < m → q t < m) (hC : ∀ t, t < m → C.1 40 t = nI (b t)) (hR : ∀ t, t < m → R.1 11 (2 + t) = nI (b t)) (hF : ∀ k, k < f → C.1 9 k = R.1 16 k ∧ C.1 10 k = R.1 17 k ∧ ∃ t, t < m ∧ R.1 17 k = nI t) (hQ : ∀ x' y', Q (k19 C l1 x' y' (nI (z + 1))) (k24 R l1 x' y' (nI (z + 1)))) : ∀ (k e : Nat) (is : Bool), e ≤ f → f < e + k → Q (fX0_which_39 n bk k19 k C l1 x y (nI z) (if is = true then nI 1 else nI 0) (nI e)) (fX9_which_44 n k24 k R l1 x y (nI z) (if is = true then nI 1 else nI 0) (nI e)) := by
  intro k
  induction k with
  | zero => intro e is h1 h2; omega
  | succ k ih =>
    intro e is h1 h2
    rw [fX0_which_39, fX9_which_44]
    have ihf := fun h1 h2 => ih (e + 1) false h1 h2
    have iht := fun h1 h2 => ih (e + 1) true h1 h2
    simp only [Bool.false_eq_true, if_false, if_true] at ihf iht
    by_cases he : e = f
    · cases is
      · simp (disch := omega) only [pb_l0, pb_l1, pb_l2, pb_l3, pb_l4, pb_l5, pb_l6, pb_l7, pb_l8, pb_l9, pb_l10, pb_l12, pb_l14, pb_l20, pb_l32, pb_l36, pb_l48, pb_l56, pb_l57, pb_l59, pb_l60, pb_l72, pb_l99, pb_l100, pb_l111, pb_l116, pb_l200, pb_l255, pb_l504, pb_l560, pb_l1000, pb_l9999, pb_l10000, pb_l100000, pb_l1000000, nI_add, pk_mul, pb_cl, pb_b, pb_le_t, pb_le_f, pb_lt_t, pb_lt_f, pb_eq_t, pb_eq_f, cf, rf, Bool.false_eq_true, if_false, fX9_which_114, fX9_which_115]
        rw [show x + nI 0 = x from Int32.add_zero x]
        exact hQ _ _
      · simp (disch := omega) only [pb_l0, pb_l1, pb_l2, pb_l3, pb_l4, pb_l5, pb_l6, pb_l7, pb_l8, pb_l9, pb_l10, pb_l12, pb_l14, pb_l20, pb_l32, pb_l36, pb_l48, pb_l56, pb_l57, pb_l59, pb_l60, pb_l72, pb_l99, pb_l100, pb_l111, pb_l116, pb_l200, pb_l255, pb_l504, pb_l560, pb_l1000, pb_l9999, pb_l10000, pb_l100000, pb_l1000000, nI_add, pk_mul, pb_cl, pb_b, pb_le_t, pb_le_f, pb_lt_t, pb_lt_f, pb_eq_t, pb_eq_f, cf, rf, if_true, fX9_which_114, fX9_which_115]
        by_cases x0 : x = nI 0
        · simp only [pb_ifp x0]
          exact hQ _ _
        · simp only [pb_ifn x0]
          exact hQ _ _
    · cases is
      · simp (disch := omega) only [pb_l0, pb_l1, pb_l2, pb_l3, pb_l4, pb_l5, pb_l6, pb_l7, pb_l8, pb_l9, pb_l10, pb_l12, pb_l14, pb_l20, pb_l32, pb_l36, pb_l48, pb_l56, pb_l57, pb_l59, pb_l60, pb_l72, pb_l99, pb_l100, pb_l111, pb_l116, pb_l200, pb_l255, pb_l504, pb_l560, pb_l1000, pb_l9999, pb_l10000, pb_l100000, pb_l1000000, nI_add, pk_mul, pb_cl, pb_b, pb_le_t, pb_le_f, pb_lt_t, pb_lt_f, pb_eq_t, pb_eq_f, cf, rf, Bool.false_eq_true, if_false]
        exact ihf (by omega) (by omega)
      · obtain ⟨w1, w2, t, ht, w3⟩ := hF e (by omega)
        have hqt := hq t ht
        simp (disch := omega) only [pb_l0, pb_l1, pb_l2, pb_l3, pb_l4, pb_l5, pb_l6, pb_l7, pb_l8, pb_l9, pb_l10, pb_l12, pb_l14, pb_l20, pb_l32, pb_l36, pb_l48, pb_l56, pb_l57, pb_l59, pb_l60, pb_l72, pb_l99, pb_l100, pb_l111, pb_l116, pb_l200, pb_l255, pb_l504, pb_l560, pb_l1000, pb_l9999, pb_l10000, pb_l100000, pb_l1000000, nI_add, pk_mul, pb_cl, pb_b, pb_le_t, pb_le_f, pb_lt_t, pb_lt_f, pb_eq_t, pb_eq_f, cf, rf, if_true, w1, w2, w3, (hl t ht).1, (hl t ht).2, hC, hR, fm_let]
        by_cases c1 : nI (b (q t)) = R.1 16 e
        · simp only [pb_ifp c1]
          exact iht (by omega) (by omega)
        · simp only [pb_ifn c1]
          exact ihf (by omega) (by omega)
theorem pb_which_loop {n bk m f : Nat} {b : Nat → Nat} {l1 : Int32} (hn : 20 ≤ n) (hm : m ≤ 6) (hf : f ≤ 5) (hbk : bk ≠ 2) : ∀ (k z : Nat) (C R : fm_M) (x y : Int32), C.1 bk 8 = nI m → R.1 2 0 = nI m → C.1 0 16 = nI f → R.1 0 26 = nI f → (∀ t, t < m → C.1 40 t = nI (b t)) → (∀ t, t < m → R.1 11 (2 + t) = nI (b t)) → (∀ k, k < f → C.1 9 k = R.1 16 k ∧ C.1 10 k = R.1 17 k ∧ ∃ t, t < m ∧ R.1 17 k = nI t) → z ≤ 1000 → 1000 < z + k → ∃ r C' R', fX0_which_19 n bk k C l1 x y (nI z) = some (r, C') ∧ fX9_which_24 n k R l1 x y (nI z) = some (r, R') ∧ (∀ c, c ≠ 2 → C'.1 c = C.1 c) ∧ C'.2 = C.2 ∧ (∀ c, c ≠ 18 → R'.1 c = R.1 c) ∧ R'.2 = R.2 := by
  intro k
  induction k with
  | zero => intro z C R x y h0 h1 h2 h3 h4 h5 h6 h7; omega
  | succ k ih =>
    intro z C R x y c8 r0 cf rf hC hR hF h1 h2
    rw [fX0_which_19, fX9_which_24]
    by_cases hz : z = 1000
    · simp (disch := omega) only [pb_l0, pb_l1, pb_l2, pb_l3, pb_l4, pb_l5, pb_l6, pb_l7, pb_l8, pb_l9, pb_l10, pb_l12, pb_l14, pb_l20, pb_l32, pb_l36, pb_l48, pb_l56, pb_l57, pb_l59, pb_l60, pb_l72, pb_l99, pb_l100, pb_l111, pb_l116, pb_l200, pb_l255, pb_l504, pb_l560, pb_l1000, pb_l9999, pb_l10000, pb_l100000, pb_l1000000, nI_add, pk_mul, pb_cl, pb_b, pb_le_t, pb_le_f, pb_lt_t, pb_lt_f, pb_eq_t, pb_eq_f]
      by_cases e : l1 = nI 0
      · simp only [pb_ifp e]
        exact ⟨_, C, R, rfl, rfl, fun _ _ => rfl, rfl, fun _ _ => rfl, rfl⟩
      · simp only [pb_ifn e]
        exact ⟨_, C, R, rfl, rfl, fun _ _ => rfl, rfl, fun _ _ => rfl, rfl⟩
    · obtain ⟨C', R', t1, t2, q, hq, hl, u1, u2, u3, u4⟩ := pb_lots (n := n) (bk := bk) (C := C) (R := R) (z := z) (by omega) hm (by omega) hbk c8 r0
      simp (disch := omega) only [pb_l0, pb_l1, pb_l2, pb_l3, pb_l4, pb_l5, pb_l6, pb_l7, pb_l8, pb_l9, pb_l10, pb_l12, pb_l14, pb_l20, pb_l32, pb_l36, pb_l48, pb_l56, pb_l57, pb_l59, pb_l60, pb_l72, pb_l99, pb_l100, pb_l111, pb_l116, pb_l200, pb_l255, pb_l504, pb_l560, pb_l1000, pb_l9999, pb_l10000, pb_l100000, pb_l1000000, nI_add, pk_mul, pb_cl, pb_b, pb_le_t, pb_le_f, pb_lt_t, pb_lt_f, pb_eq_t, pb_eq_f, t1, t2, pb_bv]
      refine pb_which_in (n := n) (bk := bk) (m := m) (f := f) (q := q) (b := b) (Q := fun p p' => ∃ r C' R', p = some (r, C') ∧ p' = some (r, R') ∧ (∀ c, c ≠ 2 → C'.1 c = C.1 c) ∧ C'.2 = C.2 ∧ (∀ c, c ≠ 18 → R'.1 c = R.1 c) ∧ R'.2 = R.2) _ _ hm hf (by rw [u1 0 (by omega)]; exact cf) (by rw [u3 0 (by omega)]; exact rf) hl hq.1 (fun t ht => by rw [u1 40 (by omega)]; exact hC t ht) (fun t ht => by rw [u3 11 (by omega)]; exact hR t ht) (fun k hk => by rw [u1 9 (by omega), u1 10 (by omega), u3 16 (by omega), u3 17 (by omega)]; exact hF k hk) (fun x' y' => ?_) n 0 true (by omega) (by omega)
      obtain ⟨r, C2, R2, e1, e2, e3, e4, e5, e6⟩ := ih (z + 1) C' R' x' y' (by rw [u1 bk hbk]; exact c8) (by rw [u3 2 (by omega)]; exact r0) (by rw [u1 0 (by omega)]; exact cf) (by rw [u3 0 (by omega)]; exact rf) (fun t ht => by rw [u1 40 (by omega)]; exact hC t ht) (fun t ht => by rw [u3 11 (by omega)]; exact hR t ht) (fun k hk => by rw [u1 9 (by omega), u1 10 (by omega), u3 16 (by omega), u3 17 (by omega)]; exact hF k hk) (by omega) (by omega)
      exact ⟨r, C2, R2, e1, e2, fun c hc => (e3 c hc).trans (u1 c hc), e4.trans u2, fun c hc => (e5 c hc).trans (u3 c hc), e6.trans u4⟩
theorem pb_whichop {n bk : Nat} {C R : fm_M} (h : pb_R bk C R) (hn : 1010 ≤ n) (l : Int32) : pb_ok bk (fX0_which n bk C l) (fX9_which n R l) := by
  have h' := h.thrown
  unfold fX9_which fX0_which
  simp only [fm_let, pb_l0, pb_l1]
  rw [pb_l0] at h'
  generalize fm_wr R 0 0 (nI 0) = R1 at h' ⊢
  clear h
  have hh := h'
  obtain ⟨m, o, d, f, y, p, ⟨⟨a1, a2, a3⟩, ⟨b1, b2, b3, b4⟩, c1, d1, e1, f1, g1⟩, s1, s2, s3, s4, s5, s6⟩ := h'
  rcases pb_in n bk C R1 0 1 (by omega) (by omega) l with ⟨v, _, hv, hl, i0, i9⟩ | ⟨hv, i0, i9⟩
  · obtain ⟨b, hb, hr⟩ := s1.2
    obtain ⟨r, C', R', w1, w2, w3, w4, w5, w6⟩ := pb_which_loop (n := n) (bk := bk) (m := m) (f := f) (b := b) (l1 := l) (by omega) a1 s4.1 (by omega) n 0 C R1 (nI 0) (-9) b1 b2 s4.2.1 s4.2.2.1 (fun t ht => by rw [← hr t ht]; exact s1.bell (by omega)) hr s4.2.2.2 (by omega) (by omega)
    simp (disch := omega) only [i0, i9, pb_bi, pb_eq_f]
    exact ⟨r, C', R', w1, w2, hh.frame (pb_fC.of a3 (fun c k1 k2 k3 k4 k5 => w3 c k2) w4) (pb_fR.of (fun c k1 k2 k3 => w5 c k2) w6)⟩
  · simp (disch := omega) only [i0, i9, pb_bi, pb_l0, pb_l1, pb_l2, pb_l3, pb_l4, pb_l5, pb_l6, pb_l7, pb_l8, pb_l9, pb_l10, pb_l12, pb_l14, pb_l20, pb_l32, pb_l36, pb_l48, pb_l56, pb_l57, pb_l59, pb_l60, pb_l72, pb_l99, pb_l100, pb_l111, pb_l116, pb_l200, pb_l255, pb_l504, pb_l560, pb_l1000, pb_l9999, pb_l10000, pb_l100000, pb_l1000000, nI_add, pk_mul, pb_cl, pb_b, pb_le_t, pb_le_f, pb_lt_t, pb_lt_f, pb_eq_t, pb_eq_f]
    exact ⟨_, _, _, rfl, rfl, hh⟩
