/-! home: swaps and rounds -/
set_option maxRecDepth 100000
/-- all rows of m distinct numbers below m -/
def pb_all (m : Nat) (P : List Nat → Bool) : Nat → List Nat → Bool
  | 0, l => P l
  | j + 1, l => (List.range m).all fun v => l.contains v || pb_all m P j (l ++ [v])
theorem pb_all_spec {m : Nat} {P : List Nat → Bool} {b : Nat → Nat} (hb : pb_perm m b) : ∀ (j : Nat), j ≤ m → pb_all m P j ((List.range (m - j)).map b) = true → P ((List.range m).map b) = true := by
  intro j
  induction j with
  | zero => intro _ h; exact h
  | succ j ih =>
    intro hj h
    rw [pb_all, List.all_eq_true] at h
    have h1 := h (b (m - (j + 1))) (List.mem_range.mpr (hb.1 _ (by omega)))
    rw [Bool.or_eq_true] at h1
    rcases h1 with h1 | h1
    · exfalso
      rw [List.contains_iff_mem, List.mem_map] at h1
      obtain ⟨i, hi, e⟩ := h1
      have hi' := List.mem_range.mp hi
      have := hb.2.1 i (m - (j + 1)) (by omega) (by omega) e
      omega
    · apply ih (by omega)
      have e : m - j = (m - (j + 1)) + 1 := by omega
      rw [e, List.range_succ, List.map_append]
      exact h1
def pb_fn (l : List Nat) (t : Nat) : Nat := l.getD t 0
theorem pb_fn_map {m : Nat} {b : Nat → Nat} {t : Nat} (h : t < m) : pb_fn ((List.range m).map b) t = b t := by
  unfold pb_fn
  rw [List.getD_eq_getElem?_getD, List.getElem?_map, List.getElem?_range h]
  rfl
def pb_wh (b : Nat → Nat) (t : Nat) : Nat → Nat → Nat
  | 0, u => u
  | j + 1, u => if b u = t then u else pb_wh b t j (u + 1)
/-- the component: swaps -/
def pb_hC : Nat → (Nat → Nat) → Nat → Nat → Nat → Nat × Nat
  | 0, _, _, x, F => (x, F)
  | j + 1, b, t, x, F => if b t = t then pb_hC j b (t + 1) x F else pb_hC j (fun i => if i = t then t else if i = pb_wh b t 6 0 then b t else b i) (t + 1) (x + 1) (if x = 0 then 10 * t + pb_wh b t 6 0 else F)
def pb_mark (b : Nat → Nat) : Nat → Nat → Nat → Option Nat
  | 0, _, _ => none
  | f + 1, s, e => if pb_tb s e = true then some s else pb_mark b f (s + 2 ^ e) (b e)
/-- the reference: rounds -/
def pb_hR (b : Nat → Nat) : Nat → Nat → Nat → Nat → Nat → Option (Nat × Nat)
  | 0, _, _, x, F => some (x, F)
  | j + 1, t, s, x, F => match pb_mark b 8 s t with
    | none => none
    | some s' => pb_hR b j (t + 1) s' (if pb_tb s t = true then x + 1 else x) (if F = 99 ∧ ¬ b t = t then 10 * t + pb_wh b t 6 0 else F)
theorem pb_home_all : ∀ m, m < 7 → pb_all m (fun l => decide (pb_hR (pb_fn l) m 0 0 0 99 = some (pb_hC m (pb_fn l) 0 0 99))) m [] = true := by decide +kernel
theorem pb_home_eq {m : Nat} {b : Nat → Nat} (hm : m ≤ 6) (hb : pb_perm m b) : pb_hR (pb_fn ((List.range m).map b)) m 0 0 0 99 = some (pb_hC m (pb_fn ((List.range m).map b)) 0 0 99) := by
  have h := pb_all_spec (P := fun l => decide (pb_hR (pb_fn l) m 0 0 0 99 = some (pb_hC m (pb_fn l) 0 0 99))) hb m (by omega) (by rw [Nat.sub_self]; exact pb_home_all m (by omega))
  exact of_decide_eq_true h
def pb_fi (F : Nat) : Int32 := if F = 99 then -nI 9 else nI F
theorem pb_wh_le {b : Nat → Nat} {t u : Nat} : ∀ (j v : Nat), v ≤ u → u < v + j → b u = t → (∀ i, v ≤ i → i < u → b i ≠ t) → pb_wh b t j v = u := by
  intro j
  induction j with
  | zero => intro v h1 h2; omega
  | succ j ih =>
    intro v h1 h2 h3 h4
    rw [pb_wh]
    by_cases e : v = u
    · subst e; rw [if_pos h3]
    · rw [if_neg (h4 v (by omega) (by omega))]
      exact ih (v + 1) (by omega) (by omega) h3 (fun i h5 h6 => h4 i (by omega) h6)
theorem pb_wh_eq {m t u : Nat} {b : Nat → Nat} (hb : pb_perm m b) (hm : m ≤ 6) (hu : u < m) (e : b u = t) : pb_wh b t 6 0 = u := pb_wh_le 6 0 (by omega) (by omega) e (fun i _ hi h => by
  have := hb.2.1 i u (by omega) hu (by rw [h, e])
  omega)
theorem pb_where0 {n bk a m t : Nat} {C : fm_M} {b : Nat → Nat} (hb : pb_perm m b) (hm : m ≤ 6) (ht : t < m) (hC : ∀ t, t < m → C.1 (a + 1) t = nI (b t)) (hn : 10 ≤ n) : pb_wh b t 6 0 < m ∧ b (pb_wh b t 6 0) = t ∧ fX2_where n bk a C (nI t) = some (nI (pb_wh b t 6 0), C) := by
  obtain ⟨u, hu, e⟩ := hb.2.2 t ht
  have g := pb_where_loop (n := n) (bk := bk) (a := a) (c := 11) (C := C) (R := (fun _ k => nI (b (k - 2)), 0)) hb hm hC (fun t ht => by show nI (b (2 + t - 2)) = _; rw [show 2 + t - 2 = t by omega]) hu u 0 n (by omega) (by omega)
  rw [pb_wh_eq hb hm hu e]
  rw [e] at g
  exact ⟨hu, e, g.1⟩
theorem pb_where9 {n c m t : Nat} {R : fm_M} {b : Nat → Nat} (hb : pb_perm m b) (hm : m ≤ 6) (ht : t < m) (hR : ∀ t, t < m → R.1 c (2 + t) = nI (b t)) (hn : 10 ≤ n) : pb_wh b t 6 0 < m ∧ b (pb_wh b t 6 0) = t ∧ fX9_hangs n c R (nI t) = some (nI (pb_wh b t 6 0), R) := by
  obtain ⟨u, hu, e⟩ := hb.2.2 t ht
  have g := pb_where_loop (n := n) (bk := 0) (a := 0) (c := c) (C := (fun _ k => nI (b k), 0)) (R := R) hb hm (fun t ht => rfl) hR hu u 0 n (by omega) (by omega)
  rw [pb_wh_eq hb hm hu e]
  rw [e] at g
  exact ⟨hu, e, g.2⟩
theorem pb_homeC {n bk m : Nat} {l1 : Int32} (hn : 10 ≤ n) (hm : m ≤ 6) (hbk : bk = 18 ∨ 193 ≤ bk) : ∀ (j k t x F : Nat) (b : Nat → Nat) (C : fm_M), C.1 bk 8 = nI m → pb_perm m b → (∀ t, t < m → C.1 51 t = nI (b t)) → t + j = m → j < k → x ≤ t → (x = 0 ↔ F = 99) → F < 100 → ∃ C', fX0_home_30 n bk k C l1 (nI x) (pb_fi F) (nI t) = some (if l1 = nI 0 then nI (pb_hC j b t x F).1 else pb_fi (pb_hC j b t x F).2, C') ∧ (∀ c, c ≠ 51 → C'.1 c = C.1 c) ∧ C'.2 = C.2 := by
  intro j
  induction j with
  | zero =>
    intro k t x F b C c8 hb hc h1 h2 h3 h4 h5
    obtain ⟨k, rfl⟩ : ∃ i, k = i + 1 := ⟨k - 1, by omega⟩
    rw [fX0_home_30, pb_hC]
    simp (disch := omega) only [pb_l0, pb_l1, pb_l2, pb_l3, pb_l4, pb_l5, pb_l6, pb_l7, pb_l8, pb_l9, pb_l10, pb_l12, pb_l14, pb_l20, pb_l32, pb_l36, pb_l48, pb_l56, pb_l57, pb_l59, pb_l60, pb_l72, pb_l99, pb_l100, pb_l111, pb_l116, pb_l200, pb_l255, pb_l504, pb_l560, pb_l1000, pb_l9999, pb_l10000, pb_l100000, pb_l1000000, nI_add, pk_mul, pb_cl, pb_b, pb_le_t, pb_le_f, pb_lt_t, pb_lt_f, pb_eq_t, pb_eq_f, c8]
    refine ⟨C, ?_, fun _ _ => rfl, rfl⟩
    by_cases e : l1 = nI 0
    · simp only [pb_ifp e]
    · simp only [pb_ifn e]
  | succ j ih =>
    intro k t x F b C c8 hb hc h1 h2 h3 h4 h5
    obtain ⟨k, rfl⟩ : ∃ i, k = i + 1 := ⟨k - 1, by omega⟩
    rw [fX0_home_30, pb_hC]
    have hbt := hb.1 t (by omega)
    simp (disch := omega) only [pb_l0, pb_l1, pb_l2, pb_l3, pb_l4, pb_l5, pb_l6, pb_l7, pb_l8, pb_l9, pb_l10, pb_l12, pb_l14, pb_l20, pb_l32, pb_l36, pb_l48, pb_l56, pb_l57, pb_l59, pb_l60, pb_l72, pb_l99, pb_l100, pb_l111, pb_l116, pb_l200, pb_l255, pb_l504, pb_l560, pb_l1000, pb_l9999, pb_l10000, pb_l100000, pb_l1000000, nI_add, pk_mul, pb_cl, pb_b, pb_le_t, pb_le_f, pb_lt_t, pb_lt_f, pb_eq_t, pb_eq_f, c8, hc]
    by_cases e : b t = t
    · simp (disch := omega) only [pb_l0, pb_l1, pb_l2, pb_l3, pb_l4, pb_l5, pb_l6, pb_l7, pb_l8, pb_l9, pb_l10, pb_l12, pb_l14, pb_l20, pb_l32, pb_l36, pb_l48, pb_l56, pb_l57, pb_l59, pb_l60, pb_l72, pb_l99, pb_l100, pb_l111, pb_l116, pb_l200, pb_l255, pb_l504, pb_l560, pb_l1000, pb_l9999, pb_l10000, pb_l100000, pb_l1000000, nI_add, pk_mul, pb_cl, pb_b, pb_le_t, pb_le_f, pb_lt_t, pb_lt_f, pb_eq_t, pb_eq_f, pb_ifp e]
      exact ih k (t + 1) x F b C c8 hb hc (by omega) (by omega) (by omega) h4 h5
    · obtain ⟨u1, u2, u3⟩ := pb_where0 (n := n) (bk := bk) (a := 50) (C := C) hb hm (by omega : t < m) hc hn
      generalize pb_wh b t 6 0 = u at u1 u2 u3 ⊢
      have hut : u ≠ t := fun h => e (by rw [← h]; rw [h] at u2; rw [h]; exact u2)
      have key : ∀ G : Nat, G < 99 → (∃ C', fX0_home_84 n bk (fX0_home_30 n bk k) C l1 (nI x) (nI t) (nI u) (pb_fi G) = some (if l1 = nI 0 then nI (pb_hC j (fun i => if i = t then t else if i = u then b t else b i) (t + 1) (x + 1) G).1 else pb_fi (pb_hC j (fun i => if i = t then t else if i = u then b t else b i) (t + 1) (x + 1) G).2, C') ∧ (∀ c, c ≠ 51 → C'.1 c = C.1 c) ∧ C'.2 = C.2) := by
        intro G hG
        unfold fX0_home_84
        simp (disch := omega) only [pb_l0, pb_l1, pb_l2, pb_l3, pb_l4, pb_l5, pb_l6, pb_l7, pb_l8, pb_l9, pb_l10, pb_l12, pb_l14, pb_l20, pb_l32, pb_l36, pb_l48, pb_l56, pb_l57, pb_l59, pb_l60, pb_l72, pb_l99, pb_l100, pb_l111, pb_l116, pb_l200, pb_l255, pb_l504, pb_l560, pb_l1000, pb_l9999, pb_l10000, pb_l100000, pb_l1000000, nI_add, pk_mul, pb_cl, pb_b, pb_le_t, pb_le_f, pb_lt_t, pb_lt_f, pb_eq_t, pb_eq_f, fm_let, hc]
        have hsw : pb_perm m (fun i => if i = t then t else if i = u then b t else b i) := by
          have := pb_swap hb u1 (by omega : t < m)
          rw [u2] at this
          exact this
        obtain ⟨C', e1, e2, e3⟩ := ih k (t + 1) (x + 1) G (fun i => if i = t then t else if i = u then b t else b i) (fm_wr (fm_wr C 51 u (nI (b t))) 51 t (nI t)) (by rw [pb_wr_n (by omega), pb_wr_n (by omega)]; exact c8) hsw (fun i hi => by
          rw [pb_wr_e, pb_wr_e]
          by_cases i1 : i = t
          · subst i1; rw [pb_up_e, if_pos rfl]
          · rw [pb_up_n i1, if_neg i1]
            by_cases i2 : i = u
            · subst i2; rw [pb_up_e, if_pos rfl]
            · rw [pb_up_n i2, if_neg i2]; exact hc i hi) (by omega) (by omega) (by omega) (by omega) (by omega)
        exact ⟨C', e1, fun c hc => (e2 c hc).trans (by rw [pb_wr_n hc, pb_wr_n hc]), e3⟩
      simp (disch := omega) only [pb_l0, pb_l1, pb_l2, pb_l3, pb_l4, pb_l5, pb_l6, pb_l7, pb_l8, pb_l9, pb_l10, pb_l12, pb_l14, pb_l20, pb_l32, pb_l36, pb_l48, pb_l56, pb_l57, pb_l59, pb_l60, pb_l72, pb_l99, pb_l100, pb_l111, pb_l116, pb_l200, pb_l255, pb_l504, pb_l560, pb_l1000, pb_l9999, pb_l10000, pb_l100000, pb_l1000000, nI_add, pk_mul, pb_cl, pb_b, pb_le_t, pb_le_f, pb_lt_t, pb_lt_f, pb_eq_t, pb_eq_f, pb_ifn e, u3, pb_bi]
      by_cases x0 : x = 0
      · simp (disch := omega) only [pb_l0, pb_l1, pb_l2, pb_l3, pb_l4, pb_l5, pb_l6, pb_l7, pb_l8, pb_l9, pb_l10, pb_l12, pb_l14, pb_l20, pb_l32, pb_l36, pb_l48, pb_l56, pb_l57, pb_l59, pb_l60, pb_l72, pb_l99, pb_l100, pb_l111, pb_l116, pb_l200, pb_l255, pb_l504, pb_l560, pb_l1000, pb_l9999, pb_l10000, pb_l100000, pb_l1000000, nI_add, pk_mul, pb_cl, pb_b, pb_le_t, pb_le_f, pb_lt_t, pb_lt_f, pb_eq_t, pb_eq_f, pb_ifp x0]
        have := key (10 * t + u) (by omega)
        rw [show pb_fi (10 * t + u) = nI (10 * t + u) from if_neg (by omega)] at this
        exact this
      · simp (disch := omega) only [pb_l0, pb_l1, pb_l2, pb_l3, pb_l4, pb_l5, pb_l6, pb_l7, pb_l8, pb_l9, pb_l10, pb_l12, pb_l14, pb_l20, pb_l32, pb_l36, pb_l48, pb_l56, pb_l57, pb_l59, pb_l60, pb_l72, pb_l99, pb_l100, pb_l111, pb_l116, pb_l200, pb_l255, pb_l504, pb_l560, pb_l1000, pb_l9999, pb_l10000, pb_l100000, pb_l1000000, nI_add, pk_mul, pb_cl, pb_b, pb_le_t, pb_le_f, pb_lt_t, pb_lt_f, pb_eq_t, pb_eq_f, pb_ifn x0]
        exact key F (by omega)
theorem pb_bitS : ∀ s, s < 64 → ∀ e, e < 6 → ((nI s >>> (nI e &&& 31)) &&& nI 1 = if pb_tb s e = true then nI 1 else nI 0) ∧ (pb_tb s e = false → nI s ||| (nI 1 <<< (nI e &&& 31)) = nI (s + 2 ^ e) ∧ s + 2 ^ e < 64) := by decide +kernel
theorem pb_homeM {n m : Nat} {l1 : Int32} {R : fm_M} {b : Nat → Nat} (hm : m ≤ 6) (hb : pb_perm m b) (hr : ∀ t, t < m → R.1 11 (2 + t) = nI (b t)) (k27 : fm_M → Int32 → Int32 → Int32 → Int32 → Int32 → Option (Int32 × fm_M)) (x F : Int32) (t : Nat) : ∀ (f k s s' e : Nat), f ≤ k → s < 64 → e < m → pb_mark b f s e = some s' → s' < 64 ∧ fX9_home_102 n k27 k R l1 (nI s) x F (nI t) (nI e) = k27 R l1 (nI s') x F (nI (t + 1)) := by
  intro f
  induction f with
  | zero => intro k s s' e _ _ _ h; cases h
  | succ f ih =>
    intro k s s' e hk hs he h
    obtain ⟨k, rfl⟩ : ∃ i, k = i + 1 := ⟨k - 1, by omega⟩
    rw [pb_mark] at h
    obtain ⟨w1, w2⟩ := pb_bitS s hs e (by omega)
    rw [fX9_home_102]
    by_cases c : pb_tb s e = true
    · rw [if_pos c] at h
      injection h with h
      subst h
      rw [if_pos c] at w1
      simp (disch := omega) only [pb_l0, pb_l1, pb_l2, pb_l3, pb_l4, pb_l5, pb_l6, pb_l7, pb_l8, pb_l9, pb_l10, pb_l12, pb_l14, pb_l20, pb_l32, pb_l36, pb_l48, pb_l56, pb_l57, pb_l59, pb_l60, pb_l72, pb_l99, pb_l100, pb_l111, pb_l116, pb_l200, pb_l255, pb_l504, pb_l560, pb_l1000, pb_l9999, pb_l10000, pb_l100000, pb_l1000000, nI_add, pk_mul, pb_cl, pb_b, pb_le_t, pb_le_f, pb_lt_t, pb_lt_f, pb_eq_t, pb_eq_f, w1]
      exact ⟨hs, trivial⟩
    · rw [if_neg c] at h
      rw [if_neg c] at w1
      obtain ⟨w3, w4⟩ := w2 (by simpa using c)
      have hbe := hb.1 e he
      obtain ⟨g1, g2⟩ := ih k (s + 2 ^ e) s' (b e) (by omega) w4 hbe h
      simp (disch := omega) only [pb_l0, pb_l1, pb_l2, pb_l3, pb_l4, pb_l5, pb_l6, pb_l7, pb_l8, pb_l9, pb_l10, pb_l12, pb_l14, pb_l20, pb_l32, pb_l36, pb_l48, pb_l56, pb_l57, pb_l59, pb_l60, pb_l72, pb_l99, pb_l100, pb_l111, pb_l116, pb_l200, pb_l255, pb_l504, pb_l560, pb_l1000, pb_l9999, pb_l10000, pb_l100000, pb_l1000000, nI_add, pk_mul, pb_cl, pb_b, pb_le_t, pb_le_f, pb_lt_t, pb_lt_f, pb_eq_t, pb_eq_f, w1, fm_let, w3, hr]
      exact ⟨g1, g2⟩
theorem pb_homeR {n m : Nat} {l1 : Int32} {R : fm_M} {b : Nat → Nat} (hn : 10 ≤ n) (hm : m ≤ 6) (hb : pb_perm m b) (r0 : R.1 2 0 = nI m) (hr : ∀ t, t < m → R.1 11 (2 + t) = nI (b t)) : ∀ (j k t s x F : Nat) (z : Nat × Nat), t + j = m → j < k → s < 64 → x ≤ t → F < 100 → pb_hR b j t s x F = some z → fX9_home_27 n k R l1 (nI s) (nI x) (pb_fi F) (nI t) = some (if l1 = nI 0 then nI z.1 else pb_fi z.2, R) := by
  intro j
  induction j with
  | zero =>
    intro k t s x F z h1 h2 h3 h4 h5 h
    obtain ⟨k, rfl⟩ : ∃ i, k = i + 1 := ⟨k - 1, by omega⟩
    rw [pb_hR] at h
    injection h with h
    subst h
    rw [fX9_home_27]
    simp (disch := omega) only [pb_l0, pb_l1, pb_l2, pb_l3, pb_l4, pb_l5, pb_l6, pb_l7, pb_l8, pb_l9, pb_l10, pb_l12, pb_l14, pb_l20, pb_l32, pb_l36, pb_l48, pb_l56, pb_l57, pb_l59, pb_l60, pb_l72, pb_l99, pb_l100, pb_l111, pb_l116, pb_l200, pb_l255, pb_l504, pb_l560, pb_l1000, pb_l9999, pb_l10000, pb_l100000, pb_l1000000, nI_add, pk_mul, pb_cl, pb_b, pb_le_t, pb_le_f, pb_lt_t, pb_lt_f, pb_eq_t, pb_eq_f, r0]
    by_cases e : l1 = nI 0
    · simp only [pb_ifp e]
    · simp only [pb_ifn e]
  | succ j ih =>
    intro k t s x F z h1 h2 h3 h4 h5 h
    obtain ⟨k, rfl⟩ : ∃ i, k = i + 1 := ⟨k - 1, by omega⟩
    rw [pb_hR] at h
    cases hmk : pb_mark b 8 s t with
    | none => rw [hmk] at h; cases h
    | some s' =>
      rw [hmk] at h
      simp only at h
      obtain ⟨w1, w2⟩ := pb_bitS s h3 t (by omega)
      have hbt := hb.1 t (by omega)
      obtain ⟨u1, u2, u3⟩ := pb_where9 (n := n) (c := 11) (R := R) hb hm (by omega : t < m) hr hn
      have key : ∀ G : Nat, G < 100 → pb_hR b j (t + 1) s' (if pb_tb s t = true then x + 1 else x) G = some z → fX9_home_79 n (fX9_home_27 n k) R l1 (nI s) (nI x) (nI t) (pb_fi G) = some (if l1 = nI 0 then nI z.1 else pb_fi z.2, R) := by
        intro G hG hh
        unfold fX9_home_79
        by_cases c : pb_tb s t = true
        · rw [if_pos c] at w1 hh
          obtain ⟨g1, g2⟩ := pb_homeM (n := n) (l1 := l1) hm hb hr (fX9_home_27 n k) (nI (x + 1)) (pb_fi G) t 8 n s s' t (by omega) h3 (by omega) hmk
          simp (disch := omega) only [pb_l0, pb_l1, pb_l2, pb_l3, pb_l4, pb_l5, pb_l6, pb_l7, pb_l8, pb_l9, pb_l10, pb_l12, pb_l14, pb_l20, pb_l32, pb_l36, pb_l48, pb_l56, pb_l57, pb_l59, pb_l60, pb_l72, pb_l99, pb_l100, pb_l111, pb_l116, pb_l200, pb_l255, pb_l504, pb_l560, pb_l1000, pb_l9999, pb_l10000, pb_l100000, pb_l1000000, nI_add, pk_mul, pb_cl, pb_b, pb_le_t, pb_le_f, pb_lt_t, pb_lt_f, pb_eq_t, pb_eq_f, w1, g2]
          exact ih k (t + 1) s' (x + 1) G z (by omega) (by omega) g1 (by omega) hG hh
        · rw [if_neg c] at w1 hh
          obtain ⟨g1, g2⟩ := pb_homeM (n := n) (l1 := l1) hm hb hr (fX9_home_27 n k) (nI x) (pb_fi G) t 8 n s s' t (by omega) h3 (by omega) hmk
          simp (disch := omega) only [pb_l0, pb_l1, pb_l2, pb_l3, pb_l4, pb_l5, pb_l6, pb_l7, pb_l8, pb_l9, pb_l10, pb_l12, pb_l14, pb_l20, pb_l32, pb_l36, pb_l48, pb_l56, pb_l57, pb_l59, pb_l60, pb_l72, pb_l99, pb_l100, pb_l111, pb_l116, pb_l200, pb_l255, pb_l504, pb_l560, pb_l1000, pb_l9999, pb_l10000, pb_l100000, pb_l1000000, nI_add, pk_mul, pb_cl, pb_b, pb_le_t, pb_le_f, pb_lt_t, pb_lt_f, pb_eq_t, pb_eq_f, w1, Nat.add_zero, g2]
          exact ih k (t + 1) s' x G z (by omega) (by omega) g1 (by omega) hG hh
      rw [fX9_home_27]
      generalize pb_wh b t 6 0 = u at u1 u2 u3 h
      by_cases f9 : F = 99
      · have ef : pb_fi F = -nI 9 := if_pos f9
        by_cases e : b t = t
        · rw [if_neg (show ¬ (F = 99 ∧ ¬ b t = t) from fun hh => hh.2 e)] at h
          have := key F h5 h
          rw [ef] at this ⊢
          simp (disch := omega) only [pb_l0, pb_l1, pb_l2, pb_l3, pb_l4, pb_l5, pb_l6, pb_l7, pb_l8, pb_l9, pb_l10, pb_l12, pb_l14, pb_l20, pb_l32, pb_l36, pb_l48, pb_l56, pb_l57, pb_l59, pb_l60, pb_l72, pb_l99, pb_l100, pb_l111, pb_l116, pb_l200, pb_l255, pb_l504, pb_l560, pb_l1000, pb_l9999, pb_l10000, pb_l100000, pb_l1000000, nI_add, pk_mul, pb_cl, pb_b, pb_le_t, pb_le_f, pb_lt_t, pb_lt_f, pb_eq_t, pb_eq_f, r0, hr, if_true, fX9_home_77]
          exact this
        · rw [if_pos (show F = 99 ∧ ¬ b t = t from ⟨f9, e⟩)] at h
          have := key (10 * t + u) (by omega) h
          rw [show pb_fi (10 * t + u) = nI (10 * t + u) from if_neg (by omega)] at this
          rw [ef]
          simp (disch := omega) only [pb_l0, pb_l1, pb_l2, pb_l3, pb_l4, pb_l5, pb_l6, pb_l7, pb_l8, pb_l9, pb_l10, pb_l12, pb_l14, pb_l20, pb_l32, pb_l36, pb_l48, pb_l56, pb_l57, pb_l59, pb_l60, pb_l72, pb_l99, pb_l100, pb_l111, pb_l116, pb_l200, pb_l255, pb_l504, pb_l560, pb_l1000, pb_l9999, pb_l10000, pb_l100000, pb_l1000000, nI_add, pk_mul, pb_cl, pb_b, pb_le_t, pb_le_f, pb_lt_t, pb_lt_f, pb_eq_t, pb_eq_f, r0, hr, if_true, u3, pb_bi]
          exact this
      · have ef : pb_fi F = nI F := if_neg f9
        have e9 := pb_nm9 (s := F) (by omega)
        rw [if_neg (show ¬ (F = 99 ∧ ¬ b t = t) from fun hh => f9 hh.1)] at h
        have := key F h5 h
        rw [ef] at this ⊢
        simp (disch := omega) only [pb_l0, pb_l1, pb_l2, pb_l3, pb_l4, pb_l5, pb_l6, pb_l7, pb_l8, pb_l9, pb_l10, pb_l12, pb_l14, pb_l20, pb_l32, pb_l36, pb_l48, pb_l56, pb_l57, pb_l59, pb_l60, pb_l72, pb_l99, pb_l100, pb_l111, pb_l116, pb_l200, pb_l255, pb_l504, pb_l560, pb_l1000, pb_l9999, pb_l10000, pb_l100000, pb_l1000000, nI_add, pk_mul, pb_cl, pb_b, pb_le_t, pb_le_f, pb_lt_t, pb_lt_f, pb_eq_t, pb_eq_f, r0, pb_ifn e9, fX9_home_77]
        exact this
theorem pb_homeop {n bk : Nat} {C R : fm_M} (h : pb_R bk C R) (hn : 20 ≤ n) (l : Int32) : pb_ok bk (fX0_home n bk C l) (fX9_home n R l) := by
  have h' := h.thrown
  unfold fX9_home fX0_home
  simp only [fm_let, pb_l0, pb_l1, pb_l9]
  rw [pb_l0] at h'
  generalize fm_wr R 0 0 (nI 0) = R1 at h' ⊢
  clear h
  have hh := h'
  obtain ⟨m, o, d, f, y, p, ⟨⟨a1, a2, a3⟩, ⟨b1, b2, b3, b4⟩, c1, d1, e1, f1, g1⟩, s1, s2⟩ := h'
  rcases pb_in n bk C R1 0 1 (by omega) (by omega) l with ⟨v, _, hv, hl, i0, i9⟩ | ⟨hv, i0, i9⟩
  · obtain ⟨b, hb, hr⟩ := s1.2
    have heq := pb_home_eq a1 hb
    have hfn : ∀ t, t < m → pb_fn ((List.range m).map b) t = b t := fun t ht => pb_fn_map ht
    generalize pb_fn ((List.range m).map b) = b' at heq hfn
    have hb' : pb_perm m b' := ⟨fun t ht => by rw [hfn t ht]; exact hb.1 t ht, fun t u ht hu e => by rw [hfn t ht, hfn u hu] at e; exact hb.2.1 t u ht hu e, fun s hs => by
      obtain ⟨t, ht, et⟩ := hb.2.2 s hs
      exact ⟨t, ht, by rw [hfn t ht]; exact et⟩⟩
    have hr' : ∀ t, t < m → R1.1 11 (2 + t) = nI (b' t) := fun t ht => by rw [hfn t ht]; exact hr t ht
    obtain ⟨C1, q1, q2, q3, q4⟩ := pb_copyOf (n := n) (bk := bk) (a := 50) (b := 39) (C := C) (by omega) (by omega)
    have hC1 : ∀ t, t < m → C1.1 51 t = nI (b' t) := fun t ht => by
      have := q3 (2 + t) (by omega)
      rw [pb_pl_bell (by omega), pb_pl_bell (by omega)] at this
      rw [show (51 : Nat) = 50 + 1 from rfl, this, s1.bell (by omega)]
      exact hr' t ht
    obtain ⟨C2, w1, w2, w3⟩ := pb_homeC (n := n) (bk := bk) (l1 := l) (by omega) a1 a3 m n 0 0 99 b' C1 (by rw [q2 bk (by omega)]; exact b1) hb' hC1 (by omega) (by omega) (by omega) (by omega) (by omega)
    have w9 := pb_homeR (n := n) (l1 := l) (R := R1) (by omega) a1 hb' b2 hr' m n 0 0 0 99 _ (by omega) (by omega) (by omega) (by omega) (by omega) heq
    have e99 : pb_fi 99 = -nI 9 := rfl
    rw [e99] at w1 w9
    simp (disch := omega) only [pb_l0, pb_l1, pb_l2, pb_l3, pb_l4, pb_l5, pb_l6, pb_l7, pb_l8, pb_l9, pb_l10, pb_l12, pb_l14, pb_l20, pb_l32, pb_l36, pb_l48, pb_l56, pb_l57, pb_l59, pb_l60, pb_l72, pb_l99, pb_l100, pb_l111, pb_l116, pb_l200, pb_l255, pb_l504, pb_l560, pb_l1000, pb_l9999, pb_l10000, pb_l100000, pb_l1000000, nI_add, pk_mul, pb_cl, pb_b, pb_le_t, pb_le_f, pb_lt_t, pb_lt_f, pb_eq_t, pb_eq_f, i0, i9, pb_bi, q1, pb_bv, w1, w9]
    exact ⟨_, _, _, rfl, rfl, hh.frame ((pb_fC.of a3 (fun c c1 c2 c3 c4 c5 => q2 c (by omega)) q4).trans (pb_fC.of a3 (fun c c1 c2 c3 c4 c5 => w2 c (by omega)) w3)) pb_fR.refl⟩
  · simp (disch := omega) only [pb_l0, pb_l1, pb_l2, pb_l3, pb_l4, pb_l5, pb_l6, pb_l7, pb_l8, pb_l9, pb_l10, pb_l12, pb_l14, pb_l20, pb_l32, pb_l36, pb_l48, pb_l56, pb_l57, pb_l59, pb_l60, pb_l72, pb_l99, pb_l100, pb_l111, pb_l116, pb_l200, pb_l255, pb_l504, pb_l560, pb_l1000, pb_l9999, pb_l10000, pb_l100000, pb_l1000000, nI_add, pk_mul, pb_cl, pb_b, pb_le_t, pb_le_f, pb_lt_t, pb_lt_f, pb_eq_t, pb_eq_f, i0, i9, pb_bi]
    exact ⟨_, _, _, rfl, rfl, hh⟩
