/-! distances: the sums -/
set_option maxRecDepth 100000
def pb_fl (D : Nat → Nat → Nat) (k a b : Nat) : Nat := min (D a b) (D a k + D k b)
def pb_fk (D : Nat → Nat → Nat) : Nat → Nat → Nat → Nat
  | 0 => D
  | k + 1 => pb_fl (pb_fk D k) k
theorem pb_fk_diag {D : Nat → Nat → Nat} (h : ∀ a, D a a = 0) : ∀ k a, pb_fk D k a a = 0 := by
  intro k
  induction k with
  | zero => exact h
  | succ k ih => intro a; show min (pb_fk D k a a) _ = 0; rw [ih a]; omega
theorem pb_fk_le {D : Nat → Nat → Nat} : ∀ k a b, pb_fk D k a b ≤ D a b := by
  intro k
  induction k with
  | zero => intro a b; exact Nat.le_refl _
  | succ k ih => intro a b; exact Nat.le_trans (Nat.min_le_left _ _) (ih a b)
theorem pb_fk_tri {D : Nat → Nat → Nat} (h : ∀ a, D a a = 0) : ∀ k j, j < k → ∀ a b, pb_fk D k a b ≤ pb_fk D k a j + pb_fk D k j b := by
  intro k
  induction k with
  | zero => intro j hj; omega
  | succ k ih =>
    intro j hj a b
    have dk := pb_fk_diag h k k
    show min (pb_fk D k a b) (pb_fk D k a k + pb_fk D k k b) ≤ min (pb_fk D k a j) (pb_fk D k a k + pb_fk D k k j) + min (pb_fk D k j b) (pb_fk D k j k + pb_fk D k k b)
    by_cases e : j = k
    · subst e; omega
    · have t1 := ih j (by omega) a b
      have t2 := ih j (by omega) k b
      have t3 := ih j (by omega) a k
      omega
/-- no edge leaves L: what is outside stays far -/
theorem pb_fk_cut {D : Nat → Nat → Nat} {F : Nat} {L : Nat → Prop} (h : ∀ x y, x < 6 → y < 6 → L x → ¬ L y → F ≤ D x y) : ∀ k, k ≤ 6 → ∀ x y, x < 6 → y < 6 → L x → ¬ L y → F ≤ pb_fk D k x y := by
  intro k
  induction k with
  | zero => intro _; exact h
  | succ k ih =>
    intro hk x y hx hy lx ly
    have h0 := ih (by omega) x y hx hy lx ly
    show F ≤ min (pb_fk D k x y) (pb_fk D k x k + pb_fk D k k y)
    by_cases lk : L k
    · have := ih (by omega) k y (by omega) hy lk ly
      omega
    · have := ih (by omega) x k hx (by omega) lx lk
      omega
/-- six towns: at most five roads of nine, or none -/
theorem pb_fk_45 {D : Nat → Nat → Nat} {F : Nat} (h0 : ∀ a, D a a = 0) (hF : ∀ a b, D a b ≤ F) (h9 : ∀ a b, a < 6 → b < 6 → D a b ≤ 9 ∨ D a b = F) (a b : Nat) (ha : a < 6) (hb : b < 6) : pb_fk D 6 a b ≤ 45 ∨ pb_fk D 6 a b = F := by
  by_cases hc : ∃ i, i ≤ 5 ∧ ∀ x, x < 6 → pb_fk D 6 a x ≤ 9 * (i + 1) → pb_fk D 6 a x ≤ 9 * i
  · obtain ⟨i, hi, hcl⟩ := hc
    by_cases hbi : pb_fk D 6 a b ≤ 9 * i
    · left; omega
    · right
      have := pb_fk_cut (D := D) (F := F) (L := fun x => pb_fk D 6 a x ≤ 9 * i) (fun x y hx hy lx ly => by
        rcases h9 x y hx hy with h | h
        · exfalso
          apply ly
          apply hcl y hy
          have t := pb_fk_tri h0 6 x hx a y
          have l := pb_fk_le (D := D) 6 x y
          have lx' : pb_fk D 6 a x ≤ 9 * i := lx
          omega
        · omega) 6 (by omega) a b ha hb (by show pb_fk D 6 a a ≤ 9 * i; rw [pb_fk_diag h0]; omega) hbi
      have l := pb_fk_le (D := D) 6 a b
      have l2 := hF a b
      omega
  · exfalso
    have hex : ∀ i, i ≤ 5 → ∃ x, x < 6 ∧ 9 * i < pb_fk D 6 a x ∧ pb_fk D 6 a x ≤ 9 * (i + 1) := by
      intro i hi
      apply Classical.byContradiction
      intro hn
      apply hc
      refine ⟨i, hi, fun x hx h => ?_⟩
      apply Classical.byContradiction
      intro hlt
      exact hn ⟨x, hx, by omega, h⟩
    obtain ⟨x0, p0, q0, r0⟩ := hex 0 (by omega)
    obtain ⟨x1, p1, q1, r1⟩ := hex 1 (by omega)
    obtain ⟨x2, p2, q2, r2⟩ := hex 2 (by omega)
    obtain ⟨x3, p3, q3, r3⟩ := hex 3 (by omega)
    obtain ⟨x4, p4, q4, r4⟩ := hex 4 (by omega)
    obtain ⟨x5, p5, q5, r5⟩ := hex 5 (by omega)
    have da : pb_fk D 6 a a = 0 := pb_fk_diag h0 6 a
    obtain ⟨i, j, h1, h2, e⟩ := pb_pigeon 6 (fun i => [a, x0, x1, x2, x3, x4, x5].getD i 0) (fun i hi => by
      have : i = 0 ∨ i = 1 ∨ i = 2 ∨ i = 3 ∨ i = 4 ∨ i = 5 ∨ i = 6 := by omega
      rcases this with rfl | rfl | rfl | rfl | rfl | rfl | rfl <;> assumption)
    have val : ∀ i, i ≤ 6 → 9 * i < pb_fk D 6 a ([a, x0, x1, x2, x3, x4, x5].getD i 0) + 9 ∧ (0 < i → 9 * i < pb_fk D 6 a ([a, x0, x1, x2, x3, x4, x5].getD i 0) + 9) ∧ pb_fk D 6 a ([a, x0, x1, x2, x3, x4, x5].getD i 0) ≤ 9 * i := by
      intro i hi
      have : i = 0 ∨ i = 1 ∨ i = 2 ∨ i = 3 ∨ i = 4 ∨ i = 5 ∨ i = 6 := by omega
      rcases this with rfl | rfl | rfl | rfl | rfl | rfl | rfl
      · show 9 * 0 < pb_fk D 6 a a + 9 ∧ (0 < 0 → _) ∧ pb_fk D 6 a a ≤ 9 * 0
        rw [da]; exact ⟨by omega, fun h => absurd h (by omega), by omega⟩
      · exact ⟨show _ < pb_fk D 6 a x0 + 9 by omega, fun _ => show _ < pb_fk D 6 a x0 + 9 by omega, show pb_fk D 6 a x0 ≤ _ by omega⟩
      · exact ⟨show _ < pb_fk D 6 a x1 + 9 by omega, fun _ => show _ < pb_fk D 6 a x1 + 9 by omega, show pb_fk D 6 a x1 ≤ _ by omega⟩
      · exact ⟨show _ < pb_fk D 6 a x2 + 9 by omega, fun _ => show _ < pb_fk D 6 a x2 + 9 by omega, show pb_fk D 6 a x2 ≤ _ by omega⟩
      · exact ⟨show _ < pb_fk D 6 a x3 + 9 by omega, fun _ => show _ < pb_fk D 6 a x3 + 9 by omega, show pb_fk D 6 a x3 ≤ _ by omega⟩
      · exact ⟨show _ < pb_fk D 6 a x4 + 9 by omega, fun _ => show _ < pb_fk D 6 a x4 + 9 by omega, show pb_fk D 6 a x4 ≤ _ by omega⟩
      · exact ⟨show _ < pb_fk D 6 a x5 + 9 by omega, fun _ => show _ < pb_fk D 6 a x5 + 9 by omega, show pb_fk D 6 a x5 ≤ _ by omega⟩
    have v1 := (val i (by omega)).2.2
    have v2 := (val j h2).1
    have e' : [a, x0, x1, x2, x3, x4, x5].getD i 0 = [a, x0, x1, x2, x3, x4, x5].getD j 0 := e
    rw [← e'] at v2
    omega
/-- two figures for 'no way' -/
theorem pb_fk_two {D E : Nat → Nat → Nat} (h : ∀ a b, a < 6 → b < 6 → (D a b = E a b ∧ D a b ≤ 9) ∨ (D a b = 100000 ∧ E a b = 1000000)) : ∀ k, k ≤ 6 → ∀ a b, a < 6 → b < 6 → (pb_fk D k a b = pb_fk E k a b ∧ pb_fk D k a b ≤ 9 * 2 ^ k) ∨ (pb_fk D k a b = 100000 ∧ pb_fk E k a b = 1000000) := by
  intro k
  induction k with
  | zero => intro _; exact h
  | succ k ih =>
    intro hk a b ha hb
    have h1 := ih (by omega) a b ha hb
    have h2 := ih (by omega) a k ha (by omega)
    have h3 := ih (by omega) k b (by omega) hb
    have hB : 2 ^ k ≤ 32 := Nat.pow_le_pow_right (by omega) (by omega : k ≤ 5)
    rw [Nat.pow_succ]
    show (min (pb_fk D k a b) (pb_fk D k a k + pb_fk D k k b) = min (pb_fk E k a b) (pb_fk E k a k + pb_fk E k k b) ∧ min (pb_fk D k a b) (pb_fk D k a k + pb_fk D k k b) ≤ 9 * (2 ^ k * 2)) ∨ (min (pb_fk D k a b) (pb_fk D k a k + pb_fk D k k b) = 100000 ∧ min (pb_fk E k a b) (pb_fk E k a k + pb_fk E k k b) = 1000000)
    generalize 2 ^ k = B at hB h1 h2 h3 ⊢
    omega
/-- rounds through what isn't a town change nothing -/
theorem pb_fk_iso {D : Nat → Nat → Nat} {F m : Nat} (h0 : ∀ a, D a a = 0) (hF : ∀ a b, D a b ≤ F) (hi : ∀ a b, a ≠ b → (m ≤ a ∨ m ≤ b) → D a b = F) : ∀ k a b, a ≠ b → (m ≤ a ∨ m ≤ b) → pb_fk D k a b = F := by
  intro k
  induction k with
  | zero => exact hi
  | succ k ih =>
    intro a b hab hm
    have h1 := ih a b hab hm
    show min (pb_fk D k a b) (pb_fk D k a k + pb_fk D k k b) = F
    by_cases e1 : a = k
    · subst e1
      rw [h1, pb_fk_diag h0]; omega
    · by_cases e2 : k = b
      · subst e2
        rw [h1, pb_fk_diag h0]; omega
      · rcases hm with hm | hm
        · have := ih a k e1 (Or.inl hm); omega
        · have := ih k b e2 (Or.inr hm); omega
theorem pb_fk_stop {D : Nat → Nat → Nat} {F m : Nat} (h0 : ∀ a, D a a = 0) (hF : ∀ a b, D a b ≤ F) (hi : ∀ a b, a ≠ b → (m ≤ a ∨ m ≤ b) → D a b = F) : ∀ j, ∀ a b, pb_fk D (m + j) a b = pb_fk D m a b := by
  intro j
  induction j with
  | zero => intro a b; rfl
  | succ j ih =>
    intro a b
    rw [← ih a b]
    show min (pb_fk D (m + j) a b) (pb_fk D (m + j) a (m + j) + pb_fk D (m + j) (m + j) b) = pb_fk D (m + j) a b
    have hle := Nat.le_trans (pb_fk_le (D := D) (m + j) a b) (hF a b)
    by_cases e : a = m + j
    · subst e
      rw [pb_fk_diag h0]; omega
    · have := pb_fk_iso h0 hF hi (m + j) a (m + j) e (Or.inr (by omega))
      omega
theorem pb_fl_col {D : Nat → Nat → Nat} {k : Nat} (h : D k k = 0) (a : Nat) : pb_fl D k a k = D a k := by unfold pb_fl; rw [h]; omega
theorem pb_fl_row {D : Nat → Nat → Nat} {k : Nat} (h : D k k = 0) (b : Nat) : pb_fl D k k b = D k b := by unfold pb_fl; rw [h]; omega
def pb_d0 (F : Nat) (x : Nat → Nat → Nat) (a b : Nat) : Nat := if a = b then 0 else if x a b = 0 then F else x a b
/-! the component's loops -/
def pb_ms (b0 : Nat) (D : Nat → Nat → Nat) (C0 C : fm_M) : Prop := (∀ i j, i < 6 → j < 6 → C.1 (b0 + 12 + i) j = nI (D i j)) ∧ (∀ c, (c < b0 + 12 ∨ b0 + 18 ≤ c) → C.1 c = C0.1 c) ∧ C.2 = C0.2
def pb_mix (a b : Nat) (D' D : Nat → Nat → Nat) (i j : Nat) : Nat := if i < a ∨ (i = a ∧ j < b) then D' i j else D i j
theorem pb_mix_next {a : Nat} {D' D : Nat → Nat → Nat} (i j : Nat) (hj : j < 6) : pb_mix a 6 D' D i j = pb_mix (a + 1) 0 D' D i j := by
  unfold pb_mix
  by_cases h : i < a ∨ (i = a ∧ j < 6)
  · rw [if_pos h, if_pos (by omega)]
  · rw [if_neg h, if_neg (by omega)]
theorem pb_ms.put {b0 a b : Nat} {D' D : Nat → Nat → Nat} {C0 C : fm_M} (h : pb_ms b0 (pb_mix a b D' D) C0 C) (ha : a < 6) (hb : b < 6) {v : Int32} (hv : v = nI (D' a b)) : pb_ms b0 (pb_mix a (b + 1) D' D) C0 (fm_wr C (b0 + 12 + a) b v) := by
  obtain ⟨h1, h2, h3⟩ := h
  refine ⟨fun i j hi hj => ?_, fun c hc => ?_, h3⟩
  · by_cases e : i = a ∧ j = b
    · rw [e.1, e.2, pb_wr_e, pb_up_e, hv]
      unfold pb_mix
      rw [if_pos (by omega)]
    · rw [pb_wr_ne (by omega), h1 i j hi hj]
      unfold pb_mix
      by_cases h : i < a ∨ (i = a ∧ j < b)
      · rw [if_pos h, if_pos (by omega)]
      · rw [if_neg h, if_neg (by omega)]
  · rw [pb_wr_n (by omega)]; exact h2 c hc
theorem pb_ms.next {b0 a : Nat} {D' D : Nat → Nat → Nat} {C0 C : fm_M} (h : pb_ms b0 (pb_mix a 6 D' D) C0 C) : pb_ms b0 (pb_mix (a + 1) 0 D' D) C0 C := ⟨fun i j hi hj => by rw [h.1 i j hi hj, pb_mix_next i j hj], h.2⟩
theorem pb_ms.done {b0 : Nat} {D' D : Nat → Nat → Nat} {C0 C : fm_M} (h : pb_ms b0 (pb_mix 6 0 D' D) C0 C) : pb_ms b0 D' C0 C := ⟨fun i j hi hj => by rw [h.1 i j hi hj]; unfold pb_mix; rw [if_pos (by omega)], h.2⟩
theorem pb_ms.zero {b0 : Nat} {D' D : Nat → Nat → Nat} {C0 C : fm_M} (h : pb_ms b0 D C0 C) : pb_ms b0 (pb_mix 0 0 D' D) C0 C := ⟨fun i j hi hj => by rw [h.1 i j hi hj]; unfold pb_mix; rw [if_neg (by omega)], h.2⟩
theorem pb_meas10 {n bk b0 a : Nat} {x D : Nat → Nat → Nat} {C0 : fm_M} {Q : Option fm_M → Prop} (ha : a < 6) (hx : ∀ i j, i < 6 → j < 6 → C0.1 (b0 + 5 + i) j = nI (x i j) ∧ x i j ≤ 9) (k2 : fm_M → Int32 → Option fm_M) (hQ : ∀ C', pb_ms b0 (pb_mix (a + 1) 0 (pb_d0 100000 x) D) C0 C' → Q (k2 C' (nI (a + 1)))) : ∀ (k b : Nat) (C : fm_M), pb_ms b0 (pb_mix a b (pb_d0 100000 x) D) C0 C → b ≤ 6 → 6 < b + k → Q (fX1_measure_10 n bk b0 k2 k C (nI a) (nI b)) := by
  intro k
  induction k with
  | zero => intro b C h0 h1 h2; omega
  | succ k ih =>
    intro b C hM h1 h2
    rw [fX1_measure_10]
    by_cases hb : b = 6
    · subst hb
      simp (disch := omega) only [pb_l0, pb_l1, pb_l2, pb_l3, pb_l4, pb_l5, pb_l6, pb_l7, pb_l8, pb_l9, pb_l10, pb_l12, pb_l14, pb_l20, pb_l32, pb_l36, pb_l48, pb_l56, pb_l57, pb_l59, pb_l60, pb_l72, pb_l99, pb_l100, pb_l111, pb_l116, pb_l200, pb_l255, pb_l504, pb_l560, pb_l1000, pb_l9999, pb_l10000, pb_l100000, pb_l1000000, nI_add, pk_mul, pb_cl, pb_b, pb_le_t, pb_le_f, pb_lt_t, pb_lt_f, pb_eq_t, pb_eq_f]
      exact hQ C hM.next
    · have nxt := fun v hv => ih (b + 1) _ (hM.put ha (by omega) (v := v) hv) (by omega) (by omega)
      obtain ⟨x1, x2⟩ := hx a b ha (by omega)
      have ex : C.1 (b0 + 5 + a) b = nI (x a b) := by rw [hM.2.1 _ (by omega)]; exact x1
      by_cases e : a = b
      · simp (disch := omega) only [pb_l0, pb_l1, pb_l2, pb_l3, pb_l4, pb_l5, pb_l6, pb_l7, pb_l8, pb_l9, pb_l10, pb_l12, pb_l14, pb_l20, pb_l32, pb_l36, pb_l48, pb_l56, pb_l57, pb_l59, pb_l60, pb_l72, pb_l99, pb_l100, pb_l111, pb_l116, pb_l200, pb_l255, pb_l504, pb_l560, pb_l1000, pb_l9999, pb_l10000, pb_l100000, pb_l1000000, nI_add, pk_mul, pb_cl, pb_b, pb_le_t, pb_le_f, pb_lt_t, pb_lt_f, pb_eq_t, pb_eq_f, fm_let]
        exact nxt _ (by unfold pb_d0; rw [if_pos e])
      · by_cases z : x a b = 0
        · simp (disch := omega) only [pb_l0, pb_l1, pb_l2, pb_l3, pb_l4, pb_l5, pb_l6, pb_l7, pb_l8, pb_l9, pb_l10, pb_l12, pb_l14, pb_l20, pb_l32, pb_l36, pb_l48, pb_l56, pb_l57, pb_l59, pb_l60, pb_l72, pb_l99, pb_l100, pb_l111, pb_l116, pb_l200, pb_l255, pb_l504, pb_l560, pb_l1000, pb_l9999, pb_l10000, pb_l100000, pb_l1000000, nI_add, pk_mul, pb_cl, pb_b, pb_le_t, pb_le_f, pb_lt_t, pb_lt_f, pb_eq_t, pb_eq_f, fm_let, ex]
          exact nxt _ (by unfold pb_d0; rw [if_neg e, if_pos z])
        · simp (disch := omega) only [pb_l0, pb_l1, pb_l2, pb_l3, pb_l4, pb_l5, pb_l6, pb_l7, pb_l8, pb_l9, pb_l10, pb_l12, pb_l14, pb_l20, pb_l32, pb_l36, pb_l48, pb_l56, pb_l57, pb_l59, pb_l60, pb_l72, pb_l99, pb_l100, pb_l111, pb_l116, pb_l200, pb_l255, pb_l504, pb_l560, pb_l1000, pb_l9999, pb_l10000, pb_l100000, pb_l1000000, nI_add, pk_mul, pb_cl, pb_b, pb_le_t, pb_le_f, pb_lt_t, pb_lt_f, pb_eq_t, pb_eq_f, fm_let, ex]
          exact nxt _ (by unfold pb_d0; rw [if_neg e, if_neg z])
theorem pb_meas2 {n bk b0 : Nat} {x D : Nat → Nat → Nat} {C0 : fm_M} {Q : Option fm_M → Prop} (hn : 10 ≤ n) (hx : ∀ i j, i < 6 → j < 6 → C0.1 (b0 + 5 + i) j = nI (x i j) ∧ x i j ≤ 9) (hQ : ∀ C', pb_ms b0 (pb_d0 100000 x) C0 C' → Q (fX1_measure_71 n bk b0 n C' (nI 0))) : ∀ (k a : Nat) (C : fm_M), pb_ms b0 (pb_mix a 0 (pb_d0 100000 x) D) C0 C → a ≤ 6 → 6 < a + k → Q (fX1_measure_2 n bk b0 k C (nI a)) := by
  intro k
  induction k with
  | zero => intro a C h0 h1 h2; omega
  | succ k ih =>
    intro a C hM h1 h2
    rw [fX1_measure_2]
    by_cases ha : a = 6
    · subst ha
      simp (disch := omega) only [pb_l0, pb_l1, pb_l2, pb_l3, pb_l4, pb_l5, pb_l6, pb_l7, pb_l8, pb_l9, pb_l10, pb_l12, pb_l14, pb_l20, pb_l32, pb_l36, pb_l48, pb_l56, pb_l57, pb_l59, pb_l60, pb_l72, pb_l99, pb_l100, pb_l111, pb_l116, pb_l200, pb_l255, pb_l504, pb_l560, pb_l1000, pb_l9999, pb_l10000, pb_l100000, pb_l1000000, nI_add, pk_mul, pb_cl, pb_b, pb_le_t, pb_le_f, pb_lt_t, pb_lt_f, pb_eq_t, pb_eq_f]
      exact hQ C hM.done
    · simp (disch := omega) only [pb_l0, pb_l1, pb_l2, pb_l3, pb_l4, pb_l5, pb_l6, pb_l7, pb_l8, pb_l9, pb_l10, pb_l12, pb_l14, pb_l20, pb_l32, pb_l36, pb_l48, pb_l56, pb_l57, pb_l59, pb_l60, pb_l72, pb_l99, pb_l100, pb_l111, pb_l116, pb_l200, pb_l255, pb_l504, pb_l560, pb_l1000, pb_l9999, pb_l10000, pb_l100000, pb_l1000000, nI_add, pk_mul, pb_cl, pb_b, pb_le_t, pb_le_f, pb_lt_t, pb_lt_f, pb_eq_t, pb_eq_f]
      exact pb_meas10 (by omega) hx _ (fun C' h' => ih (a + 1) C' h' (by omega) (by omega)) n 0 C hM (by omega) (by omega)
theorem pb_meas87 {n bk b0 m a : Nat} {D : Nat → Nat → Nat} {C0 : fm_M} {Q : Option fm_M → Prop} (hm : m < 6) (ha : a < 6) (hd : D m m = 0) (hD : ∀ i j, D i j ≤ 100000) (k71 : fm_M → Int32 → Option fm_M) (k79 : fm_M → Int32 → Int32 → Option fm_M) (hQ : ∀ C', pb_ms b0 (pb_mix (a + 1) 0 (pb_fl D m) D) C0 C' → Q (k79 C' (nI m) (nI (a + 1)))) : ∀ (k b : Nat) (C : fm_M), pb_ms b0 (pb_mix a b (pb_fl D m) D) C0 C → b ≤ 6 → 6 < b + k → Q (fX1_measure_87 n bk b0 k71 k79 k C (nI m) (nI a) (nI b)) := by
  intro k
  induction k with
  | zero => intro b C h0 h1 h2; omega
  | succ k ih =>
    intro b C hM h1 h2
    rw [fX1_measure_87]
    by_cases hb : b = 6
    · subst hb
      simp (disch := omega) only [pb_l0, pb_l1, pb_l2, pb_l3, pb_l4, pb_l5, pb_l6, pb_l7, pb_l8, pb_l9, pb_l10, pb_l12, pb_l14, pb_l20, pb_l32, pb_l36, pb_l48, pb_l56, pb_l57, pb_l59, pb_l60, pb_l72, pb_l99, pb_l100, pb_l111, pb_l116, pb_l200, pb_l255, pb_l504, pb_l560, pb_l1000, pb_l9999, pb_l10000, pb_l100000, pb_l1000000, nI_add, pk_mul, pb_cl, pb_b, pb_le_t, pb_le_f, pb_lt_t, pb_lt_f, pb_eq_t, pb_eq_f]
      exact hQ C hM.next
    · have nxt := fun v hv => ih (b + 1) _ (hM.put ha (by omega) (v := v) hv) (by omega) (by omega)
      have e1 : C.1 (b0 + 12 + a) m = nI (D a m) := by
        rw [hM.1 a m ha hm]
        unfold pb_mix
        split
        · rw [pb_fl_col hd]
        · rfl
      have e2 : C.1 (b0 + 12 + m) b = nI (D m b) := by
        rw [hM.1 m b hm (by omega)]
        unfold pb_mix
        split
        · rw [pb_fl_row hd]
        · rfl
      have e3 : C.1 (b0 + 12 + a) b = nI (D a b) := by
        rw [hM.1 a b ha (by omega)]
        unfold pb_mix
        rw [if_neg (by omega)]
      have q1 := hD a m
      have q2 := hD m b
      have q3 := hD a b
      by_cases c : D a m + D m b < D a b
      · simp (disch := omega) only [pb_l0, pb_l1, pb_l2, pb_l3, pb_l4, pb_l5, pb_l6, pb_l7, pb_l8, pb_l9, pb_l10, pb_l12, pb_l14, pb_l20, pb_l32, pb_l36, pb_l48, pb_l56, pb_l57, pb_l59, pb_l60, pb_l72, pb_l99, pb_l100, pb_l111, pb_l116, pb_l200, pb_l255, pb_l504, pb_l560, pb_l1000, pb_l9999, pb_l10000, pb_l100000, pb_l1000000, nI_add, pk_mul, pb_cl, pb_b, pb_le_t, pb_le_f, pb_lt_t, pb_lt_f, pb_eq_t, pb_eq_f, fm_let, e1, e2, e3]
        exact nxt _ (by unfold pb_fl; rw [show min (D a b) (D a m + D m b) = D a m + D m b by omega])
      · simp (disch := omega) only [pb_l0, pb_l1, pb_l2, pb_l3, pb_l4, pb_l5, pb_l6, pb_l7, pb_l8, pb_l9, pb_l10, pb_l12, pb_l14, pb_l20, pb_l32, pb_l36, pb_l48, pb_l56, pb_l57, pb_l59, pb_l60, pb_l72, pb_l99, pb_l100, pb_l111, pb_l116, pb_l200, pb_l255, pb_l504, pb_l560, pb_l1000, pb_l9999, pb_l10000, pb_l100000, pb_l1000000, nI_add, pk_mul, pb_cl, pb_b, pb_le_t, pb_le_f, pb_lt_t, pb_lt_f, pb_eq_t, pb_eq_f, fm_let, e1, e2, e3]
        exact nxt _ (by unfold pb_fl; rw [show min (D a b) (D a m + D m b) = D a b by omega])
theorem pb_meas79 {n bk b0 m : Nat} {D : Nat → Nat → Nat} {C0 : fm_M} {Q : Option fm_M → Prop} (hn : 10 ≤ n) (hm : m < 6) (hd : D m m = 0) (hD : ∀ i j, D i j ≤ 100000) (k71 : fm_M → Int32 → Option fm_M) (hQ : ∀ C', pb_ms b0 (pb_fl D m) C0 C' → Q (k71 C' (nI (m + 1)))) : ∀ (k a : Nat) (C : fm_M), pb_ms b0 (pb_mix a 0 (pb_fl D m) D) C0 C → a ≤ 6 → 6 < a + k → Q (fX1_measure_79 n bk b0 k71 k C (nI m) (nI a)) := by
  intro k
  induction k with
  | zero => intro a C h0 h1 h2; omega
  | succ k ih =>
    intro a C hM h1 h2
    rw [fX1_measure_79]
    by_cases ha : a = 6
    · subst ha
      simp (disch := omega) only [pb_l0, pb_l1, pb_l2, pb_l3, pb_l4, pb_l5, pb_l6, pb_l7, pb_l8, pb_l9, pb_l10, pb_l12, pb_l14, pb_l20, pb_l32, pb_l36, pb_l48, pb_l56, pb_l57, pb_l59, pb_l60, pb_l72, pb_l99, pb_l100, pb_l111, pb_l116, pb_l200, pb_l255, pb_l504, pb_l560, pb_l1000, pb_l9999, pb_l10000, pb_l100000, pb_l1000000, nI_add, pk_mul, pb_cl, pb_b, pb_le_t, pb_le_f, pb_lt_t, pb_lt_f, pb_eq_t, pb_eq_f]
      exact hQ C hM.done
    · simp (disch := omega) only [pb_l0, pb_l1, pb_l2, pb_l3, pb_l4, pb_l5, pb_l6, pb_l7, pb_l8, pb_l9, pb_l10, pb_l12, pb_l14, pb_l20, pb_l32, pb_l36, pb_l48, pb_l56, pb_l57, pb_l59, pb_l60, pb_l72, pb_l99, pb_l100, pb_l111, pb_l116, pb_l200, pb_l255, pb_l504, pb_l560, pb_l1000, pb_l9999, pb_l10000, pb_l100000, pb_l1000000, nI_add, pk_mul, pb_cl, pb_b, pb_le_t, pb_le_f, pb_lt_t, pb_lt_f, pb_eq_t, pb_eq_f]
      exact pb_meas87 hm (by omega) hd hD _ _ (fun C' h' => ih (a + 1) C' h' (by omega) (by omega)) n 0 C hM (by omega) (by omega)
theorem pb_meas71 {n bk b0 : Nat} {D : Nat → Nat → Nat} {C0 : fm_M} (hn : 10 ≤ n) (hd : ∀ a, D a a = 0) (hD : ∀ i j, D i j ≤ 100000) : ∀ (k m : Nat) (C : fm_M), pb_ms b0 (pb_fk D m) C0 C → m ≤ 6 → 6 < m + k → ∃ C', fX1_measure_71 n bk b0 k C (nI m) = some C' ∧ pb_ms b0 (pb_fk D 6) C0 C' := by
  intro k
  induction k with
  | zero => intro m C h0 h1 h2; omega
  | succ k ih =>
    intro m C hM h1 h2
    rw [fX1_measure_71]
    by_cases hm : m = 6
    · subst hm
      simp (disch := omega) only [pb_l0, pb_l1, pb_l2, pb_l3, pb_l4, pb_l5, pb_l6, pb_l7, pb_l8, pb_l9, pb_l10, pb_l12, pb_l14, pb_l20, pb_l32, pb_l36, pb_l48, pb_l56, pb_l57, pb_l59, pb_l60, pb_l72, pb_l99, pb_l100, pb_l111, pb_l116, pb_l200, pb_l255, pb_l504, pb_l560, pb_l1000, pb_l9999, pb_l10000, pb_l100000, pb_l1000000, nI_add, pk_mul, pb_cl, pb_b, pb_le_t, pb_le_f, pb_lt_t, pb_lt_f, pb_eq_t, pb_eq_f]
      exact ⟨C, rfl, hM⟩
    · simp (disch := omega) only [pb_l0, pb_l1, pb_l2, pb_l3, pb_l4, pb_l5, pb_l6, pb_l7, pb_l8, pb_l9, pb_l10, pb_l12, pb_l14, pb_l20, pb_l32, pb_l36, pb_l48, pb_l56, pb_l57, pb_l59, pb_l60, pb_l72, pb_l99, pb_l100, pb_l111, pb_l116, pb_l200, pb_l255, pb_l504, pb_l560, pb_l1000, pb_l9999, pb_l10000, pb_l100000, pb_l1000000, nI_add, pk_mul, pb_cl, pb_b, pb_le_t, pb_le_f, pb_lt_t, pb_lt_f, pb_eq_t, pb_eq_f]
      exact pb_meas79 (Q := fun z => ∃ C', z = some C' ∧ pb_ms b0 (pb_fk D 6) C0 C') hn (by omega) (pb_fk_diag hd m m) (fun i j => Nat.le_trans (pb_fk_le m i j) (hD i j)) _ (fun C' h' => ih (m + 1) C' h' (by omega) (by omega)) n 0 C hM.zero (by omega) (by omega)
theorem pb_d0_diag {F : Nat} {x : Nat → Nat → Nat} (a : Nat) : pb_d0 F x a a = 0 := if_pos rfl
theorem pb_d0_le {F : Nat} {x : Nat → Nat → Nat} (hF : 9 ≤ F) (hx : ∀ a b, x a b ≤ 9) (a b : Nat) : pb_d0 F x a b ≤ F := by
  unfold pb_d0
  have := hx a b
  split
  · omega
  · split <;> omega
theorem pb_ofI (v : Int32) : v = nI v.toBitVec.toNat := by
  show v = Int32.ofNat v.toBitVec.toNat
  rw [Int32.ofNat_bitVecToNat, Int32.ofBitVec_toBitVec]
theorem pb_measure {n bk b0 : Nat} {x : Nat → Nat → Nat} {C : fm_M} (hn : 10 ≤ n) (hx : ∀ i j, i < 6 → j < 6 → C.1 (b0 + 5 + i) j = nI (x i j)) (hx9 : ∀ i j, x i j ≤ 9) : ∃ C', fX1_measure n bk b0 C = some C' ∧ pb_ms b0 (pb_fk (pb_d0 100000 x) 6) C C' := by
  unfold fX1_measure
  refine pb_meas2 (Q := fun z => ∃ C', z = some C' ∧ pb_ms b0 (pb_fk (pb_d0 100000 x) 6) C C') (D := fun i j => (C.1 (b0 + 12 + i) j).toBitVec.toNat) (x := x) hn (fun i j hi hj => ⟨hx i j hi hj, hx9 i j⟩) (fun C' h' => ?_) n 0 C ⟨fun i j hi hj => by unfold pb_mix; rw [if_neg (by omega)]; exact pb_ofI _, fun _ _ => rfl, rfl⟩ (by omega) (by omega)
  exact pb_meas71 hn pb_d0_diag (pb_d0_le (by omega) hx9) n 0 C' h' (by omega) (by omega)
