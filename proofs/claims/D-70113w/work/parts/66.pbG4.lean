/-! hang and odds, whole -/
set_option maxRecDepth 100000
theorem pb_mkHD {m o bk : Nat} {C R : fm_M} (hB : pb_B m o bk C R) (h1 : pb_PR m C 39 (R.1 11)) : ∃ b, pb_HD m b R ∧ ∀ C', (∀ c, c ≠ 0 → C'.1 c = C.1 c) → pb_HC m bk b R C' := by
  obtain ⟨⟨a1, a2, a3⟩, ⟨b1, b2, b3, b4⟩, c1, d1, e1, f1, g1⟩ := hB
  have hbe := fun t ht => h1.bears (t := t) ht a1
  have hbl := fun t ht => h1.bell (t := t) ht
  obtain ⟨_, b, hb, hr⟩ := h1
  refine ⟨b, ⟨a1, hb, b2, hr, fun u t hu ht => ?_, fun c hc => ?_⟩, fun C' hC' => ⟨?_, fun t ht => ?_, fun u t hu ht => ?_, fun t ht => ?_, fun c hc => ?_⟩⟩
  · unfold pb_rf
    rcases f1 u t hu ht with ⟨v, v1, v2, v3⟩ | ⟨v2, v3⟩
    · rw [v3, pb_cl (by omega)]; exact Or.inl ⟨v1, rfl⟩
    · rw [v3, pb_cl (by omega)]; exact Or.inr ⟨rfl, rfl⟩
  · obtain ⟨w, w1, w2⟩ := (c1 c hc).2.2
    unfold pb_wt
    rw [w2, pb_cl (by omega)]; exact ⟨w1, rfl⟩
  · rw [hC' bk (by omega)]; exact b1
  · rw [hC' 40 (by omega), ← hr t ht]; exact hbl t (by omega)
  · rw [hC' _ (by omega)]
    unfold pb_rf
    rcases f1 u t hu ht with ⟨v, v1, v2, v3⟩ | ⟨v2, v3⟩
    · rw [v3, pb_cl (by omega), if_pos v1]; exact v2
    · rw [v3, pb_cl (by omega), if_neg (by omega)]; exact v2
  · rw [hC' 41 (by omega)]; exact hbe t ht
  · rw [hC' _ (by omega), (c1 c hc).1]
    obtain ⟨w, w1, w2⟩ := (c1 c hc).2.2
    unfold pb_wt
    rw [w2, pb_cl (by omega)]
theorem pb_hangop {n bk : Nat} {C R : fm_M} (h : pb_R bk C R) (hn : 50000 ≤ n) (l : Int32) : pb_ok bk (fX0_hang n bk C l) (fX9_hang n R l) := by
  have h' := h.thrown
  unfold fX9_hang fX0_hang
  simp only [fm_let, pb_l0, pb_l1, pb_l1000000]
  rw [pb_l0] at h'
  generalize fm_wr R 0 0 (nI 0) = R1 at h' ⊢
  clear h
  have hh := h'
  obtain ⟨m, o, d, f, y, p, hB, hS⟩ := h'
  have hm := hB.1.1
  have hbk := hB.1.2.2
  have go : (l = -nI 1 ∨ ∃ t, t < m ∧ l = nI t) → pb_ok bk (fX0_hang_15 n bk C l) (fX9_hang_25 n n R1 l (nI 1000000) (nI 0)) := by
    intro hl
    obtain ⟨b, H, hC⟩ := pb_mkHD hB hS.1
    have hmm : m ^ m ≤ 46656 := by
      have : m = 0 ∨ m = 1 ∨ m = 2 ∨ m = 3 ∨ m = 4 ∨ m = 5 ∨ m = 6 := by omega
      rcases this with rfl | rfl | rfl | rfl | rfl | rfl | rfl <;> decide
    obtain ⟨R', e1, e2⟩ := pb_hang9 (n := n) (l := l) H (by omega) hl n 0 R1 (100000, 0) (by omega) (by omega) ⟨fun _ _ _ => rfl, rfl⟩ (Or.inl rfl)
    obtain ⟨C', q1, q2, q3, q4⟩ := pb_hangF (n := n) (bk := bk) H (by omega) hbk m 8 0 0 0 (fm_wr C 0 11 (nI 100000)) (100000, 0) (by omega) (by omega) (hC _ (fun c hc => pb_wr_n hc)) ⟨by simp (disch := omega) only [pb_wr_e, pb_wr_n, pb_row_e, pb_row_n, pb_up_e, pb_up_n, pb_wr_2, pb_row_2], Or.inl rfl⟩ (fun i hi => by omega) (fun i j hi => by omega) (pb_msks.zero hm) (fun i hi => by omega)
    rw [Nat.zero_mul] at q2
    rw [Nat.sub_zero, if_pos rfl] at e1
    generalize pb_fold (pb_stp m b R1) (m ^ m) 0 (100000, 0) = a at e1 q2
    refine ⟨pb_ans m l a, C', R', ?_, e1, hh.frame ⟨fun c hc => ?_, ⟨?_, ?_, ?_⟩, ?_⟩ (pb_fR.of (fun c c1 c2 c3 => e2.1 c c2 c3) e2.2)⟩
    · unfold fX0_hang_15
      have q1' : fX0_hangFrom n bk 8 (fm_wr C 0 11 (nI 100000)) (nI 0) (nI 0) (nI 0) = some C' := q1
      simp only [fm_let, pb_l100000, pb_l0, pb_l1, pb_l9, q1', pb_bv, q2.1]
      unfold pb_ans
      rcases q2.2 with z | ⟨z1, z2⟩
      · simp (disch := omega) only [pb_ifp z, pb_l0, pb_l1, pb_l2, pb_l3, pb_l4, pb_l5, pb_l6, pb_l7, pb_l8, pb_l9, pb_l10, pb_l12, pb_l14, pb_l20, pb_l32, pb_l36, pb_l48, pb_l56, pb_l57, pb_l59, pb_l60, pb_l72, pb_l99, pb_l100, pb_l111, pb_l116, pb_l200, pb_l255, pb_l504, pb_l560, pb_l1000, pb_l9999, pb_l10000, pb_l100000, pb_l1000000, nI_add, pk_mul, pb_cl, pb_b, pb_le_t, pb_le_f, pb_lt_t, pb_lt_f, pb_eq_t, pb_eq_f]
      · have z : ¬ a.1 = 100000 := by omega
        simp (disch := omega) only [pb_ifn z, pb_l0, pb_l1, pb_l2, pb_l3, pb_l4, pb_l5, pb_l6, pb_l7, pb_l8, pb_l9, pb_l10, pb_l12, pb_l14, pb_l20, pb_l32, pb_l36, pb_l48, pb_l56, pb_l57, pb_l59, pb_l60, pb_l72, pb_l99, pb_l100, pb_l111, pb_l116, pb_l200, pb_l255, pb_l504, pb_l560, pb_l1000, pb_l9999, pb_l10000, pb_l100000, pb_l1000000, nI_add, pk_mul, pb_cl, pb_b, pb_le_t, pb_le_f, pb_lt_t, pb_lt_f, pb_eq_t, pb_eq_f]
        rcases hl with hl | ⟨t, ht, hl⟩
        · simp only [pb_ifp hl]
        · have hl1 := pb_nm1 (s := t) (by omega)
          rw [hl]
          simp (disch := omega) only [pb_ifn hl1, pb_l0, pb_l1, pb_l2, pb_l3, pb_l4, pb_l5, pb_l6, pb_l7, pb_l8, pb_l9, pb_l10, pb_l12, pb_l14, pb_l20, pb_l32, pb_l36, pb_l48, pb_l56, pb_l57, pb_l59, pb_l60, pb_l72, pb_l99, pb_l100, pb_l111, pb_l116, pb_l200, pb_l255, pb_l504, pb_l560, pb_l1000, pb_l9999, pb_l10000, pb_l100000, pb_l1000000, nI_add, pk_mul, pb_cl, pb_b, pb_le_t, pb_le_f, pb_lt_t, pb_lt_f, pb_eq_t, pb_eq_f, z2]
    · rw [q3.1 c (by omega) (by omega) (by omega), pb_wr_n (by omega)]
    · rw [q3.2.1 6 (by omega), pb_wr_e, pb_up_n (by omega)]
    · rw [q3.2.1 10 (by omega), pb_wr_e, pb_up_n (by omega)]
    · rw [q3.2.1 16 (by omega), pb_wr_e, pb_up_n (by omega)]
    · rw [q3.2.2]; rfl
  by_cases e : l = -nI 1
  · simp only [pb_ifp e]
    exact go (Or.inl e)
  · simp only [pb_ifn e]
    rcases pb_isTown (n := n) (bk := bk) hB.2.1.1 hB.2.1.2.1 hm l with ⟨t, ht, et, k0, k9⟩ | ⟨k0, k9⟩
    · simp (disch := omega) only [k0, k9, pb_bi, pb_eq_f]
      exact go (Or.inr ⟨t, ht, et⟩)
    · simp (disch := omega) only [k0, k9, pb_bi, pb_eq_t]
      exact ⟨_, _, _, rfl, rfl, hh⟩
/-! odds -/
def pb_cdL (rc : Nat → Nat) (okt : Nat → Bool) (s : Nat) : Nat → Nat → Nat
  | 0, _ => 0
  | j + 1, x => (if pb_tb s x = false ∧ okt x = true then rc (pb_set s x) else 0) + pb_cdL rc okt s j (x + 1)
def pb_cd (m : Nat) (okb : Nat → Nat → Bool) : Nat → Nat → Nat → Nat
  | 0, _, _ => 1
  | k + 1, t, s => pb_cdL (pb_cd m okb k (t + 1)) (okb t) s m 0
def pb_V2 (m : Nat) (okb : Nat → Nat → Bool) (w : Nat) : Prop := pb_inj m (pb_pd m m w) ∧ ∀ i, i < m → okb i (pb_pd m m w i) = true
noncomputable def pb_cs (m : Nat) (okb : Nat → Nat → Bool) (a w : Nat) : Nat := @ite _ (pb_V2 m okb w) (Classical.propDecidable _) (a + 1) a
theorem pb_cs_n {m : Nat} {okb : Nat → Nat → Bool} {a w : Nat} (h : ¬ pb_V2 m okb w) : pb_cs m okb a w = a := pb_ifn h
theorem pb_cs_p {m : Nat} {okb : Nat → Nat → Bool} {a w : Nat} (h : pb_V2 m okb w) : pb_cs m okb a w = a + 1 := pb_ifp h
theorem pb_cd_fold {m : Nat} {okb : Nat → Nat → Bool} (hm : m ≤ 6) : ∀ (k t P s a : Nat), t + k = m → (∀ i, i < t → okb i (pb_pd m t P i) = true) → pb_inj t (pb_pd m t P) → pb_msks m s t (pb_pd m t P) → pb_fold (pb_cs m okb) (m ^ k) (P * m ^ k) a = a + pb_cd m okb k t s := by
  intro k
  induction k with
  | zero =>
    intro t P s a h1 hv hi hs
    have et : t = m := by omega
    subst et
    rw [Nat.pow_zero, Nat.mul_one, pb_cd]
    exact pb_cs_p ⟨hi, hv⟩
  | succ k ih =>
    intro t P s a h1 hv hi hs
    have hm0 : 0 < m := by omega
    have loop : ∀ (j x a : Nat), x + j = m → pb_fold (pb_cs m okb) (j * m ^ k) ((P * m + x) * m ^ k) a = a + pb_cdL (pb_cd m okb k (t + 1)) (okb t) s j x := by
      intro j
      induction j with
      | zero => intro x a _; rw [Nat.zero_mul]; rfl
      | succ j ihj =>
        intro x a hx
        have hsplit : (j + 1) * m ^ k = m ^ k + j * m ^ k := by rw [Nat.add_mul, Nat.one_mul, Nat.add_comm]
        have hnext : (P * m + x) * m ^ k + m ^ k = (P * m + (x + 1)) * m ^ k := by rw [← Nat.add_assoc (P * m) x 1, Nat.add_mul _ 1, Nat.one_mul]
        have hmask := hs.2 x (by omega)
        rw [hsplit, pb_fold_add, hnext, ihj (x + 1) _ (by omega), pb_cdL]
        by_cases c : pb_tb s x = false ∧ okb t x = true
        · have lo : ∀ i, i < t → pb_pd m (t + 1) (P * m + x) i = pb_pd m t P i := fun i hi => pb_pd_lo (by omega) hi
          have hi' : pb_pd m (t + 1) (P * m + x) t = x := pb_pd_hi (by omega)
          have hnew : ∀ i, i < t → pb_pd m t P i ≠ x := fun i hi e => by
            have := hmask.mpr ⟨i, hi, e⟩
            rw [c.1] at this; cases this
          rw [if_pos c, ih (t + 1) (P * m + x) (pb_set s x) a (by omega) (fun i hi2 => by
            by_cases ei : i = t
            · rw [ei, hi']; exact c.2
            · rw [lo i (by omega)]; exact hv i (by omega)) (hi.step lo hi' hnew) (hs.step hm (by omega) lo hi')]
          omega
        · rw [if_neg c]
          have hid : pb_fold (pb_cs m okb) (m ^ k) ((P * m + x) * m ^ k) a = a := by
            refine pb_fold_id _ _ _ (fun w a h1' h2' => pb_cs_n (fun h => ?_))
            have hp : w / m ^ k = P * m + x := pb_pre hm0 h1' (by rw [Nat.add_mul, Nat.one_mul]; exact h2')
            have e1 : ∀ i, i < t + 1 → pb_pd m m w i = pb_pd m (t + 1) (P * m + x) i := fun i hi => by
              have := pb_pd_pre (m := m) (t := t + 1) (k := k) (w := w) hi
              rw [show t + 1 + k = m by omega, hp] at this
              exact this
            have et : pb_pd m m w t = x := by rw [e1 t (by omega), pb_pd_hi (by omega)]
            apply c
            refine ⟨?_, ?_⟩
            · cases hb : pb_tb s x with
              | false => rfl
              | true =>
                exfalso
                obtain ⟨i, hi2, e⟩ := hmask.mp hb
                have ei : pb_pd m m w i = x := by rw [e1 i (by omega), pb_pd_lo (by omega) hi2, e]
                have := h.1 i t (by omega) (by omega) (by rw [ei, et])
                omega
            · have := h.2 t (by omega)
              rw [et] at this
              exact this
          rw [hid]; omega
    have := loop m 0 a (by omega)
    rw [Nat.add_zero, Nat.mul_assoc, ← Nat.pow_succ'] at this
    exact this
theorem pb_cd_all {m : Nat} {okb : Nat → Nat → Bool} (hm : m ≤ 6) : pb_fold (pb_cs m okb) (m ^ m) 0 0 = pb_cd m okb m 0 0 := by
  have := pb_cd_fold (okb := okb) hm m 0 0 0 0 (by omega) (fun i hi => by omega) (fun i j hi => by omega) (pb_msks.zero hm)
  rw [Nat.zero_mul, Nat.zero_add] at this
  exact this
theorem pb_fold_le {m : Nat} {okb : Nat → Nat → Bool} : ∀ (c lo a a' : Nat), a ≤ a' → pb_fold (pb_cs m okb) c lo a ≤ pb_fold (pb_cs m (fun _ _ => true)) c lo a' := by
  intro c
  induction c with
  | zero => intro lo a a' h; exact h
  | succ c ih =>
    intro lo a a' h
    rw [pb_fold, pb_fold]
    apply ih
    by_cases hv : pb_V2 m okb lo
    · rw [pb_cs_p hv, pb_cs_p ⟨hv.1, fun _ _ => rfl⟩]; omega
    · rw [pb_cs_n hv]
      by_cases hv2 : pb_V2 m (fun _ _ => true) lo
      · rw [pb_cs_p hv2]; omega
      · rw [pb_cs_n hv2]; omega
def pb_prod (D t : Nat) : Nat → Nat
  | 0 => D
  | j + 1 => pb_prod (D * t) (t + 1) j
theorem pb_cd_fact : ∀ m, m < 7 → pb_cd m (fun _ _ => true) m 0 0 = pb_prod 1 2 (m - 1) := by decide +kernel
def pb_g : Nat → Nat → Nat → Option Nat
  | 0, _, _ => none
  | f + 1, a, b => if b = 0 then some a else pb_g f b (a % b)
def pb_gok (u v : Nat) : Bool := match pb_g 20 u v with
  | some g => decide (0 < g ∧ g ≤ 720)
  | none => false
theorem pb_g_all : ∀ m, m < 7 → ∀ u, u < pb_prod 1 2 (m - 1) + 1 → pb_gok u (pb_prod 1 2 (m - 1)) = true := by decide +kernel
theorem pb_fact_le : ∀ m, m < 7 → pb_prod 1 2 (m - 1) ≤ 720 := by decide +kernel
theorem pb_gcd9 {n : Nat} {R : fm_M} {g : Nat} : ∀ (f k a b : Nat), f ≤ k → a < 1000 → b < 1000 → pb_g f a b = some g → fX9_gcd_4 n k R (nI a) (nI b) = some (nI g, R) := by
  intro f
  induction f with
  | zero => intro k a b _ _ _ h; cases h
  | succ f ih =>
    intro k a b hk ha hb h
    obtain ⟨k, rfl⟩ : ∃ i, k = i + 1 := ⟨k - 1, by omega⟩
    rw [pb_g] at h
    rw [fX9_gcd_4]
    by_cases c : b = 0
    · rw [if_pos c] at h
      injection h with h
      subst h
      simp (disch := omega) only [pb_l0, pb_l1, pb_l2, pb_l3, pb_l4, pb_l5, pb_l6, pb_l7, pb_l8, pb_l9, pb_l10, pb_l12, pb_l14, pb_l20, pb_l32, pb_l36, pb_l48, pb_l56, pb_l57, pb_l59, pb_l60, pb_l72, pb_l99, pb_l100, pb_l111, pb_l116, pb_l200, pb_l255, pb_l504, pb_l560, pb_l1000, pb_l9999, pb_l10000, pb_l100000, pb_l1000000, nI_add, pk_mul, pb_cl, pb_b, pb_le_t, pb_le_f, pb_lt_t, pb_lt_f, pb_eq_t, pb_eq_f]
    · rw [if_neg c] at h
      have er : nI a - nI a / nI b * nI b = nI (a % b) := pk_rem (by omega) (by omega) (by omega)
      have nz : ¬ nI b = nI 0 := nI_ne0 (by omega) (by omega)
      have hlt : a % b < b := Nat.mod_lt _ (by omega)
      simp (disch := omega) only [pb_l0, pb_l1, pb_l2, pb_l3, pb_l4, pb_l5, pb_l6, pb_l7, pb_l8, pb_l9, pb_l10, pb_l12, pb_l14, pb_l20, pb_l32, pb_l36, pb_l48, pb_l56, pb_l57, pb_l59, pb_l60, pb_l72, pb_l99, pb_l100, pb_l111, pb_l116, pb_l200, pb_l255, pb_l504, pb_l560, pb_l1000, pb_l9999, pb_l10000, pb_l100000, pb_l1000000, nI_add, pk_mul, pb_cl, pb_b, pb_le_t, pb_le_f, pb_lt_t, pb_lt_f, pb_eq_t, pb_eq_f, fm_nz, er, fm_let, pb_ifn nz]
      exact ih k b (a % b) (by omega) (by omega) (by omega) h
theorem pb_gcd0 {n bk : Nat} {C : fm_M} {g : Nat} : ∀ (f k a b : Nat), f ≤ k → a < 1000 → b < 1000 → pb_g f a b = some g → fX0_common n bk k C (nI a) (nI b) = some (nI g, C) := by
  intro f
  induction f with
  | zero => intro k a b _ _ _ h; cases h
  | succ f ih =>
    intro k a b hk ha hb h
    obtain ⟨k, rfl⟩ : ∃ i, k = i + 1 := ⟨k - 1, by omega⟩
    rw [pb_g] at h
    rw [fX0_common]
    by_cases c : b = 0
    · rw [if_pos c] at h
      injection h with h
      subst h
      simp (disch := omega) only [pb_l0, pb_l1, pb_l2, pb_l3, pb_l4, pb_l5, pb_l6, pb_l7, pb_l8, pb_l9, pb_l10, pb_l12, pb_l14, pb_l20, pb_l32, pb_l36, pb_l48, pb_l56, pb_l57, pb_l59, pb_l60, pb_l72, pb_l99, pb_l100, pb_l111, pb_l116, pb_l200, pb_l255, pb_l504, pb_l560, pb_l1000, pb_l9999, pb_l10000, pb_l100000, pb_l1000000, nI_add, pk_mul, pb_cl, pb_b, pb_le_t, pb_le_f, pb_lt_t, pb_lt_f, pb_eq_t, pb_eq_f]
    · rw [if_neg c] at h
      have er : nI a - nI a / nI b * nI b = nI (a % b) := pk_rem (by omega) (by omega) (by omega)
      have nz : ¬ nI b = nI 0 := nI_ne0 (by omega) (by omega)
      have hlt : a % b < b := Nat.mod_lt _ (by omega)
      simp (disch := omega) only [pb_l0, pb_l1, pb_l2, pb_l3, pb_l4, pb_l5, pb_l6, pb_l7, pb_l8, pb_l9, pb_l10, pb_l12, pb_l14, pb_l20, pb_l32, pb_l36, pb_l48, pb_l56, pb_l57, pb_l59, pb_l60, pb_l72, pb_l99, pb_l100, pb_l111, pb_l116, pb_l200, pb_l255, pb_l504, pb_l560, pb_l1000, pb_l9999, pb_l10000, pb_l100000, pb_l1000000, nI_add, pk_mul, pb_cl, pb_b, pb_le_t, pb_le_f, pb_lt_t, pb_lt_f, pb_eq_t, pb_eq_f, fm_nz, er, fm_let, pb_ifn nz, pb_bi_id]
      exact ih k b (a % b) (by omega) (by omega) (by omega) h
def pb_okb (R : fm_M) (t c : Nat) : Bool := decide (¬ R.1 11 (8 + t) < R.1 4 c)
theorem pb_ways0 {n m bk : Nat} {C R : fm_M} (hn : 10 ≤ n) (hm : m ≤ 6) (c8 : C.1 bk 8 = nI m) (hbe : ∀ t, t < m → C.1 41 t = R.1 11 (8 + t)) (hw : ∀ t, t < m → C.1 (bk + 2) t = R.1 4 t) : ∀ (k d t s : Nat), t + k = m → k < d → s < 64 → fX0_ways n bk d C (nI t) (nI s) = some (nI (pb_cd m (pb_okb R) k t s), C) := by
  intro k
  induction k with
  | zero =>
    intro d t s h1 h2 hs
    obtain ⟨d, rfl⟩ : ∃ i, d = i + 1 := ⟨d - 1, by omega⟩
    rw [fX0_ways, c8, pb_cd]
    simp (disch := omega) only [pb_l0, pb_l1, pb_l2, pb_l3, pb_l4, pb_l5, pb_l6, pb_l7, pb_l8, pb_l9, pb_l10, pb_l12, pb_l14, pb_l20, pb_l32, pb_l36, pb_l48, pb_l56, pb_l57, pb_l59, pb_l60, pb_l72, pb_l99, pb_l100, pb_l111, pb_l116, pb_l200, pb_l255, pb_l504, pb_l560, pb_l1000, pb_l9999, pb_l10000, pb_l100000, pb_l1000000, nI_add, pk_mul, pb_cl, pb_b, pb_le_t, pb_le_f, pb_lt_t, pb_lt_f, pb_eq_t, pb_eq_f]
  | succ k ih =>
    intro d t s h1 h2 hs
    obtain ⟨d, rfl⟩ : ∃ i, d = i + 1 := ⟨d - 1, by omega⟩
    have loop : ∀ (j f x a : Nat), x + j = m → j < f → fX0_ways_18 n bk (fX0_ways n bk d) f C (nI t) (nI s) (nI a) (nI x) = some (nI (a + pb_cdL (pb_cd m (pb_okb R) k (t + 1)) (pb_okb R t) s j x), C) := by
      intro j
      induction j with
      | zero =>
        intro f x a h3 h4
        obtain ⟨f, rfl⟩ : ∃ i, f = i + 1 := ⟨f - 1, by omega⟩
        rw [fX0_ways_18, c8, pb_cdL]
        simp (disch := omega) only [pb_l0, pb_l1, pb_l2, pb_l3, pb_l4, pb_l5, pb_l6, pb_l7, pb_l8, pb_l9, pb_l10, pb_l12, pb_l14, pb_l20, pb_l32, pb_l36, pb_l48, pb_l56, pb_l57, pb_l59, pb_l60, pb_l72, pb_l99, pb_l100, pb_l111, pb_l116, pb_l200, pb_l255, pb_l504, pb_l560, pb_l1000, pb_l9999, pb_l10000, pb_l100000, pb_l1000000, nI_add, pk_mul, pb_cl, pb_b, pb_le_t, pb_le_f, pb_lt_t, pb_lt_f, pb_eq_t, pb_eq_f, Nat.add_zero]
      | succ j ihj =>
        intro f x a h3 h4
        obtain ⟨f, rfl⟩ : ∃ i, f = i + 1 := ⟨f - 1, by omega⟩
        obtain ⟨z1, z2, z3⟩ := pb_setS s hs x (by omega)
        have zb := pb_bit0 (s := s) hs (by omega : x < 6)
        have ihj' := ihj f (x + 1)
        rw [fX0_ways_18, c8, pb_cdL]
        by_cases c1 : pb_tb s x = true
        · rw [if_pos c1] at zb
          have cc : ¬ (pb_tb s x = false ∧ pb_okb R t x = true) := fun h => by rw [c1] at h; cases h.1
          rw [if_neg cc]
          simp (disch := omega) only [pb_l0, pb_l1, pb_l2, pb_l3, pb_l4, pb_l5, pb_l6, pb_l7, pb_l8, pb_l9, pb_l10, pb_l12, pb_l14, pb_l20, pb_l32, pb_l36, pb_l48, pb_l56, pb_l57, pb_l59, pb_l60, pb_l72, pb_l99, pb_l100, pb_l111, pb_l116, pb_l200, pb_l255, pb_l504, pb_l560, pb_l1000, pb_l9999, pb_l10000, pb_l100000, pb_l1000000, nI_add, pk_mul, pb_cl, pb_b, pb_le_t, pb_le_f, pb_lt_t, pb_lt_f, pb_eq_t, pb_eq_f, zb, fX0_ways_65, fX0_ways_66, if_true]
          rw [ihj' _ (by omega) (by omega)]
          simp only [Nat.add_zero, Nat.zero_add]
        · rw [if_neg c1] at zb
          have c1' : pb_tb s x = false := by simpa using c1
          by_cases c2 : R.1 11 (8 + t) < R.1 4 x
          · have cc : ¬ (pb_tb s x = false ∧ pb_okb R t x = true) := fun h => (of_decide_eq_true h.2) c2
            rw [if_neg cc]
            simp (disch := omega) only [pb_l0, pb_l1, pb_l2, pb_l3, pb_l4, pb_l5, pb_l6, pb_l7, pb_l8, pb_l9, pb_l10, pb_l12, pb_l14, pb_l20, pb_l32, pb_l36, pb_l48, pb_l56, pb_l57, pb_l59, pb_l60, pb_l72, pb_l99, pb_l100, pb_l111, pb_l116, pb_l200, pb_l255, pb_l504, pb_l560, pb_l1000, pb_l9999, pb_l10000, pb_l100000, pb_l1000000, nI_add, pk_mul, pb_cl, pb_b, pb_le_t, pb_le_f, pb_lt_t, pb_lt_f, pb_eq_t, pb_eq_f, zb, fX0_ways_65, fX0_ways_66, hbe, hw, if_true, pb_ifp c2]
            rw [ihj' _ (by omega) (by omega)]
            simp only [Nat.add_zero, Nat.zero_add]
          · have cc : pb_tb s x = false ∧ pb_okb R t x = true := ⟨c1', decide_eq_true c2⟩
            rw [if_pos cc]
            have r := ih d (t + 1) (pb_set s x) (by omega) (by omega) z2
            simp (disch := omega) only [pb_l0, pb_l1, pb_l2, pb_l3, pb_l4, pb_l5, pb_l6, pb_l7, pb_l8, pb_l9, pb_l10, pb_l12, pb_l14, pb_l20, pb_l32, pb_l36, pb_l48, pb_l56, pb_l57, pb_l59, pb_l60, pb_l72, pb_l99, pb_l100, pb_l111, pb_l116, pb_l200, pb_l255, pb_l504, pb_l560, pb_l1000, pb_l9999, pb_l10000, pb_l100000, pb_l1000000, nI_add, pk_mul, pb_cl, pb_b, pb_le_t, pb_le_f, pb_lt_t, pb_lt_f, pb_eq_t, pb_eq_f, zb, fX0_ways_66, hbe, hw, if_true, pb_ifn c2, z1, r, pb_bi]
            rw [ihj' _ (by omega) (by omega), Nat.add_assoc]
    rw [fX0_ways, c8, pb_cd]
    simp (disch := omega) only [pb_l0, pb_l1, pb_l2, pb_l3, pb_l4, pb_l5, pb_l6, pb_l7, pb_l8, pb_l9, pb_l10, pb_l12, pb_l14, pb_l20, pb_l32, pb_l36, pb_l48, pb_l56, pb_l57, pb_l59, pb_l60, pb_l72, pb_l99, pb_l100, pb_l111, pb_l116, pb_l200, pb_l255, pb_l504, pb_l560, pb_l1000, pb_l9999, pb_l10000, pb_l100000, pb_l1000000, nI_add, pk_mul, pb_cl, pb_b, pb_le_t, pb_le_f, pb_lt_t, pb_lt_f, pb_eq_t, pb_eq_f]
    rw [loop m n 0 0 (by omega) (by omega), Nat.zero_add]
theorem pb_odds0 {n m bk : Nat} {C : fm_M} {l U : Int32} (hm : m ≤ 6) (c8 : C.1 bk 8 = nI m) : ∀ (j k t D : Nat), (t + j = m + 1 ∨ (j = 0 ∧ m < t ∧ t ≤ 10)) → j < k → fX0_odds_23 n bk k C l U (nI D) (nI t) = fm_bi (fX0_common n bk 30 C U (nI (pb_prod D t j))) fun r2 M3 => if l = nI 0 then fm_nz r2 (some ((U / r2), M3)) else fm_nz r2 (some ((nI (pb_prod D t j) / r2), M3)) := by
  intro j
  induction j with
  | zero =>
    intro k t D h1 h2
    obtain ⟨k, rfl⟩ : ∃ i, k = i + 1 := ⟨k - 1, by omega⟩
    rw [fX0_odds_23, c8, pb_prod]
    simp (disch := omega) only [pb_l0, pb_l1, pb_l2, pb_l3, pb_l4, pb_l5, pb_l6, pb_l7, pb_l8, pb_l9, pb_l10, pb_l12, pb_l14, pb_l20, pb_l32, pb_l36, pb_l48, pb_l56, pb_l57, pb_l59, pb_l60, pb_l72, pb_l99, pb_l100, pb_l111, pb_l116, pb_l200, pb_l255, pb_l504, pb_l560, pb_l1000, pb_l9999, pb_l10000, pb_l100000, pb_l1000000, nI_add, pk_mul, pb_cl, pb_b, pb_le_t, pb_le_f, pb_lt_t, pb_lt_f, pb_eq_t, pb_eq_f]
  | succ j ih =>
    intro k t D h1 h2
    obtain ⟨k, rfl⟩ : ∃ i, k = i + 1 := ⟨k - 1, by omega⟩
    rw [fX0_odds_23, c8, pb_prod]
    simp (disch := omega) only [pb_l0, pb_l1, pb_l2, pb_l3, pb_l4, pb_l5, pb_l6, pb_l7, pb_l8, pb_l9, pb_l10, pb_l12, pb_l14, pb_l20, pb_l32, pb_l36, pb_l48, pb_l56, pb_l57, pb_l59, pb_l60, pb_l72, pb_l99, pb_l100, pb_l111, pb_l116, pb_l200, pb_l255, pb_l504, pb_l560, pb_l1000, pb_l9999, pb_l10000, pb_l100000, pb_l1000000, nI_add, pk_mul, pb_cl, pb_b, pb_le_t, pb_le_f, pb_lt_t, pb_lt_f, pb_eq_t, pb_eq_f]
    exact ih k (t + 1) (D * t) (by omega) (by omega)
theorem pb_odds9 {n m : Nat} {b : Nat → Nat} {R0 : fm_M} {l : Int32} (H : pb_HD m b R0) (hn : 40 ≤ n) : ∀ (k w : Nat) (R : fm_M) (u v : Nat), w ≤ m ^ m → m ^ m < w + k → pb_ag R0 R → ∃ R', pb_ag R0 R' ∧ fX9_odds_23 n k R l (nI u) (nI v) (nI w) = fm_bi (fX9_gcd n R' (nI (pb_fold (pb_cs m (pb_okb R0)) (m ^ m - w) w u)) (nI (pb_fold (pb_cs m (fun _ _ => true)) (m ^ m - w) w v))) fun r6 M7 => if l = nI 0 then fm_nz r6 (some ((nI (pb_fold (pb_cs m (pb_okb R0)) (m ^ m - w) w u) / r6), M7)) else fm_nz r6 (some ((nI (pb_fold (pb_cs m (fun _ _ => true)) (m ^ m - w) w v) / r6), M7)) := by
  have H0 := H
  obtain ⟨hm, hb, r0, hr, hrf, hwt⟩ := H
  have hmm : m ^ m ≤ 46656 := by
    have : m = 0 ∨ m = 1 ∨ m = 2 ∨ m = 3 ∨ m = 4 ∨ m = 5 ∨ m = 6 := by omega
    rcases this with rfl | rfl | rfl | rfl | rfl | rfl | rfl <;> decide
  intro k
  induction k with
  | zero => intro w R u v h1 h2; omega
  | succ k ih =>
    intro w R u v h1 h2 ha
    have e2 : R.1 2 0 = nI m := by rw [ha.1 2 (by omega) (by omega)]; exact r0
    rw [fX9_odds_23, pb_rows hm e2 (by omega)]
    simp only [pb_bi]
    by_cases hw : w = m ^ m
    · subst hw
      rw [Nat.sub_self]
      simp (disch := omega) only [pb_l0, pb_l1, pb_l2, pb_l3, pb_l4, pb_l5, pb_l6, pb_l7, pb_l8, pb_l9, pb_l10, pb_l12, pb_l14, pb_l20, pb_l32, pb_l36, pb_l48, pb_l56, pb_l57, pb_l59, pb_l60, pb_l72, pb_l99, pb_l100, pb_l111, pb_l116, pb_l200, pb_l255, pb_l504, pb_l560, pb_l1000, pb_l9999, pb_l10000, pb_l100000, pb_l1000000, nI_add, pk_mul, pb_cl, pb_b, pb_le_t, pb_le_f, pb_lt_t, pb_lt_f, pb_eq_t, pb_eq_f, pb_fold]
      exact ⟨R, ha, rfl⟩
    · have hf : m ^ m - w = (m ^ m - (w + 1)) + 1 := by omega
      obtain ⟨R1, is, q1, q2, q3, q4, q5⟩ := pb_isRow (n := n) (w := w) hm (by omega) e2 (by omega)
      have ha1 : pb_ag R0 R1 := ⟨fun c c1 c2 => (q3 c c1).trans (ha.1 c c1 c2), q4.trans ha.2⟩
      rw [hf, pb_fold, pb_fold]
      simp (disch := omega) only [q1, pb_bi, pb_l0, pb_l1, pb_l2, pb_l3, pb_l4, pb_l5, pb_l6, pb_l7, pb_l8, pb_l9, pb_l10, pb_l12, pb_l14, pb_l20, pb_l32, pb_l36, pb_l48, pb_l56, pb_l57, pb_l59, pb_l60, pb_l72, pb_l99, pb_l100, pb_l111, pb_l116, pb_l200, pb_l255, pb_l504, pb_l560, pb_l1000, pb_l9999, pb_l10000, pb_l100000, pb_l1000000, nI_add, pk_mul, pb_cl, pb_b, pb_le_t, pb_le_f, pb_lt_t, pb_lt_f, pb_eq_t, pb_eq_f]
      cases is
      · have hni : ¬ pb_inj m (pb_pd m m w) := fun h => by have := q2.mpr h; cases this
        rw [pb_cs_n (fun h => hni h.1), pb_cs_n (fun h => hni h.1)]
        simp (disch := omega) only [Bool.false_eq_true, if_false, pb_l0, pb_l1, pb_l2, pb_l3, pb_l4, pb_l5, pb_l6, pb_l7, pb_l8, pb_l9, pb_l10, pb_l12, pb_l14, pb_l20, pb_l32, pb_l36, pb_l48, pb_l56, pb_l57, pb_l59, pb_l60, pb_l72, pb_l99, pb_l100, pb_l111, pb_l116, pb_l200, pb_l255, pb_l504, pb_l560, pb_l1000, pb_l9999, pb_l10000, pb_l100000, pb_l1000000, nI_add, pk_mul, pb_cl, pb_b, pb_le_t, pb_le_f, pb_lt_t, pb_lt_f, pb_eq_t, pb_eq_f]
        exact ih (w + 1) R1 u v (by omega) (by omega) ha1
      · have hinj := q2.mp rfl
        have hg : ∀ i, i < m → pb_pd m m w i < m ∧ R1.1 18 i = nI (pb_pd m m w i) := fun i hi => ⟨pb_pd_lt (by omega), q5 i hi⟩
        obtain ⟨is2, b1, b2⟩ := pb_isBorne (n := n) (g := pb_pd m m w) H0 ha1 (by omega) hg
        rw [pb_cs_p (okb := fun _ _ => true) ⟨hinj, fun _ _ => rfl⟩]
        simp (disch := omega) only [if_true, pb_l0, pb_l1, pb_l2, pb_l3, pb_l4, pb_l5, pb_l6, pb_l7, pb_l8, pb_l9, pb_l10, pb_l12, pb_l14, pb_l20, pb_l32, pb_l36, pb_l48, pb_l56, pb_l57, pb_l59, pb_l60, pb_l72, pb_l99, pb_l100, pb_l111, pb_l116, pb_l200, pb_l255, pb_l504, pb_l560, pb_l1000, pb_l9999, pb_l10000, pb_l100000, pb_l1000000, nI_add, pk_mul, pb_cl, pb_b, pb_le_t, pb_le_f, pb_lt_t, pb_lt_f, pb_eq_t, pb_eq_f, b1, pb_bi]
        cases is2
        · rw [pb_cs_n (fun h => by have := b2.mpr (fun i hi => (of_decide_eq_true (h.2 i hi) : ¬ R0.1 11 (8 + i) < R0.1 4 (pb_pd m m w i))); cases this)]
          simp (disch := omega) only [Bool.false_eq_true, if_false, pb_l0, pb_l1, pb_l2, pb_l3, pb_l4, pb_l5, pb_l6, pb_l7, pb_l8, pb_l9, pb_l10, pb_l12, pb_l14, pb_l20, pb_l32, pb_l36, pb_l48, pb_l56, pb_l57, pb_l59, pb_l60, pb_l72, pb_l99, pb_l100, pb_l111, pb_l116, pb_l200, pb_l255, pb_l504, pb_l560, pb_l1000, pb_l9999, pb_l10000, pb_l100000, pb_l1000000, nI_add, pk_mul, pb_cl, pb_b, pb_le_t, pb_le_f, pb_lt_t, pb_lt_f, pb_eq_t, pb_eq_f, Nat.add_zero]
          exact ih (w + 1) R1 u (v + 1) (by omega) (by omega) ha1
        · rw [pb_cs_p (okb := pb_okb R0) ⟨hinj, fun i hi => decide_eq_true (b2.mp rfl i hi)⟩]
          simp (disch := omega) only [if_true, pb_l0, pb_l1, pb_l2, pb_l3, pb_l4, pb_l5, pb_l6, pb_l7, pb_l8, pb_l9, pb_l10, pb_l12, pb_l14, pb_l20, pb_l32, pb_l36, pb_l48, pb_l56, pb_l57, pb_l59, pb_l60, pb_l72, pb_l99, pb_l100, pb_l111, pb_l116, pb_l200, pb_l255, pb_l504, pb_l560, pb_l1000, pb_l9999, pb_l10000, pb_l100000, pb_l1000000, nI_add, pk_mul, pb_cl, pb_b, pb_le_t, pb_le_f, pb_lt_t, pb_lt_f, pb_eq_t, pb_eq_f]
          exact ih (w + 1) R1 (u + 1) (v + 1) (by omega) (by omega) ha1
theorem pb_oddsop {n bk : Nat} {C R : fm_M} (h : pb_R bk C R) (hn : 50000 ≤ n) (l : Int32) : pb_ok bk (fX0_odds n bk C l) (fX9_odds n R l) := by
  have h' := h.thrown
  unfold fX9_odds fX0_odds
  simp only [fm_let, pb_l0, pb_l1, pb_l2]
  rw [pb_l0] at h'
  generalize fm_wr R 0 0 (nI 0) = R1 at h' ⊢
  clear h
  have hh := h'
  obtain ⟨m, o, d, f, y, p, hB, hS⟩ := h'
  have hm := hB.1.1
  have hmm : m ^ m ≤ 46656 := by
    have : m = 0 ∨ m = 1 ∨ m = 2 ∨ m = 3 ∨ m = 4 ∨ m = 5 ∨ m = 6 := by omega
    rcases this with rfl | rfl | rfl | rfl | rfl | rfl | rfl <;> decide
  rcases pb_in n bk C R1 0 1 (by omega) (by omega) l with ⟨v, _, hv, hl, i0, i9⟩ | ⟨hv, i0, i9⟩
  · obtain ⟨b, H, hC⟩ := pb_mkHD hB hS.1
    have w0 := pb_ways0 (n := n) (m := m) (bk := bk) (C := C) (R := R1) (by omega) hm hB.2.1.1 (fun t ht => hS.1.bears ht hm) (fun t ht => (hB.2.2.1 t ht).1) m 8 0 0 (by omega) (by omega) (by omega)
    obtain ⟨R', e2, e1⟩ := pb_odds9 (n := n) (l := l) H (by omega) n 0 R1 0 0 (by omega) (by omega) ⟨fun _ _ _ => rfl, rfl⟩
    have o0 := pb_odds0 (n := n) (bk := bk) (C := C) (l := l) (U := nI (pb_cd m (pb_okb R1) m 0 0)) hm hB.2.1.1 (m - 1) n 2 1 (by omega) (by omega)
    rw [Nat.sub_zero, pb_cd_all hm, pb_cd_all hm, pb_cd_fact m (by omega)] at e1
    have hle : pb_cd m (pb_okb R1) m 0 0 ≤ pb_prod 1 2 (m - 1) := by
      rw [← pb_cd_fact m (by omega), ← pb_cd_all hm, ← pb_cd_all hm]
      exact pb_fold_le _ _ _ _ (by omega)
    have hfl := pb_fact_le m (by omega)
    have hg := pb_g_all m (by omega) (pb_cd m (pb_okb R1) m 0 0) (by omega)
    unfold pb_gok at hg
    cases hgg : pb_g 20 (pb_cd m (pb_okb R1) m 0 0) (pb_prod 1 2 (m - 1)) with
    | none => rw [hgg] at hg; cases hg
    | some g =>
      rw [hgg] at hg
      have hg' := of_decide_eq_true hg
      have g0 := pb_gcd0 (n := n) (bk := bk) (C := C) 20 30 _ _ (by omega) (by omega) (by omega) hgg
      have g9 : fX9_gcd n R' _ _ = _ := pb_gcd9 (n := n) (R := R') 20 n _ _ (by omega) (by omega) (by omega) hgg
      have nz : ¬ nI g = nI 0 := nI_ne0 (by omega) (by omega)
      rw [g9] at e1
      rw [g0] at o0
      simp only [pb_bi, fm_nz] at e1 o0
      simp (disch := omega) only [i0, i9, pb_bi, pb_eq_f, w0, e1, o0]
      have nz' : ¬ nI g = 0 := nz
      simp only [pb_ifn nz']
      by_cases c : l = nI 0
      · simp only [pb_ifp c]
        exact ⟨_, _, _, rfl, rfl, hh.frame pb_fC.refl (pb_fR.of (fun c c1 c2 c3 => e2.1 c c2 c3) e2.2)⟩
      · simp only [pb_ifn c]
        exact ⟨_, _, _, rfl, rfl, hh.frame pb_fC.refl (pb_fR.of (fun c c1 c2 c3 => e2.1 c c2 c3) e2.2)⟩
  · simp (disch := omega) only [i0, i9, pb_bi, pb_l0, pb_l1, pb_l2, pb_l3, pb_l4, pb_l5, pb_l6, pb_l7, pb_l8, pb_l9, pb_l10, pb_l12, pb_l14, pb_l20, pb_l32, pb_l36, pb_l48, pb_l56, pb_l57, pb_l59, pb_l60, pb_l72, pb_l99, pb_l100, pb_l111, pb_l116, pb_l200, pb_l255, pb_l504, pb_l560, pb_l1000, pb_l9999, pb_l10000, pb_l100000, pb_l1000000, nI_add, pk_mul, pb_cl, pb_b, pb_le_t, pb_le_f, pb_lt_t, pb_lt_f, pb_eq_t, pb_eq_f]
    exact ⟨_, _, _, rfl, rfl, hh⟩
