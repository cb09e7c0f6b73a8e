/-! draw, trade, widen, the lots to come -/
set_option maxRecDepth 100000
/-- on the live places -/
def pb_lv (m : Nat) (f g : Nat → Int32) : Prop := ∀ k, k < 56 → ((k < 8 + m ∨ 14 ≤ k) ∧ (0 < m ∨ k < 2 ∨ 8 ≤ k)) → f k = g k
theorem pb_lv.oath {m o i : Nat} {R : fm_M} {f g : Nat → Int32} (h : pb_lv m f g) (hm : m ≤ 6) (ho : o ≤ 6) (x4 : ∀ i, i < o → ∃ t, t < m ∧ R.1 8 i = nI t) : pb_lv m (pb_rOath R o i f) (pb_rOath R o i g) := by
  intro k hk hl
  unfold pb_rOath
  rw [h k hk hl, h 0 (by omega) (by omega)]
  by_cases cj : 14 + i ≤ k ∧ k < 14 + o ∧ (R.1 9 (k - 14) = g 0 ∧ g k = nI 0)
  · obtain ⟨t, ht, et⟩ := x4 (k - 14) (by omega)
    rw [if_pos cj, if_pos cj, et, pb_cl (by omega), h (2 + t) (by omega) (by omega)]
  · rw [if_neg cj, if_neg cj]
theorem pb_lv.str {m t : Nat} {b : Nat → Nat} {f g : Nat → Int32} (h : pb_lv m f g) : pb_lv m (pb_rStr m t b f) (pb_rStr m t b g) := by
  intro k hk hl
  unfold pb_rStr
  rw [h k hk hl]
theorem pb_lv.bt {m : Nat} {b : Nat → Nat} {f g : Nat → Int32} (h : pb_lv m f g) : pb_lv m (pb_rBT m b f) (pb_rBT m b g) := by
  intro k hk hl
  unfold pb_rBT
  rw [h k hk hl, h 0 (by omega) (by omega)]
theorem pb_lv.cnt {m : Nat} {wt f g : Nat → Int32} (h : pb_lv m f g) (hm : m ≤ 6) : pb_cnt (pb_c1 f wt) m 0 = pb_cnt (pb_c1 g wt) m 0 := pb_cnt_congr m 0 (fun i _ hi => by
    unfold pb_c1
    rw [h (8 + i) (by omega) (by omega)])
theorem pb_lv.cut {m A : Nat} {wt f g : Nat → Int32} (h : pb_lv m f g) (hm : m ≤ 6) : pb_lv m (pb_rCut m 0 wt A f) (pb_rCut m 0 wt A g) := by
  intro k hk hl
  unfold pb_rCut
  rw [Nat.sub_zero, h.cnt hm, h 1 (by omega) (by omega), h k hk hl]
theorem pb_lv.trans' {m : Nat} {f g f' g' : Nat → Int32} (h : pb_lv m f g) (hf : ∀ k, k < 56 → f' k = f k) (hg : ∀ k, k < 56 → g' k = g k) : pb_lv m f' g' := fun k hk hl => by rw [hf k hk, hg k hk]; exact h k hk hl
theorem pb_rOath_lo {R : fm_M} {o i k : Nat} {r : Nat → Int32} (h : k < 14) : pb_rOath R o i r k = r k := by
  unfold pb_rOath
  rw [if_neg (by omega)]
theorem pb_rStr_lo {m t k : Nat} {b : Nat → Nat} {r : Nat → Int32} (h : k < 20) : pb_rStr m t b r k = r k := by
  unfold pb_rStr
  rw [if_neg (by omega)]
/-- the cut, both sides -/
theorem pb_cut2 {n bk a c m : Nat} {C R : fm_M} (hn : 10 ≤ n) (hc : c = 11 ∨ c = 12) (ha : a + 11 ≤ bk ∨ bk + 21 ≤ a) (hm : m ≤ 6) (c8 : C.1 bk 8 = nI m) (r0 : R.1 2 0 = nI m) (hw : ∀ t, t < m → C.1 (bk + 2) t = R.1 4 t) (h : pb_PR m C a (R.1 c)) : ∃ x C' R', fX2_cutAll n bk a C = some (x, C') ∧ fX9_cuts n c R = some (x, R') ∧ pb_PR m C' a (R'.1 c) ∧ C'.1 a 1 = C.1 a 1 + x ∧ (∀ c', (c' < a ∨ a + 11 ≤ c') → C'.1 c' = C.1 c') ∧ C'.2 = C.2 ∧ (∀ c', c' ≠ c → R'.1 c' = R.1 c') ∧ R'.2 = R.2 := by
  obtain ⟨h1, b, hb, hr⟩ := h
  have hC : ∀ t, t < m → C.1 (a + 1) t = nI (b t) := fun t ht => by rw [← hr t ht, ← h1 (2 + t) (by omega) (by omega), pb_pl_bell (by omega)]
  obtain ⟨C', g1, g2, g3, g4⟩ := pb_cuts0 (n := n) (b := b) (wt := fun t => R.1 4 (b t)) ha hm hb.1 n 0 0 C c8 hC (fun t ht => hw _ (hb.1 t ht)) (by omega) (by omega)
  obtain ⟨R', k1, k2, k3, k4⟩ := pb_cuts9 (n := n) (b := b) (wt := fun t => R.1 4 (b t)) hc hm hb.1 n 0 0 R r0 hr (fun t ht => rfl) (by omega) (by omega)
  have hlv : pb_lv m (pb_pl C a) (R.1 c) := h1
  have e := hlv.cnt (wt := fun t => R.1 4 (b t)) hm
  rw [Nat.sub_zero, Nat.zero_add] at g1 k1
  rw [e] at g1
  refine ⟨_, C', R', g1, k1, ⟨(hlv.cut hm).trans' g3 k3, b, hb, fun t ht => ?_⟩, ?_, fun c' hc' => g2 c' (by omega) (by omega), g4, k2, k4⟩
  · rw [k3 _ (by omega)]
    unfold pb_rCut
    rw [if_neg (by omega), if_neg (by omega)]
    exact hr t ht
  · have := g3 1 (by omega)
    rw [pb_pl_cuts] at this
    rw [this]
    unfold pb_rCut
    rw [if_neg (by omega), if_pos rfl, Nat.sub_zero, Nat.zero_add, e]
    rfl
theorem pb_draw {n bk a c m o z : Nat} {C R : fm_M} (hn : 10 ≤ n) (hac : (a = 39 ∧ c = 11) ∨ (a = 50 ∧ c = 12)) (hB : pb_B m o bk C R) (h : pb_PR m C a (R.1 c)) (hz : z ≤ 9999) : ∃ x C' R', fX2_draw n bk a C (nI z) = some (x, C') ∧ fX9_drawn n c R (nI z) = some (x, R') ∧ pb_PR m C' a (R'.1 c) ∧ C'.1 a 1 = C.1 a 1 + x ∧ (∀ c', c' ≠ 1 → c' ≠ 2 → (c' < a ∨ a + 11 ≤ c') → C'.1 c' = C.1 c') ∧ C'.2 = C.2 ∧ (∀ c', c' ≠ c → c' ≠ 18 → c' ≠ 19 → R'.1 c' = R.1 c') ∧ R'.2 = R.2 := by
  obtain ⟨⟨a1, a2, a3⟩, ⟨b1, b2, b3, b4⟩, c1, d1, e1, f1, g1⟩ := hB
  obtain ⟨h1, b, hb, hr⟩ := h
  have hlv : pb_lv m (pb_pl C a) (R.1 c) := h1
  have x4 : ∀ i, i < o → ∃ t, t < m ∧ R.1 8 i = nI t := fun i hi => (g1 i hi).2.2.2
  have hC : ∀ t, t < m → C.1 (a + 1) t = nI (b t) := fun t ht => by rw [← hr t ht, ← h1 (2 + t) (by omega) (by omega), pb_pl_bell (by omega)]
  -- component
  obtain ⟨C1, p1, p2, p3, p4⟩ := pb_over2 (n := n) (bk := bk) (a := a) (R := R) a2 a1 (by omega) x4 n 0 C b3 (fun i hi => ⟨(g1 i hi).1, (g1 i hi).2.1, (g1 i hi).2.2.1⟩) (by omega) (by omega)
  obtain ⟨C2, q1, q2, q3, q4⟩ := pb_over114 (n := n) (bk := bk) (a := a) a1 (by omega) hb.1 n 0 C1 (by rw [p2 bk (by omega)]; exact b1) (fun t ht => by rw [p2 (a + 1) (by omega)]; exact hC t ht) (by omega) (by omega)
  obtain ⟨R1, s1, s2, s3, s4⟩ := pb_drawn2 (n := n) (z := z) (by omega : c = 11 ∨ c = 12) a2 a1 n 0 R b4 x4 (by omega) (by omega)
  obtain ⟨C3, R2, t1, t2, q, hq, hl, u1, u2, u3, u4⟩ := pb_lots (n := n) (bk := bk) (C := C2) (R := R1) (z := z) hn a1 hz (by omega) (by rw [q2 bk (by omega), p2 bk (by omega)]; exact b1) (by rw [s2 2 (by omega)]; exact b2)
  have bC3 : ∀ t, t < m → C3.1 (a + 1) t = nI (b t) := fun t ht => by rw [u1 _ (by omega), q2 _ (by omega), p2 _ (by omega)]; exact hC t ht
  have bR2 : ∀ t, t < m → R2.1 c (2 + t) = nI (b t) := fun t ht => by rw [u3 c (by omega), s3 _ (by omega), pb_rOath_lo (by omega)]; exact hr t ht
  obtain ⟨C4, v1, v2, v3, v4⟩ := pb_draw14 (n := n) (bk := bk) (a := a) (b := b) (q := q) a1 (by omega) (by omega) (by omega) hq.1 n 0 C3 (by rw [u1 _ (by omega), q2 bk (by omega), p2 bk (by omega)]; exact b1) bC3 (fun t ht => (hl t ht).1) (fun j hj => by omega) (by omega) (by omega)
  obtain ⟨R3, w1, w2, w3, w4, w5⟩ := pb_drawn76 (n := n) (c := c) (b := b) (q := q) (by omega) a1 hb.1 hq.1 n 0 R2 (by rw [u3 2 (by omega), s2 2 (by omega)]; exact b2) bR2 (fun t ht => (hl t ht).2) (by omega) (by omega)
  obtain ⟨R4, y1, y2, y3, y4⟩ := pb_drawn129 (n := n) (c := c) (nb := fun t => b (q t)) (by omega) a1 n 0 R3 (by rw [w2 2 (by omega) (by omega), u3 2 (by omega), s2 2 (by omega)]; exact b2) (fun j hj => by rw [w4 j hj, if_pos (by omega)]) (fun j hj => by omega) (by omega) (by omega)
  have plC3 : ∀ k, k < 56 → pb_pl C3 a k = pb_rStr m 0 b (pb_rOath R o 0 (pb_pl C a)) k := fun k hk => by
    rw [pb_pl_same (C := C2) (fun c c1 c2 => u1 c (by omega)) k hk, q3 k hk]
    unfold pb_rStr
    rw [p3 k hk]
  have rwR3 : ∀ k, k < 56 → R3.1 c k = pb_rStr m 0 b (pb_rOath R o 0 (R.1 c)) k := fun k hk => by
    rw [w3 k hk]
    unfold pb_rStr
    rw [u3 c (by omega), s3 k hk]
  have l1 : pb_lv m (pb_rStr m 0 b (pb_rOath R o 0 (pb_pl C a))) (pb_rStr m 0 b (pb_rOath R o 0 (R.1 c))) := (hlv.oath a1 a2 x4).str
  have l2 : pb_lv m (pb_pl C4 a) (R4.1 c) := (l1.trans' plC3 rwR3).bt.trans' v3 y3
  have hp : pb_perm m (fun t => b (q t)) := by
    refine ⟨fun t ht => hb.1 _ (hq.1 t ht), fun t u ht hu e => hq.2.1 t u ht hu (hb.2.1 _ _ (hq.1 t ht) (hq.1 u hu) e), fun s hs => ?_⟩
    obtain ⟨t, ht, et⟩ := hb.2.2 s hs
    obtain ⟨u, hu, eu⟩ := hq.2.2 t ht
    exact ⟨u, hu, by simp only [eu, et]⟩
  have P4 : pb_PR m C4 a (R4.1 c) := ⟨l2, _, hp, fun t ht => by
    rw [y3 _ (by omega)]
    unfold pb_rBT
    rw [if_neg (by omega), if_pos (by omega), show 2 + t - 2 = t by omega]⟩
  obtain ⟨x, C', R', z1, z2, z3, z4, z5, z6, z7, z8⟩ := pb_cut2 (n := n) (bk := bk) (a := a) (c := c) (C := C4) (R := R4) hn (by omega) (by omega) a1 (by rw [v2 bk (by omega) (by omega) (by omega), u1 _ (by omega), q2 bk (by omega), p2 bk (by omega)]; exact b1) (by rw [y2 2 (by omega), w2 2 (by omega) (by omega), u3 2 (by omega), s2 2 (by omega)]; exact b2) (fun t ht => by rw [v2 _ (by omega) (by omega) (by omega), u1 _ (by omega), q2 _ (by omega), p2 _ (by omega), y2 4 (by omega), w2 4 (by omega) (by omega), u3 4 (by omega), s2 4 (by omega)]; exact (c1 t ht).1) P4
  refine ⟨x, C', R', ?_, ?_, z3, ?_, fun c' k1 k2 k3 => ?_, ?_, fun c' k1 k2 k3 => ?_, ?_⟩
  · unfold fX2_draw fX2_over
    rw [show (0 : Int32) = nI 0 from rfl, p1, q1]
    simp only [pb_bv, t1]
    rw [v1, z1]
  · unfold fX9_drawn
    rw [show (0 : Int32) = nI 0 from rfl, s1, t2]
    simp only [pb_bv]
    rw [w1, y1, z2]
  · rw [z4]
    have := v3 1 (by omega)
    rw [pb_pl_cuts] at this
    rw [this]
    unfold pb_rBT
    rw [if_neg (by omega), if_neg (by omega), plC3 1 (by omega), pb_rStr_lo (by omega), pb_rOath_lo (by omega)]
    rfl
  · rw [z5 c' k3, v2 c' k1 (by omega) (by omega), u1 c' k2, q2 c' (by omega), p2 c' (by omega)]
  · rw [z6, v4, u2, q4, p4]
  · rw [z7 c' k1, y2 c' k1, w2 c' k1 k3, u3 c' k2, s2 c' k1]
  · rw [z8, y4, w5, u4, s4]
theorem pb_S.now {m o d f y bk : Nat} {p : Nat → Nat} {C R C' R' : fm_M} (hS : pb_S m d f y p C R) (hm : m ≤ 6) (h : pb_PR m C' 39 (R'.1 11)) (hC : ∀ c, c ≠ 1 → c ≠ 2 → (c < 39 ∨ 50 ≤ c) → C'.1 c = C.1 c) (hC2 : C'.2 = C.2) (hR : ∀ c, c ≠ 11 → c ≠ 18 → c ≠ 19 → R'.1 c = R.1 c) (hR2 : R'.2 = R.2) : pb_S m d f y p C' R' := by
  obtain ⟨h1, h2, h3, h4, h5, h6⟩ := hS
  refine ⟨h, ?_, ?_, ?_, ?_, ?_⟩
  · exact h2.frame hm (by rw [hC 0 (by omega) (by omega) (by omega)]) (hC 3 (by omega) (by omega) (by omega)) (fun c c1 c2 => hC c (by omega) (by omega) (by omega)) (by rw [hR 0 (by omega) (by omega) (by omega)]) (hR 15 (by omega) (by omega) (by omega))
  · exact h3.frame hm (hC 5 (by omega) (by omega) (by omega)) (fun c c1 c2 => hC c (by omega) (by omega) (by omega)) (hR 14 (by omega) (by omega) (by omega)) (hR 13 (by omega) (by omega) (by omega))
  · exact h4.frame (by rw [hC 0 (by omega) (by omega) (by omega)]) (hC 9 (by omega) (by omega) (by omega)) (hC 10 (by omega) (by omega) (by omega)) (by rw [hR 0 (by omega) (by omega) (by omega)]) (hR 16 (by omega) (by omega) (by omega)) (hR 17 (by omega) (by omega) (by omega))
  · exact h5.frame (by rw [hC 0 (by omega) (by omega) (by omega)]) (hC 6 (by omega) (by omega) (by omega)) (by rw [hR 0 (by omega) (by omega) (by omega)]) (hR 1 (by omega) (by omega) (by omega))
  · rw [hC2, hR2]; exact h6
theorem pb_lotsop {n bk : Nat} {C R : fm_M} (h : pb_R bk C R) (hn : 600 ≤ n) (l : Int32) : pb_ok bk (fX0_lots n bk C l) (fX9_lots n R l) := by
  have h' := h.thrown
  unfold fX9_lots fX0_lots
  simp only [fm_let, pb_l0, pb_l9999, pb_l60]
  rw [pb_l0] at h'
  generalize fm_wr R 0 0 (nI 0) = R1 at h' ⊢
  clear h
  have hh := h'
  obtain ⟨m, o, d, f, y, p, hB, hS⟩ := h'
  have hbk := hB.1.2.2
  rcases pb_isSeed n bk C R1 l with ⟨z, hz, rfl, i0, i9⟩ | ⟨i0, i9⟩
  · simp (disch := omega) only [i0, i9, pb_bi, pb_l0, pb_l1, pb_l2, pb_l3, pb_l4, pb_l5, pb_l6, pb_l7, pb_l8, pb_l9, pb_l10, pb_l12, pb_l14, pb_l20, pb_l32, pb_l36, pb_l48, pb_l56, pb_l57, pb_l59, pb_l60, pb_l72, pb_l99, pb_l100, pb_l111, pb_l116, pb_l200, pb_l255, pb_l504, pb_l560, pb_l1000, pb_l9999, pb_l10000, pb_l100000, pb_l1000000, nI_add, pk_mul, pb_cl, pb_b, pb_le_t, pb_le_f, pb_lt_t, pb_lt_f, pb_eq_t, pb_eq_f]
    rw [show C.1 39 0 = R1.1 11 0 from hS.1.term]
    by_cases e : R1.1 11 0 = nI 60
    · simp only [pb_ifp e]
      exact ⟨_, _, _, rfl, rfl, hh⟩
    · simp only [pb_ifn e]
      obtain ⟨C2, R2, d2, p2, k1, k2, k3, k4, k5⟩ := pb_know_R (n := n) hn hB hS
      rw [k1, k2]
      simp only [pb_bv, pb_bi_id]
      obtain ⟨x, C', R', e1, e2, e3, e4, e5, e6, e7, e8⟩ := pb_draw (n := n) (by omega) (Or.inl ⟨rfl, rfl⟩) k3 k4.1 hz
      refine ⟨x, C', R', e1, e2, m, o, d2, f, y, p2, k3.keep (fun c c1 c2 => e5 c (by omega) (by omega) (by omega)) (fun c hc => e7 c (by omega) (by omega) (by omega)), k4.now (o := o) (bk := bk) hB.1.1 e3 (fun c c1 c2 c3 => e5 c c1 c2 (by omega)) e6 e7 e8⟩
  · simp (disch := omega) only [i0, i9, pb_bi, pb_l0, pb_l1, pb_l2, pb_l3, pb_l4, pb_l5, pb_l6, pb_l7, pb_l8, pb_l9, pb_l10, pb_l12, pb_l14, pb_l20, pb_l32, pb_l36, pb_l48, pb_l56, pb_l57, pb_l59, pb_l60, pb_l72, pb_l99, pb_l100, pb_l111, pb_l116, pb_l200, pb_l255, pb_l504, pb_l560, pb_l1000, pb_l9999, pb_l10000, pb_l100000, pb_l1000000, nI_add, pk_mul, pb_cl, pb_b, pb_le_t, pb_le_f, pb_lt_t, pb_lt_f, pb_eq_t, pb_eq_f]
    exact ⟨_, _, _, rfl, rfl, hh⟩
theorem pb_swap {m a b : Nat} {f : Nat → Nat} (h : pb_perm m f) (ha : a < m) (hb : b < m) : pb_perm m (fun t => if t = b then f a else if t = a then f b else f t) := by
  refine ⟨fun t ht => ?_, fun t u ht hu e => ?_, fun s hs => ?_⟩
  · show (if t = b then f a else if t = a then f b else f t) < m
    split
    · exact h.1 a ha
    · split
      · exact h.1 b hb
      · exact h.1 t ht
  · have inj := h.2.1
    have e' : (if t = b then f a else if t = a then f b else f t) = (if u = b then f a else if u = a then f b else f u) := e
    by_cases t1 : t = b
    · by_cases u1 : u = b
      · omega
      · rw [if_pos t1, if_neg u1] at e'
        by_cases u2 : u = a
        · rw [if_pos u2] at e'; have := inj a b ha hb e'; omega
        · rw [if_neg u2] at e'; have := inj a u ha hu e'; omega
    · rw [if_neg t1] at e'
      by_cases t2 : t = a
      · rw [if_pos t2] at e'
        by_cases u1 : u = b
        · rw [if_pos u1] at e'; have := inj b a hb ha e'; omega
        · rw [if_neg u1] at e'
          by_cases u2 : u = a
          · omega
          · rw [if_neg u2] at e'; have := inj b u hb hu e'; omega
      · rw [if_neg t2] at e'
        by_cases u1 : u = b
        · rw [if_pos u1] at e'; have := inj t a ht ha e'; omega
        · rw [if_neg u1] at e'
          by_cases u2 : u = a
          · rw [if_pos u2] at e'; have := inj t b ht hb e'; omega
          · rw [if_neg u2] at e'; exact inj t u ht hu e'
  · obtain ⟨t, ht, et⟩ := h.2.2 s hs
    by_cases e1 : t = a
    · exact ⟨b, hb, by show (if b = b then f a else _) = s; rw [if_pos rfl, ← e1, et]⟩
    · by_cases e2 : t = b
      · refine ⟨a, ha, ?_⟩
        show (if a = b then f a else if a = a then f b else f a) = s
        by_cases e3 : a = b
        · omega
        · rw [if_neg e3, if_pos rfl, ← e2, et]
      · refine ⟨t, ht, ?_⟩
        show (if t = b then f a else if t = a then f b else f t) = s
        rw [if_neg e2, if_neg e1, et]
theorem pb_tradesop {n bk : Nat} {C R : fm_M} (h : pb_R bk C R) (hn : 600 ≤ n) (l l2 : Int32) : pb_ok bk (fX0_trades n bk C l l2) (fX9_trades n R l l2) := by
  have h' := h.thrown
  unfold fX9_trades fX0_trades
  simp only [fm_let, pb_l0]
  rw [pb_l0] at h'
  generalize fm_wr R 0 0 (nI 0) = R1 at h' ⊢
  clear h
  have hh := h'
  obtain ⟨m, o, d, f, y, p, hB, hS⟩ := h'
  have hbk := hB.1.2.2
  have hm := hB.1.1
  rcases pb_isTown (n := n) (bk := bk) hB.2.1.1 hB.2.1.2.1 hB.1.1 l with ⟨t, ht, rfl, e0, e9⟩ | ⟨e0, e9⟩
  · rcases pb_isTown (n := n) (bk := bk) hB.2.1.1 hB.2.1.2.1 hB.1.1 l2 with ⟨u, hu, rfl, k0, k9⟩ | ⟨k0, k9⟩
    · by_cases e : t = u
      · simp (disch := omega) only [e0, e9, k0, k9, pb_bi, pb_l0, pb_l1, pb_l2, pb_l3, pb_l4, pb_l5, pb_l6, pb_l7, pb_l8, pb_l9, pb_l10, pb_l12, pb_l14, pb_l20, pb_l32, pb_l36, pb_l48, pb_l56, pb_l57, pb_l59, pb_l60, pb_l72, pb_l99, pb_l100, pb_l111, pb_l116, pb_l200, pb_l255, pb_l504, pb_l560, pb_l1000, pb_l9999, pb_l10000, pb_l100000, pb_l1000000, nI_add, pk_mul, pb_cl, pb_b, pb_le_t, pb_le_f, pb_lt_t, pb_lt_f, pb_eq_t, pb_eq_f]
        exact ⟨_, _, _, rfl, rfl, hh⟩
      · obtain ⟨C2, R2, d2, p2, k1, k2, k3, k4, k5⟩ := pb_know_R (n := n) hn hB hS
        simp (disch := omega) only [e0, e9, k0, k9, pb_bi, pb_l0, pb_l1, pb_l2, pb_l3, pb_l4, pb_l5, pb_l6, pb_l7, pb_l8, pb_l9, pb_l10, pb_l12, pb_l14, pb_l20, pb_l32, pb_l36, pb_l48, pb_l56, pb_l57, pb_l59, pb_l60, pb_l72, pb_l99, pb_l100, pb_l111, pb_l116, pb_l200, pb_l255, pb_l504, pb_l560, pb_l1000, pb_l9999, pb_l10000, pb_l100000, pb_l1000000, nI_add, pk_mul, pb_cl, pb_b, pb_le_t, pb_le_f, pb_lt_t, pb_lt_f, pb_eq_t, pb_eq_f, k1, k2, pb_bv, fX2_trade, fm_let, pb_bi_id]
        obtain ⟨q1, b, hb, hr⟩ := k4.1
        have hC : ∀ t, t < 6 → C2.1 40 t = R2.1 11 (2 + t) := fun t ht => k4.1.bell ⟨ht, by omega⟩
        rw [show (39 + 1 : Nat) = 40 from rfl]
        have hpl : ∀ j, j < 56 → pb_pl (fm_wr (fm_wr C2 40 t (C2.1 40 u)) 40 u (C2.1 40 t)) 39 j = if j = 2 + u then C2.1 40 t else if j = 2 + t then C2.1 40 u else pb_pl C2 39 j := by
          intro j hj
          by_cases j1 : j = 2 + u
          · subst j1
            rw [if_pos rfl, pb_pl_bell (by omega), pb_wr_e, pb_up_e]
          · rw [if_neg j1]
            by_cases j2 : j = 2 + t
            · subst j2
              rw [if_pos rfl, pb_pl_bell (by omega), pb_wr_e, pb_up_n (by omega), pb_wr_e, pb_up_e]
            · rw [if_neg j2]
              unfold pb_pl
              rw [pb_wr_n (by omega), pb_wr_n (by omega), pb_wr_e, pb_wr_e, pb_wr_n (by omega), pb_wr_n (by omega), pb_wr_n (by omega), pb_wr_n (by omega), pb_wr_n (by omega), pb_wr_n (by omega)]
              by_cases j3 : j < 2
              · rw [if_pos j3, if_pos j3]
              · rw [if_neg j3, if_neg j3]
                by_cases j4 : j < 8
                · rw [if_pos j4, if_pos j4, pb_up_n (by omega), pb_up_n (by omega)]
                · rw [if_neg j4, if_neg j4]
        have hrw : ∀ j, (fm_wr (fm_wr R2 11 (2 + t) (R2.1 11 (2 + u))) 11 (2 + u) (R2.1 11 (2 + t))).1 11 j = if j = 2 + u then R2.1 11 (2 + t) else if j = 2 + t then R2.1 11 (2 + u) else R2.1 11 j := by
          intro j
          rw [pb_wr_e, pb_wr_e]
          by_cases j1 : j = 2 + u
          · rw [if_pos j1, j1, pb_up_e]
          · rw [if_neg j1, pb_up_n j1]
            by_cases j2 : j = 2 + t
            · rw [if_pos j2, j2, pb_up_e]
            · rw [if_neg j2, pb_up_n j2]
        have P : pb_PR m (fm_wr (fm_wr C2 40 t (C2.1 40 u)) 40 u (C2.1 40 t)) 39 ((fm_wr (fm_wr R2 11 (2 + t) (R2.1 11 (2 + u))) 11 (2 + u) (R2.1 11 (2 + t))).1 11) := by
          refine ⟨fun j hj hl => ?_, _, pb_swap hb ht hu, fun s hs => ?_⟩
          · rw [hpl j hj, hrw j, hC t (by omega), hC u (by omega), q1 j hj hl]
          · rw [hrw]
            by_cases j1 : s = u
            · rw [if_pos (by omega), hr t ht, if_pos j1]
            · rw [if_neg (by omega), if_neg j1]
              by_cases j2 : s = t
              · rw [if_pos (by omega), hr u hu, if_pos j2]
              · rw [if_neg (by omega), if_neg j2, hr s hs]
        obtain ⟨x, C', R', z1, z2, z3, z4, z5, z6, z7, z8⟩ := pb_cut2 (n := n) (bk := bk) (a := 39) (c := 11) (by omega) (by omega) (by omega) hm (by rw [pb_wr_n (by omega), pb_wr_n (by omega)]; exact k3.2.1.1) (by rw [pb_wr_n (by omega), pb_wr_n (by omega)]; exact k3.2.1.2.1) (fun t ht => by rw [pb_wr_n (by omega), pb_wr_n (by omega), pb_wr_n (by omega), pb_wr_n (by omega)]; exact (k3.2.2.1 t ht).1) P
        refine ⟨x, C', R', z1, z2, m, o, d2, f, y, p2, k3.keep (fun c c1 c2 => ?_) (fun c hc => ?_), k4.now (o := o) (bk := bk) hm z3 (fun c c1 c2 c3 => ?_) z6 (fun c c1 c2 c3 => ?_) z8⟩
        · rw [z5 c (by omega), pb_wr_n (by omega), pb_wr_n (by omega)]
        · rw [z7 c (by omega), pb_wr_n (by omega), pb_wr_n (by omega)]
        · rw [z5 c (by omega), pb_wr_n (by omega), pb_wr_n (by omega)]
        · rw [z7 c (by omega), pb_wr_n (by omega), pb_wr_n (by omega)]
    · simp (disch := omega) only [e0, e9, k0, k9, pb_bi, pb_l0, pb_l1, pb_l2, pb_l3, pb_l4, pb_l5, pb_l6, pb_l7, pb_l8, pb_l9, pb_l10, pb_l12, pb_l14, pb_l20, pb_l32, pb_l36, pb_l48, pb_l56, pb_l57, pb_l59, pb_l60, pb_l72, pb_l99, pb_l100, pb_l111, pb_l116, pb_l200, pb_l255, pb_l504, pb_l560, pb_l1000, pb_l9999, pb_l10000, pb_l100000, pb_l1000000, nI_add, pk_mul, pb_cl, pb_b, pb_le_t, pb_le_f, pb_lt_t, pb_lt_f, pb_eq_t, pb_eq_f]
      exact ⟨_, _, _, rfl, rfl, hh⟩
  · simp (disch := omega) only [e0, e9, pb_bi, pb_l0, pb_l1, pb_l2, pb_l3, pb_l4, pb_l5, pb_l6, pb_l7, pb_l8, pb_l9, pb_l10, pb_l12, pb_l14, pb_l20, pb_l32, pb_l36, pb_l48, pb_l56, pb_l57, pb_l59, pb_l60, pb_l72, pb_l99, pb_l100, pb_l111, pb_l116, pb_l200, pb_l255, pb_l504, pb_l560, pb_l1000, pb_l9999, pb_l10000, pb_l100000, pb_l1000000, nI_add, pk_mul, pb_cl, pb_b, pb_le_t, pb_le_f, pb_lt_t, pb_lt_f, pb_eq_t, pb_eq_f]
    exact ⟨_, _, _, rfl, rfl, hh⟩
theorem pb_widensop {n bk : Nat} {C R : fm_M} (h : pb_R bk C R) (hn : 600 ≤ n) (l l2 : Int32) : pb_ok bk (fX0_widens n bk C l l2) (fX9_widens n R l l2) := by
  have h' := h.thrown
  unfold fX9_widens fX0_widens
  simp only [fm_let, pb_l0, pb_l1, pb_l99]
  rw [pb_l0] at h'
  generalize fm_wr R 0 0 (nI 0) = R1 at h' ⊢
  clear h
  have hh := h'
  obtain ⟨m, o, d, f, y, p, hB, hS⟩ := h'
  have hbk := hB.1.2.2
  have hm := hB.1.1
  rcases pb_isTown (n := n) (bk := bk) hB.2.1.1 hB.2.1.2.1 hB.1.1 l with ⟨t, ht, rfl, e0, e9⟩ | ⟨e0, e9⟩
  · rcases pb_in n bk C R1 1 99 (by omega) (by omega) l2 with ⟨v, _, hv, hl2, i0, i9⟩ | ⟨hv, i0, i9⟩
    · obtain ⟨b, hb, hr⟩ := hS.1.2
      have hbt := hb.1 t ht
      have hC : C.1 40 t = nI (b t) := by rw [← hr t ht]; exact hS.1.bell (by omega)
      simp (disch := omega) only [e0, e9, i0, i9, pb_bi, pb_l0, pb_l1, pb_l2, pb_l3, pb_l4, pb_l5, pb_l6, pb_l7, pb_l8, pb_l9, pb_l10, pb_l12, pb_l14, pb_l20, pb_l32, pb_l36, pb_l48, pb_l56, pb_l57, pb_l59, pb_l60, pb_l72, pb_l99, pb_l100, pb_l111, pb_l116, pb_l200, pb_l255, pb_l504, pb_l560, pb_l1000, pb_l9999, pb_l10000, pb_l100000, pb_l1000000, nI_add, pk_mul, pb_cl, pb_b, pb_le_t, pb_le_f, pb_lt_t, pb_lt_f, pb_eq_t, pb_eq_f, hC, hr, (hB.2.2.1 _ hbt).1]
      by_cases c1 : R1.1 4 (b t) ≤ l2
      · obtain ⟨C2, R2, d2, p2, k1, k2, k3, k4, k5⟩ := pb_know_R (n := n) hn hB hS
        simp only [pb_ifp c1, k1, k2, pb_bv]
        have hv : C2.1 41 t = R2.1 11 (8 + t) := k4.1.bears ht hm
        rw [hv]
        have hpl : ∀ j, j < 56 → pb_pl (fm_wr C2 41 t l2) 39 j = if j = 8 + t then l2 else pb_pl C2 39 j := by
          intro j hj
          by_cases ej : j = 8 + t
          · subst ej
            rw [if_pos rfl, pb_pl_bears (by omega), pb_wr_e, pb_up_e]
          · rw [if_neg ej]
            unfold pb_pl
            rw [pb_wr_n (by omega), pb_wr_n (by omega), pb_wr_e, pb_wr_n (by omega), pb_wr_n (by omega)]
            by_cases j1 : j < 8
            · rw [if_pos j1, if_pos j1]
            · rw [if_neg (by omega : ¬ j < 2), if_neg (by omega : ¬ j < 2), if_neg j1, if_neg j1]
              by_cases j2 : j < 14
              · rw [if_pos j2, if_pos j2, pb_up_n (by omega)]
              · rw [if_neg j2, if_neg j2]
        refine ⟨_, _, _, rfl, rfl, m, o, d2, f, y, p2, k3.keep (fun c c1 c2 => ?_) (fun c hc => ?_), k4.now (o := o) (bk := bk) hm ⟨fun j hj hl => ?_, ?_⟩ (fun c c1 c2 c3 => ?_) rfl (fun c c1 c2 c3 => ?_) rfl⟩
        · rw [pb_wr_n (by omega)]
        · rw [pb_wr_n (by omega)]
        · rw [hpl j hj, pb_wr_e]
          by_cases ej : j = 8 + t
          · rw [if_pos ej, ej, pb_up_e]
          · rw [if_neg ej, pb_up_n ej]; exact k4.1.1 j hj hl
        · obtain ⟨b2, hb2, hr2⟩ := k4.1.2
          exact ⟨b2, hb2, fun s hs => by rw [pb_wr_e, pb_up_n (by omega)]; exact hr2 s hs⟩
        · rw [pb_wr_n (by omega)]
        · rw [pb_wr_n (by omega)]
      · simp only [pb_ifn c1]
        exact ⟨_, _, _, rfl, rfl, hh⟩
    · simp (disch := omega) only [e0, e9, i0, i9, pb_bi, pb_l0, pb_l1, pb_l2, pb_l3, pb_l4, pb_l5, pb_l6, pb_l7, pb_l8, pb_l9, pb_l10, pb_l12, pb_l14, pb_l20, pb_l32, pb_l36, pb_l48, pb_l56, pb_l57, pb_l59, pb_l60, pb_l72, pb_l99, pb_l100, pb_l111, pb_l116, pb_l200, pb_l255, pb_l504, pb_l560, pb_l1000, pb_l9999, pb_l10000, pb_l100000, pb_l1000000, nI_add, pk_mul, pb_cl, pb_b, pb_le_t, pb_le_f, pb_lt_t, pb_lt_f, pb_eq_t, pb_eq_f]
      exact ⟨_, _, _, rfl, rfl, hh⟩
  · simp (disch := omega) only [e0, e9, pb_bi, pb_l0, pb_l1, pb_l2, pb_l3, pb_l4, pb_l5, pb_l6, pb_l7, pb_l8, pb_l9, pb_l10, pb_l12, pb_l14, pb_l20, pb_l32, pb_l36, pb_l48, pb_l56, pb_l57, pb_l59, pb_l60, pb_l72, pb_l99, pb_l100, pb_l111, pb_l116, pb_l200, pb_l255, pb_l504, pb_l560, pb_l1000, pb_l9999, pb_l10000, pb_l100000, pb_l1000000, nI_add, pk_mul, pb_cl, pb_b, pb_le_t, pb_le_f, pb_lt_t, pb_lt_f, pb_eq_t, pb_eq_f]
    exact ⟨_, _, _, rfl, rfl, hh⟩
