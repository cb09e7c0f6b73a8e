/-! the relation between the component's memory C (book at bk) and the reference's memory R -/
set_option maxRecDepth 100000
/-- a plain at the cells a.., in the reference's row -/
def pb_pl (C : fm_M) (a k : Nat) : Int32 := if k < 2 then C.1 a k else if k < 8 then C.1 (a + 1) (k - 2) else if k < 14 then C.1 (a + 2) (k - 8) else if k < 20 then C.1 (a + 3) (k - 14) else C.1 (a + 5 + (k - 20) / 6) ((k - 20) % 6)
def pb_perm (m : Nat) (b : Nat → Nat) : Prop := (∀ t, t < m → b t < m) ∧ (∀ t u, t < m → u < m → b t = b u → t = u) ∧ ∀ s, s < m → ∃ t, t < m ∧ b t = s
def pb_PR (m : Nat) (C : fm_M) (a : Nat) (r : Nat → Int32) : Prop := (∀ k, k < 56 → ((k < 8 + m ∨ 14 ≤ k) ∧ (0 < m ∨ k < 2 ∨ 8 ≤ k)) → pb_pl C a k = r k) ∧ ∃ b, pb_perm m b ∧ ∀ t, t < m → r (2 + t) = nI (b t)
def pb_far (x y : Int32) : Prop := (∃ v, v ≤ 45 ∧ x = nI v ∧ y = nI v) ∨ (x = nI 100000 ∧ y = nI 1000000)
/-- the book -/
def pb_B (m o bk : Nat) (C R : fm_M) : Prop :=
  (m ≤ 6 ∧ o ≤ 6 ∧ (bk = 18 ∨ 193 ≤ bk)) ∧ (C.1 bk 8 = nI m ∧ R.1 2 0 = nI m ∧ C.1 bk 9 = nI o ∧ R.1 2 1 = nI o) ∧
  (∀ t, t < m → C.1 (bk + 2) t = R.1 4 t ∧ C.1 (bk + 3) t = R.1 5 t ∧ ∃ w, w ≤ 99 ∧ R.1 4 t = nI w) ∧
  (∀ a b, a < 6 → b < 6 → C.1 (bk + 5 + a) b = R.1 6 (6 * a + b) ∧ R.1 6 (6 * b + a) = R.1 6 (6 * a + b)) ∧ (∀ a, a < 6 → R.1 6 (7 * a) = nI 0) ∧
  (∀ a b, a < m → b < m → pb_far (C.1 (bk + 12 + a) b) (R.1 10 (6 * a + b))) ∧
  ∀ i, i < o → C.1 (bk + 18) i = R.1 7 i ∧ C.1 (bk + 19) i = R.1 8 i ∧ C.1 (bk + 20) i = R.1 9 i ∧ ∃ t, t < m ∧ R.1 8 i = nI t
def pb_U (m d : Nat) (p : Nat → Nat) (C R : fm_M) : Prop := d ≤ 10 ∧ C.1 0 6 = nI d ∧ R.1 0 23 = nI d ∧ (∀ j, j < 10 → C.1 3 j = nI (p j) ∧ 2 ≤ p j ∧ p j < 12) ∧ (∀ i j, i < 10 → j < 10 → p i = p j → i = j) ∧ ∀ j, j < d → pb_PR m C (39 + 11 * p j) (fun k => R.1 15 (56 * j + k))
def pb_I (m : Nat) (C R : fm_M) : Prop := ∀ i, i < 2 → C.1 5 i = R.1 14 i ∧ (R.1 14 i = nI 0 ∨ pb_PR m C (171 + 11 * i) (fun k => R.1 13 (56 * i + k)))
def pb_F (m f : Nat) (C R : fm_M) : Prop := f ≤ 5 ∧ C.1 0 16 = nI f ∧ R.1 0 26 = nI f ∧ ∀ k, k < f → C.1 9 k = R.1 16 k ∧ C.1 10 k = R.1 17 k ∧ ∃ t, t < m ∧ R.1 17 k = nI t
def pb_T (y : Nat) (C R : fm_M) : Prop := y ≤ 200 ∧ C.1 0 10 = nI y ∧ R.1 0 3 = nI y ∧ ∀ k, k < y → ∃ c, c < 256 ∧ R.1 1 k = nI c ∧ C.1 6 k &&& 255 = nI c
def pb_S (m d f y : Nat) (p : Nat → Nat) (C R : fm_M) : Prop := pb_PR m C 39 (R.1 11) ∧ pb_U m d p C R ∧ pb_I m C R ∧ pb_F m f C R ∧ pb_T y C R ∧ C.2 = R.2
def pb_R (bk : Nat) (C R : fm_M) : Prop := ∃ m o d f y p, pb_B m o bk C R ∧ pb_S m d f y p C R
/-- what the relation reads -/
def pb_fC (bk : Nat) (C C' : fm_M) : Prop := (∀ c, (c = 3 ∨ c = 5 ∨ c = 6 ∨ c = 9 ∨ c = 10 ∨ (39 ≤ c ∧ c < 50) ∨ (61 ≤ c ∧ c < 193) ∨ (bk ≤ c ∧ c < bk + 21)) → C'.1 c = C.1 c) ∧ (C'.1 0 6 = C.1 0 6 ∧ C'.1 0 10 = C.1 0 10 ∧ C'.1 0 16 = C.1 0 16) ∧ C'.2 = C.2
def pb_fR (R R' : fm_M) : Prop := (∀ c, (c = 1 ∨ c = 10 ∨ c = 11 ∨ (13 ≤ c ∧ c < 18)) → R'.1 c = R.1 c) ∧ (∀ c k, (c = 4 ∨ c = 5 ∨ c = 7 ∨ c = 8 ∨ c = 9) → k < 6 → R'.1 c k = R.1 c k) ∧ (∀ k, k < 36 → R'.1 6 k = R.1 6 k) ∧ (R'.1 2 0 = R.1 2 0 ∧ R'.1 2 1 = R.1 2 1) ∧ (R'.1 0 3 = R.1 0 3 ∧ R'.1 0 23 = R.1 0 23 ∧ R'.1 0 26 = R.1 0 26) ∧ R'.2 = R.2
theorem pb_fC.refl {bk : Nat} {C : fm_M} : pb_fC bk C C := ⟨fun _ _ => rfl, ⟨rfl, rfl, rfl⟩, rfl⟩
theorem pb_fR.refl {R : fm_M} : pb_fR R R := ⟨fun _ _ => rfl, fun _ _ _ _ => rfl, fun _ _ => rfl, ⟨rfl, rfl⟩, ⟨rfl, rfl, rfl⟩, rfl⟩
theorem pb_fC.trans {bk : Nat} {C C' C'' : fm_M} (h : pb_fC bk C C') (g : pb_fC bk C' C'') : pb_fC bk C C'' := ⟨fun c hc => (g.1 c hc).trans (h.1 c hc), ⟨g.2.1.1.trans h.2.1.1, g.2.1.2.1.trans h.2.1.2.1, g.2.1.2.2.trans h.2.1.2.2⟩, g.2.2.trans h.2.2⟩
theorem pb_fR.trans {R R' R'' : fm_M} (h : pb_fR R R') (g : pb_fR R' R'') : pb_fR R R'' := ⟨fun c hc => (g.1 c hc).trans (h.1 c hc), fun c k hc hk => (g.2.1 c k hc hk).trans (h.2.1 c k hc hk), fun k hk => (g.2.2.1 k hk).trans (h.2.2.1 k hk), ⟨g.2.2.2.1.1.trans h.2.2.2.1.1, g.2.2.2.1.2.trans h.2.2.2.1.2⟩, ⟨g.2.2.2.2.1.1.trans h.2.2.2.2.1.1, g.2.2.2.2.1.2.1.trans h.2.2.2.2.1.2.1, g.2.2.2.2.1.2.2.trans h.2.2.2.2.1.2.2⟩, g.2.2.2.2.2.trans h.2.2.2.2.2⟩
theorem pb_pl_same {C C' : fm_M} {a : Nat} (h : ∀ c, a ≤ c → c < a + 11 → C'.1 c = C.1 c) (k : Nat) (hk : k < 56) : pb_pl C' a k = pb_pl C a k := by
  unfold pb_pl
  rw [h a (by omega) (by omega), h (a + 1) (by omega) (by omega), h (a + 2) (by omega) (by omega), h (a + 3) (by omega) (by omega)]
  by_cases h1 : k < 20
  · rw [if_pos h1, if_pos h1]
  · rw [h (a + 5 + (k - 20) / 6) (by omega) (by omega)]
theorem pb_PR.same {m : Nat} {C C' : fm_M} {a : Nat} {r r' : Nat → Int32} (g : pb_PR m C a r) (h : ∀ c, a ≤ c → c < a + 11 → C'.1 c = C.1 c) (hr : ∀ k, k < 56 → r' k = r k) (hm : m ≤ 6) : pb_PR m C' a r' := by
  obtain ⟨g1, b, g2, g3⟩ := g
  refine ⟨fun k hk hl => ?_, b, g2, fun t ht => ?_⟩
  · rw [pb_pl_same h k hk, g1 k hk hl, hr k hk]
  · rw [hr (2 + t) (by omega), g3 t ht]
theorem pb_B.frame {m o bk : Nat} {C C' R R' : fm_M} (h : pb_B m o bk C R) (hC : ∀ c, bk ≤ c → c < bk + 21 → C'.1 c = C.1 c) (r10 : R'.1 10 = R.1 10) (r4 : ∀ c k, (c = 4 ∨ c = 5 ∨ c = 7 ∨ c = 8 ∨ c = 9) → k < 6 → R'.1 c k = R.1 c k) (r6 : ∀ k, k < 36 → R'.1 6 k = R.1 6 k) (r20 : R'.1 2 0 = R.1 2 0) (r21 : R'.1 2 1 = R.1 2 1) : pb_B m o bk C' R' := by
  obtain ⟨⟨a1, a2, a3⟩, ⟨b1, b2, b3, b4⟩, c1, d1, e1, f1, g1⟩ := h
  refine ⟨⟨a1, a2, a3⟩, ⟨?_, ?_, ?_, ?_⟩, fun t ht => ?_, fun a b ha hb => ?_, fun a ha => ?_, fun a b ha hb => ?_, fun i hi => ?_⟩
  · rw [hC bk (by omega) (by omega)]; exact b1
  · rw [r20]; exact b2
  · rw [hC bk (by omega) (by omega)]; exact b3
  · rw [r21]; exact b4
  · rw [hC (bk + 2) (by omega) (by omega), hC (bk + 3) (by omega) (by omega), r4 4 t (by omega) (by omega), r4 5 t (by omega) (by omega)]; exact c1 t ht
  · rw [hC (bk + 5 + a) (by omega) (by omega), r6 (6 * a + b) (by omega), r6 (6 * b + a) (by omega)]; exact d1 a b ha hb
  · rw [r6 (7 * a) (by omega)]; exact e1 a ha
  · rw [hC (bk + 12 + a) (by omega) (by omega), r10]; exact f1 a b ha hb
  · rw [hC (bk + 18) (by omega) (by omega), hC (bk + 19) (by omega) (by omega), hC (bk + 20) (by omega) (by omega), r4 7 i (by omega) (by omega), r4 8 i (by omega) (by omega), r4 9 i (by omega) (by omega)]; exact g1 i hi
theorem pb_B.keep {m o bk : Nat} {C C' R R' : fm_M} (h : pb_B m o bk C R) (hC : ∀ c, bk ≤ c → c < bk + 21 → C'.1 c = C.1 c) (hR : ∀ c, c = 2 ∨ (4 ≤ c ∧ c ≤ 10) → R'.1 c = R.1 c) : pb_B m o bk C' R' := h.frame hC (hR 10 (by omega)) (fun c k hc _ => by rw [hR c (by omega)]) (fun k _ => by rw [hR 6 (by omega)]) (by rw [hR 2 (by omega)]) (by rw [hR 2 (by omega)])
theorem pb_U.frame {m d : Nat} {p : Nat → Nat} {C C' R R' : fm_M} (h : pb_U m d p C R) (hm : m ≤ 6) (h0 : C'.1 0 6 = C.1 0 6) (h3 : C'.1 3 = C.1 3) (hc : ∀ c, 61 ≤ c → c < 171 → C'.1 c = C.1 c) (r0 : R'.1 0 23 = R.1 0 23) (r1 : R'.1 15 = R.1 15) : pb_U m d p C' R' := by
  obtain ⟨u1, u2, u3, u4, u5, u6⟩ := h
  refine ⟨u1, by rw [h0]; exact u2, by rw [r0]; exact u3, fun j hj => by rw [h3]; exact u4 j hj, u5, fun j hj => ?_⟩
  have := u4 j (by omega)
  exact (u6 j hj).same (fun c c1 c2 => hc c (by omega) (by omega)) (fun k _ => by rw [r1]) hm
theorem pb_I.frame {m : Nat} {C C' R R' : fm_M} (h : pb_I m C R) (hm : m ≤ 6) (h5 : C'.1 5 = C.1 5) (hc : ∀ c, 171 ≤ c → c < 193 → C'.1 c = C.1 c) (r0 : R'.1 14 = R.1 14) (r1 : R'.1 13 = R.1 13) : pb_I m C' R' := by
  intro i hi
  refine ⟨by rw [h5, r0]; exact (h i hi).1, ?_⟩
  rcases (h i hi).2 with g | g
  · left; rw [r0]; exact g
  · right; exact g.same (fun c c1 c2 => hc c (by omega) (by omega)) (fun k _ => by rw [r1]) hm
theorem pb_F.frame {m f : Nat} {C C' R R' : fm_M} (h : pb_F m f C R) (h0 : C'.1 0 16 = C.1 0 16) (h9 : C'.1 9 = C.1 9) (h10 : C'.1 10 = C.1 10) (r0 : R'.1 0 26 = R.1 0 26) (r1 : R'.1 16 = R.1 16) (r2 : R'.1 17 = R.1 17) : pb_F m f C' R' := by
  obtain ⟨v1, v2, v3, v4⟩ := h
  exact ⟨v1, by rw [h0]; exact v2, by rw [r0]; exact v3, fun k hk => by rw [h9, h10, r1, r2]; exact v4 k hk⟩
theorem pb_T.frame {y : Nat} {C C' R R' : fm_M} (h : pb_T y C R) (h0 : C'.1 0 10 = C.1 0 10) (h6 : C'.1 6 = C.1 6) (r0 : R'.1 0 3 = R.1 0 3) (r1 : R'.1 1 = R.1 1) : pb_T y C' R' := by
  obtain ⟨w1, w2, w3, w4⟩ := h
  exact ⟨w1, by rw [h0]; exact w2, by rw [r0]; exact w3, fun k hk => by rw [h6, r1]; exact w4 k hk⟩
theorem pb_S.frame {m d f y bk : Nat} {p : Nat → Nat} {C C' R R' : fm_M} (h : pb_S m d f y p C R) (hm : m ≤ 6) (hC : pb_fC bk C C') (hR : pb_fR R R') : pb_S m d f y p C' R' := by
  obtain ⟨h1, h2, h3, h4, h5, h6⟩ := h
  refine ⟨?_, ?_, ?_, ?_, ?_, ?_⟩
  · exact h1.same (fun c c1 c2 => hC.1 c (by omega)) (fun k _ => by rw [hR.1 11 (by omega)]) hm
  · exact h2.frame hm hC.2.1.1 (hC.1 3 (by omega)) (fun c c1 c2 => hC.1 c (by omega)) hR.2.2.2.2.1.2.1 (hR.1 15 (by omega))
  · exact h3.frame hm (hC.1 5 (by omega)) (fun c c1 c2 => hC.1 c (by omega)) (hR.1 14 (by omega)) (hR.1 13 (by omega))
  · exact h4.frame hC.2.1.2.2 (hC.1 9 (by omega)) (hC.1 10 (by omega)) hR.2.2.2.2.1.2.2 (hR.1 16 (by omega)) (hR.1 17 (by omega))
  · exact h5.frame hC.2.1.2.1 (hC.1 6 (by omega)) hR.2.2.2.2.1.1 (hR.1 1 (by omega))
  · rw [hC.2.2, hR.2.2.2.2.2]; exact h6
theorem pb_R.frame {bk : Nat} {C C' R R' : fm_M} (h : pb_R bk C R) (hC : pb_fC bk C C') (hR : pb_fR R R') : pb_R bk C' R' := by
  obtain ⟨m, o, d, f, y, p, hB, hS⟩ := h
  exact ⟨m, o, d, f, y, p, hB.frame (fun c h1 h2 => hC.1 c (by omega)) (hR.1 10 (by omega)) hR.2.1 hR.2.2.1 hR.2.2.2.1.1 hR.2.2.2.1.2, hS.frame hB.1.1 hC hR⟩
/-- the reference's thrown := 0, and writes that the relation doesn't read -/
theorem pb_fR.wr {R : fm_M} {c k : Nat} {v : Int32} (h : (c = 0 ∧ k ≠ 3 ∧ k ≠ 23 ∧ k ≠ 26) ∨ (c = 2 ∧ 2 ≤ k) ∨ c = 3 ∨ ((c = 4 ∨ c = 5 ∨ c = 7 ∨ c = 8 ∨ c = 9) ∧ 6 ≤ k) ∨ (c = 6 ∧ 36 ≤ k) ∨ c = 12 ∨ 18 ≤ c) : pb_fR R (fm_wr R c k v) := by
  refine ⟨fun c' hc => ?_, fun c' k' hc hk => ?_, fun k' hk => ?_, ⟨?_, ?_⟩, ⟨?_, ?_, ?_⟩, rfl⟩
  · rw [pb_wr_n (by omega)]
  all_goals
    simp only [fm_wr, fm_row, va_up, upd]
    split
    · next hcc =>
      subst hcc
      exact pb_up_n (by omega)
    · rfl
theorem pb_fC.wr {bk : Nat} {C : fm_M} {c k : Nat} {v : Int32} (hb : bk = 18 ∨ 193 ≤ bk) (h : (c = 0 ∧ k ≠ 6 ∧ k ≠ 10 ∧ k ≠ 16) ∨ c = 1 ∨ c = 2 ∨ c = 7 ∨ c = 8 ∨ (50 ≤ c ∧ c < 61) ∨ (193 ≤ c ∧ bk + 21 ≤ c)) : pb_fC bk C (fm_wr C c k v) := by
  refine ⟨fun c' hc => ?_, ⟨?_, ?_, ?_⟩, rfl⟩
  · rw [pb_wr_n (by omega)]
  all_goals
    simp only [fm_wr, fm_row, va_up, upd]
    split
    · next hcc =>
      subst hcc
      exact pb_up_n (by omega)
    · rfl
theorem pb_fC.row {bk : Nat} {C : fm_M} {c : Nat} {r : Nat → Int32} (hb : bk = 18 ∨ 193 ≤ bk) (h : c = 1 ∨ c = 2 ∨ c = 7 ∨ c = 8 ∨ (50 ≤ c ∧ c < 61) ∨ (193 ≤ c ∧ bk + 21 ≤ c)) : pb_fC bk C (fm_row C c r) := by
  refine ⟨fun c' hc => ?_, ⟨?_, ?_, ?_⟩, rfl⟩
  · rw [pb_row_n (by omega)]
  all_goals rw [pb_row_n (by omega)]
theorem pb_fR.row {R : fm_M} {c : Nat} {r : Nat → Int32} (h : c = 3 ∨ c = 12 ∨ 18 ≤ c) : pb_fR R (fm_row R c r) := by
  refine ⟨fun c' hc => ?_, fun c' k' hc hk => ?_, fun k' hk => ?_, ⟨?_, ?_⟩, ⟨?_, ?_, ?_⟩, rfl⟩
  all_goals rw [pb_row_n (by omega)]
theorem pb_R.thrown {bk : Nat} {C R : fm_M} (h : pb_R bk C R) : pb_R bk C (fm_wr R 0 0 0) := h.frame pb_fC.refl (pb_fR.wr (by omega))
/-- what an operation must do -/
def pb_ok (bk : Nat) (a b : Option (Int32 × fm_M)) : Prop := ∃ r C' R', a = some (r, C') ∧ b = some (r, R') ∧ pb_R bk C' R'
/-- reads of a plain -/
theorem pb_pl_term {C : fm_M} {a : Nat} : pb_pl C a 0 = C.1 a 0 := rfl
theorem pb_pl_cuts {C : fm_M} {a : Nat} : pb_pl C a 1 = C.1 a 1 := rfl
theorem pb_pl_bell {C : fm_M} {a t : Nat} (h : t < 6) : pb_pl C a (2 + t) = C.1 (a + 1) t := by
  unfold pb_pl
  rw [if_neg (by omega), if_pos (by omega), show 2 + t - 2 = t by omega]
theorem pb_pl_bears {C : fm_M} {a t : Nat} (h : t < 6) : pb_pl C a (8 + t) = C.1 (a + 2) t := by
  unfold pb_pl
  rw [if_neg (by omega), if_neg (by omega), if_pos (by omega), show 8 + t - 8 = t by omega]
theorem pb_pl_oath {C : fm_M} {a t : Nat} (h : t < 6) : pb_pl C a (14 + t) = C.1 (a + 3) t := by
  unfold pb_pl
  rw [if_neg (by omega), if_neg (by omega), if_neg (by omega), if_pos (by omega), show 14 + t - 14 = t by omega]
theorem pb_pl_stroke {C : fm_M} {a b t : Nat} (h : t < 6) : pb_pl C a (20 + 6 * b + t) = C.1 (a + 5 + b) t := by
  unfold pb_pl
  rw [if_neg (by omega), if_neg (by omega), if_neg (by omega), if_neg (by omega), show (20 + 6 * b + t - 20) / 6 = b by omega, show (20 + 6 * b + t - 20) % 6 = t by omega]
theorem pb_PR.term {m a : Nat} {C : fm_M} {r : Nat → Int32} (h : pb_PR m C a r) : C.1 a 0 = r 0 := by rw [← h.1 0 (by omega) (by omega)]; rfl
theorem pb_PR.cuts {m a : Nat} {C : fm_M} {r : Nat → Int32} (h : pb_PR m C a r) : C.1 a 1 = r 1 := by rw [← h.1 1 (by omega) (by omega)]; rfl
theorem pb_PR.bell {m a t : Nat} {C : fm_M} {r : Nat → Int32} (h : pb_PR m C a r) (ht : t < 6 ∧ 0 < m) : C.1 (a + 1) t = r (2 + t) := by rw [← h.1 (2 + t) (by omega) (by omega), pb_pl_bell ht.1]
theorem pb_PR.bears {m a t : Nat} {C : fm_M} {r : Nat → Int32} (h : pb_PR m C a r) (ht : t < m) (hm : m ≤ 6) : C.1 (a + 2) t = r (8 + t) := by rw [← h.1 (8 + t) (by omega) (by omega), pb_pl_bears (by omega)]
theorem pb_PR.oath {m a t : Nat} {C : fm_M} {r : Nat → Int32} (h : pb_PR m C a r) (ht : t < 6) : C.1 (a + 3) t = r (14 + t) := by rw [← h.1 (14 + t) (by omega) (by omega), pb_pl_oath ht]
theorem pb_PR.stroke {m a b t : Nat} {C : fm_M} {r : Nat → Int32} (h : pb_PR m C a r) (hb : b < 6) (ht : t < 6) : C.1 (a + 5 + b) t = r (20 + 6 * b + t) := by rw [← h.1 (20 + 6 * b + t) (by omega) (by omega), pb_pl_stroke ht]
/-- where a bell hangs: both searches -/
theorem pb_where_loop {n bk a c m u : Nat} {C R : fm_M} {b : Nat → Nat} (hb : pb_perm m b) (hm : m ≤ 6) (hC : ∀ t, t < m → C.1 (a + 1) t = nI (b t)) (hR : ∀ t, t < m → R.1 c (2 + t) = nI (b t)) (hu : u < m) : ∀ (d t k : Nat), u = t + d → d < k → fX2_where_2 n bk a k C (nI (b u)) (nI t) = some (nI u, C) ∧ fX9_hangs_2 n c k R (nI (b u)) (nI t) = some (nI u, R) := by
  intro d
  induction d with
  | zero =>
    intro t k h1 h2
    obtain ⟨k, rfl⟩ : ∃ j, k = j + 1 := ⟨k - 1, by omega⟩
    have e : t = u := by omega
    subst e
    rw [fX2_where_2, fX9_hangs_2]
    simp (disch := omega) only [pb_l0, pb_l1, pb_l2, pb_l3, pb_l4, pb_l5, pb_l6, pb_l7, pb_l8, pb_l9, pb_l10, pb_l12, pb_l14, pb_l20, pb_l32, pb_l36, pb_l48, pb_l56, pb_l57, pb_l59, pb_l60, pb_l72, pb_l99, pb_l100, pb_l111, pb_l116, pb_l200, pb_l255, pb_l504, pb_l560, pb_l1000, pb_l9999, pb_l10000, pb_l100000, pb_l1000000, nI_add, pk_mul, pb_cl, pb_b, pb_le_t, pb_le_f, pb_lt_t, pb_lt_f, pb_eq_t, pb_eq_f, hC, hR, pb_ifp]
    exact ⟨if_pos trivial, if_pos trivial⟩
  | succ d ih =>
    intro t k h1 h2
    obtain ⟨k, rfl⟩ : ∃ j, k = j + 1 := ⟨k - 1, by omega⟩
    have e : ¬ nI (b t) = nI (b u) := by
      have hbt := hb.1 t (by omega)
      have hbu := hb.1 u hu
      rw [nI_eq (by omega) (by omega)]
      intro h
      have := hb.2.1 t u (by omega) hu h
      omega
    rw [fX2_where_2, fX9_hangs_2]
    simp (disch := omega) only [pb_l0, pb_l1, pb_l2, pb_l3, pb_l4, pb_l5, pb_l6, pb_l7, pb_l8, pb_l9, pb_l10, pb_l12, pb_l14, pb_l20, pb_l32, pb_l36, pb_l48, pb_l56, pb_l57, pb_l59, pb_l60, pb_l72, pb_l99, pb_l100, pb_l111, pb_l116, pb_l200, pb_l255, pb_l504, pb_l560, pb_l1000, pb_l9999, pb_l10000, pb_l100000, pb_l1000000, nI_add, pk_mul, pb_cl, pb_b, pb_le_t, pb_le_f, pb_lt_t, pb_lt_f, pb_eq_t, pb_eq_f, hC, hR, pb_ifn e]
    exact ih (t + 1) k (by omega) (by omega)
theorem pb_where {n bk a c m t : Nat} {C R : fm_M} (h : pb_PR m C a (R.1 c)) (hm : m ≤ 6) (ht : t < m) (hn : 10 ≤ n) : ∃ u, u < m ∧ R.1 c (2 + u) = nI t ∧ fX2_where n bk a C (nI t) = some (nI u, C) ∧ fX9_hangs n c R (nI t) = some (nI u, R) := by
  obtain ⟨h1, b, hb, hr⟩ := h
  obtain ⟨u, hu, e⟩ := hb.2.2 t ht
  have hC : ∀ t, t < m → C.1 (a + 1) t = nI (b t) := fun t ht => by rw [← hr t ht, ← h1 (2 + t) (by omega) (by omega), pb_pl_bell (by omega)]
  have g := pb_where_loop (n := n) (bk := bk) (a := a) (c := c) hb hm hC hr hu u 0 n (by omega) (by omega)
  rw [e] at g
  exact ⟨u, hu, by rw [hr u hu, e], g.1, g.2⟩
