/-! the component's world grows by a reader and its book -/
set_option maxRecDepth 100000
theorem pw_ref {D : va_G} {H : Heap} {a n : Nat} {c : ClassId} {f g : Nat → Option Nat} (h : va_at D fm_cl (a, .inl (c, n, .inr (.inr (.inr (.inr f))))) H) (hfg : ∀ j, j < n → f j = g j) : va_at D fm_cl (a, .inl (c, n, .inr (.inr (.inr (.inr g))))) H := by
  have h1 : H[a]? = some (arrV c n (fun j => va_rf (f j))) := h
  show H[a]? = some (arrV c n (fun j => va_rf (g j)))
  rw [h1]
  unfold arrV
  congr 3
  funext j
  show va_rf (f j.val) = va_rf (g j.val)
  rw [hfg j.val j.isLt]
section PW
variable {D : va_G} {dA : Nat → ClassId} {N : Nat} {ad ad' : Nat → Nat} {H : Heap}
theorem pw_extB {b o a : Nat} {r : Nat → Int32} (hb : b + 21 ≤ N) (hag : ∀ i, i < N → ad' i = ad i) (h : va_at D fm_cl (a, mkB ad dA b o r) H) : va_at D fm_cl (a, mkB ad' dA b o r) H := by
  unfold mkB at h ⊢
  split
  · simp only at h
    rw [hag _ (by omega), hag _ (by omega), hag _ (by omega), hag _ (by omega), hag _ (by omega), hag _ (by omega), hag _ (by omega), hag _ (by omega)]
    exact h
  · simp only at h
    exact pw_ref h (fun j hj => by rw [hag _ (by omega)])
  · simp only at h
    exact pw_ref h (fun j hj => by rw [hag _ (by omega)])
  · simp only at h; exact h
theorem pw_extP {k o a : Nat} {r : Nat → Int32} (hN : 193 ≤ N) (hk : k < 14) (hag : ∀ i, i < N → ad' i = ad i) (h : va_at D fm_cl (a, mkPl ad dA (39 + 11 * k) o r) H) : va_at D fm_cl (a, mkPl ad' dA (39 + 11 * k) o r) H := by
  unfold mkPl at h ⊢
  split
  · simp only at h
    rw [hag _ (by omega), hag _ (by omega), hag _ (by omega), hag _ (by omega), hag 0 (by omega)]
    exact h
  · simp only at h
    exact pw_ref h (fun j hj => by rw [hag _ (by omega)])
  · simp only at h; exact h
theorem pw_extH {bk i a : Nat} {r : Nat → Int32} {t : Int64} (hN : 193 ≤ N) (hbk : bk < N) (hag : ∀ i, i < N → ad' i = ad i) (hr : i = 3 → ∀ j, j < 10 → (r j).toNatClampNeg < 14) (h : va_at D fm_cl (a, mkH ad dA bk i r t) H) : va_at D fm_cl (a, mkH ad' dA bk i r t) H := by
  unfold mkH at h ⊢
  split
  · simp only at h
    rw [hag bk hbk, hag 1 (by omega), hag 2 (by omega), hag 39 (by omega), hag 50 (by omega), hag 3 (by omega), hag 4 (by omega), hag 5 (by omega), hag 6 (by omega), hag 7 (by omega), hag 8 (by omega), hag 9 (by omega), hag 10 (by omega), hag 11 (by omega)]
    exact h
  · simp only at h
    exact pw_ref h (fun j hj => by have := hr rfl j hj; rw [hag _ (by omega)])
  · simp only at h
    exact pw_ref h (fun j hj => by rw [hag _ (by omega)])
  · exact h
  · exact h
  · exact h
  · exact h
  · simp only at h
    exact pw_ref h (fun j hj => by rw [hag _ (by omega)])
  all_goals first | exact h | (simp only at h; exact h) | (simp only at h; rw [hag 0 (by omega)]; exact h)
theorem pw_ext {bk q i : Nat} {M : fm_M} (hN : N = 193 + 22 * q) (hbk : bk < N) (hag : ∀ i, i < N → ad' i = ad i) (hb : ∀ j, j < 10 → (M.1 3 j).toNatClampNeg < 14) (hP : fm_P (YC D dA N ad bk) M H) (hi : i < N) : va_at D fm_cl (ad' i, mkC ad' dA bk i (M.1 i) M.2) H := by
  have h : va_at D fm_cl (ad i, mkC ad dA bk i (M.1 i) M.2) H := hP i _ (fm_ws_get hi)
  rw [hag i hi]
  unfold mkC at h ⊢
  cases h1 : Nat.blt i 18 with
  | true =>
    rw [h1] at h
    exact pw_extH (by omega) hbk hag (fun e => by subst e; exact hb) h
  | false =>
    rw [h1] at h
    cases h2 : Nat.blt i 39 with
    | true =>
      rw [h2] at h
      exact pw_extB (N := N) (by omega) hag h
    | false =>
      rw [h2] at h
      cases h3 : Nat.blt i 193 with
      | true =>
        rw [h3] at h
        have := fm_lt h3
        exact pw_extP (by omega) (by omega) hag h
      | false =>
        rw [h3] at h
        have h193 : ¬ i < 193 := fun z => by
          have : Nat.blt i 193 = true := Nat.ble_eq_true_of_le z
          rw [h3] at this; cases this
        cases h4 : Nat.beq ((i - 193) % 22) 0 with
        | true =>
          rw [h4] at h
          have := Nat.eq_of_beq_eq_true h4
          show va_at D fm_cl (ad i, .inr (10, [.int (M.1 i 0), .int (M.1 i 1), .int (M.1 i 2), .int (M.1 i 3), .ref (ad' (i + 1)), .ref (ad' 0)])) H
          rw [hag (i + 1) (by omega), hag 0 (by omega)]
          exact h
        | false =>
          rw [h4] at h
          exact pw_extB (N := N) (by omega) hag h
/-- the memory behind 'new Reader' -/
def pw_M (N : Nat) (C : fm_M) : fm_M := (fun c => if N ≤ c ∧ c < N + 22 then fun _ => 0 else C.1 c, C.2)
def pw_ad (N sz : Nat) (ad : Nat → Nat) : Nat → Nat := fun i => if i < N then ad i else sz + (i - N)
theorem pw_world {bk q sz : Nat} {C : fm_M} (hN : N = 193 + 22 * q) (hbk : bk < N) (hb : ∀ j, j < 10 → (C.1 3 j).toNatClampNeg < 14) (hP : fm_P (YC D dA N ad bk) C H) (hR : va_P D fm_cl (rg_ws sz (cells_X10 dA (ad 0) sz)) H) : fm_P (YC D dA (N + 22) (pw_ad N sz ad) bk) (pw_M N C) H := by
  intro k e hk
  obtain ⟨hi, rfl⟩ := fm_ws_inv hk
  have hi : k < N + 22 := hi
  have hag : ∀ i, i < N → pw_ad N sz ad i = ad i := fun i h => if_pos h
  by_cases h : k < N
  · have e1 : (pw_M N C).1 k = C.1 k := if_neg (by omega)
    show va_at D fm_cl (pw_ad N sz ad k, mkC (pw_ad N sz ad) dA bk k ((pw_M N C).1 k) C.2) H
    rw [e1]
    exact pw_ext hN hbk hag hb hP h
  · obtain ⟨j, rfl⟩ : ∃ j, k = N + j := ⟨k - N, by omega⟩
    have e1 : (pw_M N C).1 (N + j) = fun _ => 0 := if_pos (by omega)
    have e2 : ∀ o, pw_ad N sz ad (N + o) = sz + o := fun o => by
      unfold pw_ad
      rw [if_neg (by omega), Nat.add_sub_cancel_left]
    have e0 : pw_ad N sz ad 0 = ad 0 := hag 0 (by omega)
    have hat : ∀ {e : va_E}, (cells_X10 dA (ad 0) sz)[j]? = some e → va_at D fm_cl (sz + j, e) H := fun he => hR j _ (rg_ws_at he)
    show va_at D fm_cl (pw_ad N sz ad (N + j), mkC (pw_ad N sz ad) dA bk (N + j) ((pw_M N C).1 (N + j)) C.2) H
    rw [e1, e2]
    have hj : j < 22 := by omega
    cases j with
    | zero =>
      have hrd : fm_isRd (N + 22) (N + 0) := ⟨q, by omega, by omega⟩
      rw [hrd.mk0, e0, show N + 0 + 1 = N + 1 from rfl, e2]
      exact hat rfl
    | succ o =>
      have hbk1 : fm_isBk (N + 22) (N + 1) := Or.inr ⟨q, by omega, by omega⟩
      have em : mkC (pw_ad N sz ad) dA bk (N + (o + 1)) (fun _ => 0) C.2 = mkB (pw_ad N sz ad) dA (N + 1) o (fun _ => 0) := by
        rw [show N + (o + 1) = N + 1 + o by omega]
        exact mkC_bk hbk1 (by omega) _ _
      rw [em]
      have e3 : ∀ x, pw_ad N sz ad (N + 1 + x) = sz + 1 + x := fun x => by rw [Nat.add_assoc, e2, Nat.add_assoc]
      match o, hj with
      | 0, _ =>
        show va_at D fm_cl (sz + 1, .inr (1, [.ref (pw_ad N sz ad (N + 1 + 1)), .ref (pw_ad N sz ad (N + 1 + 2)), .ref (pw_ad N sz ad (N + 1 + 3)), .ref (pw_ad N sz ad (N + 1 + 4)), .ref (pw_ad N sz ad (N + 1 + 11)), .ref (pw_ad N sz ad (N + 1 + 18)), .ref (pw_ad N sz ad (N + 1 + 19)), .ref (pw_ad N sz ad (N + 1 + 20)), .int 0, .int 0, .int 0])) H
        rw [e3, e3, e3, e3, e3, e3, e3, e3]
        exact hat rfl
      | 1, _ => exact hat rfl
      | 2, _ => exact hat rfl
      | 3, _ => exact hat rfl
      | 4, _ =>
        refine pw_ref (hat rfl) (fun x hx => ?_)
        show (if x < 6 then some (sz + 1 + 4 + 1 + x) else none) = some (pw_ad N sz ad (N + 1 + 5 + x))
        rw [if_pos hx, show N + 1 + 5 + x = N + 1 + (5 + x) by omega, e3, show sz + 1 + 4 + 1 + x = sz + 1 + (5 + x) by omega]
      | 5, _ => exact hat rfl
      | 6, _ => exact hat rfl
      | 7, _ => exact hat rfl
      | 8, _ => exact hat rfl
      | 9, _ => exact hat rfl
      | 10, _ => exact hat rfl
      | 11, _ =>
        refine pw_ref (hat rfl) (fun x hx => ?_)
        show (if x < 6 then some (sz + 1 + 11 + 1 + x) else none) = some (pw_ad N sz ad (N + 1 + 12 + x))
        rw [if_pos hx, show N + 1 + 12 + x = N + 1 + (12 + x) by omega, e3, show sz + 1 + 11 + 1 + x = sz + 1 + (12 + x) by omega]
      | 12, _ => exact hat rfl
      | 13, _ => exact hat rfl
      | 14, _ => exact hat rfl
      | 15, _ => exact hat rfl
      | 16, _ => exact hat rfl
      | 17, _ => exact hat rfl
      | 18, _ => exact hat rfl
      | 19, _ => exact hat rfl
      | 20, _ => exact hat rfl
      | x + 21, h9 => exact absurd h9 (by omega)
end PW
