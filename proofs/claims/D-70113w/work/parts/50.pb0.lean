/-! the plain side: numbers and memories (no program in sight) -/
set_option maxRecDepth 100000
theorem pb_l0 : (0 : Int32) = nI 0 := by decide +kernel
theorem pb_l1 : (1 : Int32) = nI 1 := by decide +kernel
theorem pb_l2 : (2 : Int32) = nI 2 := by decide +kernel
theorem pb_l3 : (3 : Int32) = nI 3 := by decide +kernel
theorem pb_l4 : (4 : Int32) = nI 4 := by decide +kernel
theorem pb_l5 : (5 : Int32) = nI 5 := by decide +kernel
theorem pb_l6 : (6 : Int32) = nI 6 := by decide +kernel
theorem pb_l7 : (7 : Int32) = nI 7 := by decide +kernel
theorem pb_l8 : (8 : Int32) = nI 8 := by decide +kernel
theorem pb_l9 : (9 : Int32) = nI 9 := by decide +kernel
theorem pb_l10 : (10 : Int32) = nI 10 := by decide +kernel
theorem pb_l12 : (12 : Int32) = nI 12 := by decide +kernel
theorem pb_l14 : (14 : Int32) = nI 14 := by decide +kernel
theorem pb_l20 : (20 : Int32) = nI 20 := by decide +kernel
theorem pb_l32 : (32 : Int32) = nI 32 := by decide +kernel
theorem pb_l36 : (36 : Int32) = nI 36 := by decide +kernel
theorem pb_l48 : (48 : Int32) = nI 48 := by decide +kernel
theorem pb_l56 : (56 : Int32) = nI 56 := by decide +kernel
theorem pb_l57 : (57 : Int32) = nI 57 := by decide +kernel
theorem pb_l59 : (59 : Int32) = nI 59 := by decide +kernel
theorem pb_l60 : (60 : Int32) = nI 60 := by decide +kernel
theorem pb_l72 : (72 : Int32) = nI 72 := by decide +kernel
theorem pb_l99 : (99 : Int32) = nI 99 := by decide +kernel
theorem pb_l100 : (100 : Int32) = nI 100 := by decide +kernel
theorem pb_l111 : (111 : Int32) = nI 111 := by decide +kernel
theorem pb_l116 : (116 : Int32) = nI 116 := by decide +kernel
theorem pb_l200 : (200 : Int32) = nI 200 := by decide +kernel
theorem pb_l255 : (255 : Int32) = nI 255 := by decide +kernel
theorem pb_l504 : (504 : Int32) = nI 504 := by decide +kernel
theorem pb_l560 : (560 : Int32) = nI 560 := by decide +kernel
theorem pb_l1000 : (1000 : Int32) = nI 1000 := by decide +kernel
theorem pb_l9999 : (9999 : Int32) = nI 9999 := by decide +kernel
theorem pb_l10000 : (10000 : Int32) = nI 10000 := by decide +kernel
theorem pb_l100000 : (100000 : Int32) = nI 100000 := by decide +kernel
theorem pb_l1000000 : (1000000 : Int32) = nI 1000000 := by decide +kernel
theorem pb_cl {t : Nat} (h : t < 2147483648) : (nI t).toNatClampNeg = t := nI_clamp h
theorem pb_b {α : Type} {t n : Nat} {k : Option α} (h : t < n) (hn : n < 2147483648) : fm_b (nI t) n k = k := by
  unfold fm_b
  rw [nI_toInt (by omega : t < 2 ^ 31)]
  exact if_pos (by omega)
theorem pb_le_t {α : Type} {a b : Nat} {x y : α} {d : Decidable (nI a ≤ nI b)} (h : a ≤ b) (hb : b < 2147483648) : @ite α (nI a ≤ nI b) d x y = x := if_pos (nI_le h hb)
theorem pb_le_f {α : Type} {a b : Nat} {x y : α} {d : Decidable (nI a ≤ nI b)} (h : b < a) (hb : a < 2147483648) : @ite α (nI a ≤ nI b) d x y = y := if_neg (nI_ge h hb)
theorem pb_lt_t {α : Type} {a b : Nat} {x y : α} {d : Decidable (nI a < nI b)} (h : a < b) (hb : b < 2147483648) : @ite α (nI a < nI b) d x y = x := if_pos (nI_lt h hb)
theorem pb_lt_f {α : Type} {a b : Nat} {x y : α} {d : Decidable (nI a < nI b)} (h : b ≤ a) (hb : a < 2147483648) : @ite α (nI a < nI b) d x y = y := if_neg (nI_nlt h hb)
theorem pb_eq_t {α : Type} {a b : Nat} {x y : α} {d : Decidable (nI a = nI b)} (h : a = b) : @ite α (nI a = nI b) d x y = x := if_pos (by rw [h])
theorem pb_eq_f {α : Type} {a b : Nat} {x y : α} {d : Decidable (nI a = nI b)} (h : a ≠ b) (ha : a < 2147483648) (hb : b < 2147483648) : @ite α (nI a = nI b) d x y = y := if_neg (by rw [nI_eq ha hb]; exact h)
theorem pb_ifp {α : Type} {c : Prop} {x y : α} (h : c) {d : Decidable c} : @ite α c d x y = x := if_pos h
theorem pb_ifn {α : Type} {c : Prop} {x y : α} (h : ¬ c) {d : Decidable c} : @ite α c d x y = y := if_neg h
theorem pb_bi {α β : Type} {a : α} {M : fm_M} {k : α → fm_M → Option β} : fm_bi (some (a, M)) k = k a M := rfl
theorem pb_bv {β : Type} {M : fm_M} {k : fm_M → Option β} : fm_bv (some M) k = k M := rfl
theorem pb_wr_e {M : fm_M} {c k : Nat} {v : Int32} : (fm_wr M c k v).1 c = upd (M.1 c) k v := by simp [fm_wr, fm_row, va_up]
theorem pb_wr_n {M : fm_M} {c k c' : Nat} {v : Int32} (h : c' ≠ c) : (fm_wr M c k v).1 c' = M.1 c' := by simp [fm_wr, fm_row, va_up, h]
theorem pb_row_e {M : fm_M} {c : Nat} {r : Nat → Int32} : (fm_row M c r).1 c = r := by simp [fm_row, va_up]
theorem pb_row_n {M : fm_M} {c c' : Nat} {r : Nat → Int32} (h : c' ≠ c) : (fm_row M c r).1 c' = M.1 c' := by simp [fm_row, va_up, h]
theorem pb_up_e {f : Nat → Int32} {k : Nat} {v : Int32} : upd f k v k = v := by simp [upd]
theorem pb_up_n {f : Nat → Int32} {k j : Nat} {v : Int32} (h : j ≠ k) : upd f k v j = f j := by simp [upd, h]
theorem pb_wr_2 {M : fm_M} {c k : Nat} {v : Int32} : (fm_wr M c k v).2 = M.2 := rfl
theorem pb_row_2 {M : fm_M} {c : Nat} {r : Nat → Int32} : (fm_row M c r).2 = M.2 := rfl
/-- an int is in lo .. hi, or the two methods 'in' say no -/
theorem pb_in (n bk : Nat) (C R : fm_M) (lo hi : Nat) (hlo : lo < 2147483648) (hh : hi < 2147483648) (x : Int32) : (∃ v, lo ≤ v ∧ v ≤ hi ∧ x = nI v ∧ fX0_in n bk C x (nI lo) (nI hi) = some (nI 1, C) ∧ fX9_in n R x (nI lo) (nI hi) = some (nI 1, R)) ∨ ((∀ v, lo ≤ v → v ≤ hi → x ≠ nI v) ∧ fX0_in n bk C x (nI lo) (nI hi) = some (nI 0, C) ∧ fX9_in n R x (nI lo) (nI hi) = some (nI 0, R)) := by
  unfold fX0_in fX9_in
  by_cases h1 : x < nI lo
  · right; rw [if_pos h1, if_pos h1]
    refine ⟨fun v hv1 hv2 e => ?_, rfl, rfl⟩
    rw [e, nI_ltI (by omega) (by omega)] at h1
    omega
  · by_cases h2 : nI hi < x
    · right; rw [if_neg h1, if_neg h1, if_pos h2, if_pos h2]
      refine ⟨fun v hv1 hv2 e => ?_, rfl, rfl⟩
      rw [e, nI_ltI (by omega) (by omega)] at h2
      omega
    · left
      have h3 : ¬ x < 0 := by
        rw [Int32.lt_iff_toInt_lt, nI_toInt hlo] at h1
        rw [Int32.lt_iff_toInt_lt]
        have : (0 : Int32).toInt = 0 := rfl
        omega
      obtain ⟨j, hj, rfl⟩ := nI_of h3
      refine ⟨j, ?_, ?_, rfl, ?_, ?_⟩
      · rw [nI_ltI hj hlo] at h1; omega
      · rw [nI_ltI hh hj] at h2; omega
      · rw [if_neg h1, if_neg h2]; rfl
      · rw [if_neg h1, if_neg h2]; rfl
/-- two results are alike -/
def pb_eq2 {α : Type} (P : fm_M → fm_M → Prop) (a b : Option (α × fm_M)) : Prop := ∃ r C R, a = some (r, C) ∧ b = some (r, R) ∧ P C R
theorem pb_bz1 {α : Type} {k : Option α} : fm_bz (nI 1) k = k := rfl
theorem pb_bz0 {α : Type} {k : Option α} : fm_bz (nI 0) k = k := rfl
theorem pb_inm (n bk m : Nat) (C R : fm_M) (hm : m ≤ 6) (x : Int32) : (∃ t, t < m ∧ x = nI t ∧ fX0_in n bk C x (nI 0) (nI m - nI 1) = some (nI 1, C) ∧ fX9_in n R x (nI 0) (nI m - nI 1) = some (nI 1, R)) ∨ (fX0_in n bk C x (nI 0) (nI m - nI 1) = some (nI 0, C) ∧ fX9_in n R x (nI 0) (nI m - nI 1) = some (nI 0, R)) := by
  cases m with
  | zero =>
    right
    unfold fX0_in fX9_in
    have e : nI 0 - nI 1 = (-1 : Int32) := rfl
    rw [e]
    by_cases h1 : x < nI 0
    · rw [if_pos h1, if_pos h1]; exact ⟨rfl, rfl⟩
    · have h2 : (-1 : Int32) < x := by
        rw [Int32.lt_iff_toInt_lt] at h1 ⊢
        have e1 : (nI 0).toInt = 0 := rfl
        have e2 : (-1 : Int32).toInt = -1 := rfl
        omega
      rw [if_neg h1, if_neg h1, if_pos h2, if_pos h2]; exact ⟨rfl, rfl⟩
  | succ m =>
    have e : nI (m + 1) - nI 1 = nI m := nI_pred m
    rw [e]
    rcases pb_in n bk C R 0 m (by omega) (by omega) x with ⟨v, h1, h2, rfl, e0, e9⟩ | ⟨_, e0, e9⟩
    · left
      exact ⟨v, by omega, rfl, e0, e9⟩
    · right
      exact ⟨e0, e9⟩
theorem pb_isTown {n bk m : Nat} {C R : fm_M} (hC : C.1 bk 8 = nI m) (hR : R.1 2 0 = nI m) (hm : m ≤ 6) (x : Int32) : (∃ t, t < m ∧ x = nI t ∧ fX0_isTown n bk C x = some (nI 1, C) ∧ fX9_isTown n R x = some (nI 1, R)) ∨ (fX0_isTown n bk C x = some (nI 0, C) ∧ fX9_isTown n R x = some (nI 0, R)) := by
  unfold fX0_isTown fX9_isTown
  rw [hC, hR, pb_l0, pb_l1]
  rcases pb_inm n bk m C R hm x with ⟨t, h1, h2, e0, e9⟩ | ⟨e0, e9⟩
  · left
    exact ⟨t, h1, h2, by rw [e0]; rfl, by rw [e9]; rfl⟩
  · right
    exact ⟨by rw [e0]; rfl, by rw [e9]; rfl⟩
theorem pb_isSeed (n bk : Nat) (C R : fm_M) (x : Int32) : (∃ v, v ≤ 9999 ∧ x = nI v ∧ fX0_isSeed n bk C x = some (nI 1, C) ∧ fX9_in n R x (nI 0) (nI 9999) = some (nI 1, R)) ∨ (fX0_isSeed n bk C x = some (nI 0, C) ∧ fX9_in n R x (nI 0) (nI 9999) = some (nI 0, R)) := by
  unfold fX0_isSeed
  rw [pb_l0, pb_l9999]
  rcases pb_in n bk C R 0 9999 (by omega) (by omega) x with ⟨v, h1, h2, h3, e0, e9⟩ | ⟨_, e0, e9⟩
  · left
    exact ⟨v, h2, h3, by rw [e0]; rfl, e9⟩
  · right
    exact ⟨by rw [e0]; rfl, e9⟩
