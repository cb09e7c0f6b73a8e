/-! what BellLots.<init> makes, as the component's world (printed by gen/genX0.py) -/
set_option maxRecDepth 100000
def x0flat (dA : Nat → ClassId) (b : Nat) : List va_E := [.inr (0, [.ref (b + 1), .ref (b + 22), .ref (b + 23), .ref (b + 24), .ref (b + 35), .ref (b + 46), .int 0, .ref (b + 157), .ref (b + 180), .ref (b + 181), .int 0, .int 0, .ref (b + 182), .ref (b + 183), .ref (b + 184), .ref (b + 185), .int 0, .long 0, .ref (b + 186)]),
  .inr (1, [.ref (b + 1 + 1), .ref (b + 1 + 2), .ref (b + 1 + 3), .ref (b + 1 + 4), .ref (b + 1 + 11), .ref (b + 1 + 18), .ref (b + 1 + 19), .ref (b + 1 + 20), .int 0, .int 0, .int 0]),
  .inl (dA 0, 6, .inl (fun _ => 0)),
  .inl (dA 0, 6, .inl (fun _ => 0)),
  .inl (dA 0, 6, .inl (fun _ => 0)),
  .inl (dA 5, 6, .inr (.inr (.inr (.inr (fun j => if j < 6 then some (b + 1 + 4 + 1 + j) else none))))),
  .inl (dA 0, 6, .inl (fun _ => 0)),
  .inl (dA 0, 6, .inl (fun _ => 0)),
  .inl (dA 0, 6, .inl (fun _ => 0)),
  .inl (dA 0, 6, .inl (fun _ => 0)),
  .inl (dA 0, 6, .inl (fun _ => 0)),
  .inl (dA 0, 6, .inl (fun _ => 0)),
  .inl (dA 5, 6, .inr (.inr (.inr (.inr (fun j => if j < 6 then some (b + 1 + 11 + 1 + j) else none))))),
  .inl (dA 0, 6, .inl (fun _ => 0)),
  .inl (dA 0, 6, .inl (fun _ => 0)),
  .inl (dA 0, 6, .inl (fun _ => 0)),
  .inl (dA 0, 6, .inl (fun _ => 0)),
  .inl (dA 0, 6, .inl (fun _ => 0)),
  .inl (dA 0, 6, .inl (fun _ => 0)),
  .inl (dA 0, 6, .inl (fun _ => 0)),
  .inl (dA 0, 6, .inl (fun _ => 0)),
  .inl (dA 0, 6, .inl (fun _ => 0)),
  .inl (dA 0, 6, .inl (fun _ => 0)),
  .inl (dA 0, 6, .inl (fun _ => 0)),
  .inr (2, [.int 0, .int 0, .ref (b + 24 + 1), .ref (b + 24 + 2), .ref (b + 24 + 3), .ref (b + 24 + 4), .ref b]),
  .inl (dA 0, 6, .inl (fun _ => 0)),
  .inl (dA 0, 6, .inl (fun _ => 0)),
  .inl (dA 0, 6, .inl (fun _ => 0)),
  .inl (dA 5, 6, .inr (.inr (.inr (.inr (fun j => if j < 6 then some (b + 24 + 4 + 1 + j) else none))))),
  .inl (dA 0, 6, .inl (fun _ => 0)),
  .inl (dA 0, 6, .inl (fun _ => 0)),
  .inl (dA 0, 6, .inl (fun _ => 0)),
  .inl (dA 0, 6, .inl (fun _ => 0)),
  .inl (dA 0, 6, .inl (fun _ => 0)),
  .inl (dA 0, 6, .inl (fun _ => 0)),
  .inr (2, [.int 0, .int 0, .ref (b + 35 + 1), .ref (b + 35 + 2), .ref (b + 35 + 3), .ref (b + 35 + 4), .ref b]),
  .inl (dA 0, 6, .inl (fun _ => 0)),
  .inl (dA 0, 6, .inl (fun _ => 0)),
  .inl (dA 0, 6, .inl (fun _ => 0)),
  .inl (dA 5, 6, .inr (.inr (.inr (.inr (fun j => if j < 6 then some (b + 35 + 4 + 1 + j) else none))))),
  .inl (dA 0, 6, .inl (fun _ => 0)),
  .inl (dA 0, 6, .inl (fun _ => 0)),
  .inl (dA 0, 6, .inl (fun _ => 0)),
  .inl (dA 0, 6, .inl (fun _ => 0)),
  .inl (dA 0, 6, .inl (fun _ => 0)),
  .inl (dA 0, 6, .inl (fun _ => 0)),
  .inl (dA 3, 10, .inr (.inr (.inr (.inr (va_up (va_up (va_up (va_up (va_up (va_up (va_up (va_up (va_up (va_up (fun _ => none) 0 (some (b + 46 + 1))) 1 (some (b + 46 + 12))) 2 (some (b + 46 + 23))) 3 (some (b + 46 + 34))) 4 (some (b + 46 + 45))) 5 (some (b + 46 + 56))) 6 (some (b + 46 + 67))) 7 (some (b + 46 + 78))) 8 (some (b + 46 + 89))) 9 (some (b + 46 + 100))))))),
  .inr (2, [.int 0, .int 0, .ref (b + 46 + 1 + 1), .ref (b + 46 + 1 + 2), .ref (b + 46 + 1 + 3), .ref (b + 46 + 1 + 4), .ref b]),
  .inl (dA 0, 6, .inl (fun _ => 0)),
  .inl (dA 0, 6, .inl (fun _ => 0)),
  .inl (dA 0, 6, .inl (fun _ => 0)),
  .inl (dA 5, 6, .inr (.inr (.inr (.inr (fun j => if j < 6 then some (b + 46 + 1 + 4 + 1 + j) else none))))),
  .inl (dA 0, 6, .inl (fun _ => 0)),
  .inl (dA 0, 6, .inl (fun _ => 0)),
  .inl (dA 0, 6, .inl (fun _ => 0)),
  .inl (dA 0, 6, .inl (fun _ => 0)),
  .inl (dA 0, 6, .inl (fun _ => 0)),
  .inl (dA 0, 6, .inl (fun _ => 0)),
  .inr (2, [.int 0, .int 0, .ref (b + 46 + 12 + 1), .ref (b + 46 + 12 + 2), .ref (b + 46 + 12 + 3), .ref (b + 46 + 12 + 4), .ref b]),
  .inl (dA 0, 6, .inl (fun _ => 0)),
  .inl (dA 0, 6, .inl (fun _ => 0)),
  .inl (dA 0, 6, .inl (fun _ => 0)),
  .inl (dA 5, 6, .inr (.inr (.inr (.inr (fun j => if j < 6 then some (b + 46 + 12 + 4 + 1 + j) else none))))),
  .inl (dA 0, 6, .inl (fun _ => 0)),
  .inl (dA 0, 6, .inl (fun _ => 0)),
  .inl (dA 0, 6, .inl (fun _ => 0)),
  .inl (dA 0, 6, .inl (fun _ => 0)),
  .inl (dA 0, 6, .inl (fun _ => 0)),
  .inl (dA 0, 6, .inl (fun _ => 0)),
  .inr (2, [.int 0, .int 0, .ref (b + 46 + 23 + 1), .ref (b + 46 + 23 + 2), .ref (b + 46 + 23 + 3), .ref (b + 46 + 23 + 4), .ref b]),
  .inl (dA 0, 6, .inl (fun _ => 0)),
  .inl (dA 0, 6, .inl (fun _ => 0)),
  .inl (dA 0, 6, .inl (fun _ => 0)),
  .inl (dA 5, 6, .inr (.inr (.inr (.inr (fun j => if j < 6 then some (b + 46 + 23 + 4 + 1 + j) else none))))),
  .inl (dA 0, 6, .inl (fun _ => 0)),
  .inl (dA 0, 6, .inl (fun _ => 0)),
  .inl (dA 0, 6, .inl (fun _ => 0)),
  .inl (dA 0, 6, .inl (fun _ => 0)),
  .inl (dA 0, 6, .inl (fun _ => 0)),
  .inl (dA 0, 6, .inl (fun _ => 0)),
  .inr (2, [.int 0, .int 0, .ref (b + 46 + 34 + 1), .ref (b + 46 + 34 + 2), .ref (b + 46 + 34 + 3), .ref (b + 46 + 34 + 4), .ref b]),
  .inl (dA 0, 6, .inl (fun _ => 0)),
  .inl (dA 0, 6, .inl (fun _ => 0)),
  .inl (dA 0, 6, .inl (fun _ => 0)),
  .inl (dA 5, 6, .inr (.inr (.inr (.inr (fun j => if j < 6 then some (b + 46 + 34 + 4 + 1 + j) else none))))),
  .inl (dA 0, 6, .inl (fun _ => 0)),
  .inl (dA 0, 6, .inl (fun _ => 0)),
  .inl (dA 0, 6, .inl (fun _ => 0)),
  .inl (dA 0, 6, .inl (fun _ => 0)),
  .inl (dA 0, 6, .inl (fun _ => 0)),
  .inl (dA 0, 6, .inl (fun _ => 0)),
  .inr (2, [.int 0, .int 0, .ref (b + 46 + 45 + 1), .ref (b + 46 + 45 + 2), .ref (b + 46 + 45 + 3), .ref (b + 46 + 45 + 4), .ref b]),
  .inl (dA 0, 6, .inl (fun _ => 0)),
  .inl (dA 0, 6, .inl (fun _ => 0)),
  .inl (dA 0, 6, .inl (fun _ => 0)),
  .inl (dA 5, 6, .inr (.inr (.inr (.inr (fun j => if j < 6 then some (b + 46 + 45 + 4 + 1 + j) else none))))),
  .inl (dA 0, 6, .inl (fun _ => 0)),
  .inl (dA 0, 6, .inl (fun _ => 0)),
  .inl (dA 0, 6, .inl (fun _ => 0)),
  .inl (dA 0, 6, .inl (fun _ => 0)),
  .inl (dA 0, 6, .inl (fun _ => 0)),
  .inl (dA 0, 6, .inl (fun _ => 0)),
  .inr (2, [.int 0, .int 0, .ref (b + 46 + 56 + 1), .ref (b + 46 + 56 + 2), .ref (b + 46 + 56 + 3), .ref (b + 46 + 56 + 4), .ref b]),
  .inl (dA 0, 6, .inl (fun _ => 0)),
  .inl (dA 0, 6, .inl (fun _ => 0)),
  .inl (dA 0, 6, .inl (fun _ => 0)),
  .inl (dA 5, 6, .inr (.inr (.inr (.inr (fun j => if j < 6 then some (b + 46 + 56 + 4 + 1 + j) else none))))),
  .inl (dA 0, 6, .inl (fun _ => 0)),
  .inl (dA 0, 6, .inl (fun _ => 0)),
  .inl (dA 0, 6, .inl (fun _ => 0)),
  .inl (dA 0, 6, .inl (fun _ => 0)),
  .inl (dA 0, 6, .inl (fun _ => 0)),
  .inl (dA 0, 6, .inl (fun _ => 0)),
  .inr (2, [.int 0, .int 0, .ref (b + 46 + 67 + 1), .ref (b + 46 + 67 + 2), .ref (b + 46 + 67 + 3), .ref (b + 46 + 67 + 4), .ref b]),
  .inl (dA 0, 6, .inl (fun _ => 0)),
  .inl (dA 0, 6, .inl (fun _ => 0)),
  .inl (dA 0, 6, .inl (fun _ => 0)),
  .inl (dA 5, 6, .inr (.inr (.inr (.inr (fun j => if j < 6 then some (b + 46 + 67 + 4 + 1 + j) else none))))),
  .inl (dA 0, 6, .inl (fun _ => 0)),
  .inl (dA 0, 6, .inl (fun _ => 0)),
  .inl (dA 0, 6, .inl (fun _ => 0)),
  .inl (dA 0, 6, .inl (fun _ => 0)),
  .inl (dA 0, 6, .inl (fun _ => 0)),
  .inl (dA 0, 6, .inl (fun _ => 0)),
  .inr (2, [.int 0, .int 0, .ref (b + 46 + 78 + 1), .ref (b + 46 + 78 + 2), .ref (b + 46 + 78 + 3), .ref (b + 46 + 78 + 4), .ref b]),
  .inl (dA 0, 6, .inl (fun _ => 0)),
  .inl (dA 0, 6, .inl (fun _ => 0)),
  .inl (dA 0, 6, .inl (fun _ => 0)),
  .inl (dA 5, 6, .inr (.inr (.inr (.inr (fun j => if j < 6 then some (b + 46 + 78 + 4 + 1 + j) else none))))),
  .inl (dA 0, 6, .inl (fun _ => 0)),
  .inl (dA 0, 6, .inl (fun _ => 0)),
  .inl (dA 0, 6, .inl (fun _ => 0)),
  .inl (dA 0, 6, .inl (fun _ => 0)),
  .inl (dA 0, 6, .inl (fun _ => 0)),
  .inl (dA 0, 6, .inl (fun _ => 0)),
  .inr (2, [.int 0, .int 0, .ref (b + 46 + 89 + 1), .ref (b + 46 + 89 + 2), .ref (b + 46 + 89 + 3), .ref (b + 46 + 89 + 4), .ref b]),
  .inl (dA 0, 6, .inl (fun _ => 0)),
  .inl (dA 0, 6, .inl (fun _ => 0)),
  .inl (dA 0, 6, .inl (fun _ => 0)),
  .inl (dA 5, 6, .inr (.inr (.inr (.inr (fun j => if j < 6 then some (b + 46 + 89 + 4 + 1 + j) else none))))),
  .inl (dA 0, 6, .inl (fun _ => 0)),
  .inl (dA 0, 6, .inl (fun _ => 0)),
  .inl (dA 0, 6, .inl (fun _ => 0)),
  .inl (dA 0, 6, .inl (fun _ => 0)),
  .inl (dA 0, 6, .inl (fun _ => 0)),
  .inl (dA 0, 6, .inl (fun _ => 0)),
  .inr (2, [.int 0, .int 0, .ref (b + 46 + 100 + 1), .ref (b + 46 + 100 + 2), .ref (b + 46 + 100 + 3), .ref (b + 46 + 100 + 4), .ref b]),
  .inl (dA 0, 6, .inl (fun _ => 0)),
  .inl (dA 0, 6, .inl (fun _ => 0)),
  .inl (dA 0, 6, .inl (fun _ => 0)),
  .inl (dA 5, 6, .inr (.inr (.inr (.inr (fun j => if j < 6 then some (b + 46 + 100 + 4 + 1 + j) else none))))),
  .inl (dA 0, 6, .inl (fun _ => 0)),
  .inl (dA 0, 6, .inl (fun _ => 0)),
  .inl (dA 0, 6, .inl (fun _ => 0)),
  .inl (dA 0, 6, .inl (fun _ => 0)),
  .inl (dA 0, 6, .inl (fun _ => 0)),
  .inl (dA 0, 6, .inl (fun _ => 0)),
  .inl (dA 3, 2, .inr (.inr (.inr (.inr (va_up (va_up (fun _ => none) 0 (some (b + 157 + 1))) 1 (some (b + 157 + 12))))))),
  .inr (2, [.int 0, .int 0, .ref (b + 157 + 1 + 1), .ref (b + 157 + 1 + 2), .ref (b + 157 + 1 + 3), .ref (b + 157 + 1 + 4), .ref b]),
  .inl (dA 0, 6, .inl (fun _ => 0)),
  .inl (dA 0, 6, .inl (fun _ => 0)),
  .inl (dA 0, 6, .inl (fun _ => 0)),
  .inl (dA 5, 6, .inr (.inr (.inr (.inr (fun j => if j < 6 then some (b + 157 + 1 + 4 + 1 + j) else none))))),
  .inl (dA 0, 6, .inl (fun _ => 0)),
  .inl (dA 0, 6, .inl (fun _ => 0)),
  .inl (dA 0, 6, .inl (fun _ => 0)),
  .inl (dA 0, 6, .inl (fun _ => 0)),
  .inl (dA 0, 6, .inl (fun _ => 0)),
  .inl (dA 0, 6, .inl (fun _ => 0)),
  .inr (2, [.int 0, .int 0, .ref (b + 157 + 12 + 1), .ref (b + 157 + 12 + 2), .ref (b + 157 + 12 + 3), .ref (b + 157 + 12 + 4), .ref b]),
  .inl (dA 0, 6, .inl (fun _ => 0)),
  .inl (dA 0, 6, .inl (fun _ => 0)),
  .inl (dA 0, 6, .inl (fun _ => 0)),
  .inl (dA 5, 6, .inr (.inr (.inr (.inr (fun j => if j < 6 then some (b + 157 + 12 + 4 + 1 + j) else none))))),
  .inl (dA 0, 6, .inl (fun _ => 0)),
  .inl (dA 0, 6, .inl (fun _ => 0)),
  .inl (dA 0, 6, .inl (fun _ => 0)),
  .inl (dA 0, 6, .inl (fun _ => 0)),
  .inl (dA 0, 6, .inl (fun _ => 0)),
  .inl (dA 0, 6, .inl (fun _ => 0)),
  .inl (dA 1, 2, .inl (fun _ => 0)),
  .inl (dA 2, 200, .inl (fun _ => 0)),
  .inl (dA 0, 6, .inl (fun _ => 0)),
  .inl (dA 0, 6, .inl (fun _ => 0)),
  .inl (dA 0, 5, .inl (fun _ => 0)),
  .inl (dA 0, 5, .inl (fun _ => 0)),
  .inl (dA 4, 6, .inr (.inr (.inr (.inr (va_up (va_up (va_up (va_up (va_up (va_up (fun _ => none) 0 (some (b + 187))) 1 (some (b + 188))) 2 (some (b + 189))) 3 (some (b + 190))) 4 (some (b + 191))) 5 (some (b + 192))))))),
  .inr (3, [.ref b]),
  .inr (4, [.ref b, .ref b]),
  .inr (5, [.ref b, .ref b]),
  .inr (6, [.ref b, .ref b, .ref b]),
  .inr (7, [.ref b, .ref b, .ref b]),
  .inr (8, [.ref b, .ref b])]
theorem rg_all10 {P : Nat → Prop} (h0 : P 0) (h1 : P 1) (h2 : P 2) (h3 : P 3) (h4 : P 4) (h5 : P 5) (h6 : P 6) (h7 : P 7) (h8 : P 8) (h9 : P 9) : ∀ j, j < 10 → P j := by
  intro j hj
  match j, hj with
  | 0, _ => exact h0
  | 1, _ => exact h1
  | 2, _ => exact h2
  | 3, _ => exact h3
  | 4, _ => exact h4
  | 5, _ => exact h5
  | 6, _ => exact h6
  | 7, _ => exact h7
  | 8, _ => exact h8
  | 9, _ => exact h9
  | k + 10, hk => exact absurd hk (by omega)
def x0ro (i : Nat) : Nat := bif Nat.beq i 0 then 0 else bif Nat.blt i 3 then 21 + i else bif Nat.beq i 3 then 46 else bif Nat.beq i 4 then 157 else bif Nat.blt i 18 then 175 + i else bif Nat.blt i 39 then i - 17 else bif Nat.blt i 61 then i - 15 else bif Nat.blt i 171 then i - 14 else i - 13
def x0ad (b i : Nat) : Nat := b + x0ro i
def x0M : fm_M := (fun c j => bif Nat.beq c 3 then Int32.ofNat (j + 2) else 0, 0)
set_option maxHeartbeats 4000000 in
theorem x0flat_eq {dA : Nat → ClassId} {b : Nat} : cells_X0 dA b = x0flat dA b := by
  simp only [cells_X0, cells_X0L, cells_X1, cells_X2, cells_plains10, cells_plains2, rg_grid, rg_ai, x0flat, List.cons_append, List.nil_append]
theorem x0_ref {D : va_G} {H : Heap} {a n : Nat} {c : ClassId} {f g : Nat → Option Nat} (h : va_at D fm_cl (a, .inl (c, n, .inr (.inr (.inr (.inr f))))) H) (hfg : ∀ j, j < n → f j = g j) : va_at D fm_cl (a, .inl (c, n, .inr (.inr (.inr (.inr g))))) H := by
  have h1 : H[a]? = some (arrV c n (fun j => va_rf (f j))) := h
  show H[a]? = some (arrV c n (fun j => va_rf (g j)))
  rw [h1]
  unfold arrV
  congr 3
  funext j
  show va_rf (f j.val) = va_rf (g j.val)
  rw [hfg j.val j.isLt]
set_option maxHeartbeats 8000000 in
theorem x0_world {D : va_G} {dA : Nat → ClassId} {b : Nat} {H : Heap} (hP : va_P D fm_cl (rg_ws b (x0flat dA b)) H) : fm_P (YC D dA 193 (x0ad b) 18) x0M H := by
  intro k q hk
  obtain ⟨hi, rfl⟩ := fm_ws_inv hk
  match k, hi with
  | 0, _ => exact hP 0 _ (rg_ws_at (C := x0flat dA b) (j := 0) rfl)
  | 1, _ => exact hP 22 _ (rg_ws_at (C := x0flat dA b) (j := 22) rfl)
  | 2, _ => exact hP 23 _ (rg_ws_at (C := x0flat dA b) (j := 23) rfl)
  | 3, _ => exact x0_ref (hP 46 _ (rg_ws_at (C := x0flat dA b) (j := 46) rfl)) (rg_all10 rfl rfl rfl rfl rfl rfl rfl rfl rfl rfl)
  | 4, _ => exact x0_ref (hP 157 _ (rg_ws_at (C := x0flat dA b) (j := 157) rfl)) (rg_all2 rfl rfl)
  | 5, _ => exact hP 180 _ (rg_ws_at (C := x0flat dA b) (j := 180) rfl)
  | 6, _ => exact hP 181 _ (rg_ws_at (C := x0flat dA b) (j := 181) rfl)
  | 7, _ => exact hP 182 _ (rg_ws_at (C := x0flat dA b) (j := 182) rfl)
  | 8, _ => exact hP 183 _ (rg_ws_at (C := x0flat dA b) (j := 183) rfl)
  | 9, _ => exact hP 184 _ (rg_ws_at (C := x0flat dA b) (j := 184) rfl)
  | 10, _ => exact hP 185 _ (rg_ws_at (C := x0flat dA b) (j := 185) rfl)
  | 11, _ => exact x0_ref (hP 186 _ (rg_ws_at (C := x0flat dA b) (j := 186) rfl)) (rg_all6 rfl rfl rfl rfl rfl rfl)
  | 12, _ => exact hP 187 _ (rg_ws_at (C := x0flat dA b) (j := 187) rfl)
  | 13, _ => exact hP 188 _ (rg_ws_at (C := x0flat dA b) (j := 188) rfl)
  | 14, _ => exact hP 189 _ (rg_ws_at (C := x0flat dA b) (j := 189) rfl)
  | 15, _ => exact hP 190 _ (rg_ws_at (C := x0flat dA b) (j := 190) rfl)
  | 16, _ => exact hP 191 _ (rg_ws_at (C := x0flat dA b) (j := 191) rfl)
  | 17, _ => exact hP 192 _ (rg_ws_at (C := x0flat dA b) (j := 192) rfl)
  | 18, _ => exact hP 1 _ (rg_ws_at (C := x0flat dA b) (j := 1) rfl)
  | 19, _ => exact hP 2 _ (rg_ws_at (C := x0flat dA b) (j := 2) rfl)
  | 20, _ => exact hP 3 _ (rg_ws_at (C := x0flat dA b) (j := 3) rfl)
  | 21, _ => exact hP 4 _ (rg_ws_at (C := x0flat dA b) (j := 4) rfl)
  | 22, _ => exact x0_ref (hP 5 _ (rg_ws_at (C := x0flat dA b) (j := 5) rfl)) (rg_all6 rfl rfl rfl rfl rfl rfl)
  | 23, _ => exact hP 6 _ (rg_ws_at (C := x0flat dA b) (j := 6) rfl)
  | 24, _ => exact hP 7 _ (rg_ws_at (C := x0flat dA b) (j := 7) rfl)
  | 25, _ => exact hP 8 _ (rg_ws_at (C := x0flat dA b) (j := 8) rfl)
  | 26, _ => exact hP 9 _ (rg_ws_at (C := x0flat dA b) (j := 9) rfl)
  | 27, _ => exact hP 10 _ (rg_ws_at (C := x0flat dA b) (j := 10) rfl)
  | 28, _ => exact hP 11 _ (rg_ws_at (C := x0flat dA b) (j := 11) rfl)
  | 29, _ => exact x0_ref (hP 12 _ (rg_ws_at (C := x0flat dA b) (j := 12) rfl)) (rg_all6 rfl rfl rfl rfl rfl rfl)
  | 30, _ => exact hP 13 _ (rg_ws_at (C := x0flat dA b) (j := 13) rfl)
  | 31, _ => exact hP 14 _ (rg_ws_at (C := x0flat dA b) (j := 14) rfl)
  | 32, _ => exact hP 15 _ (rg_ws_at (C := x0flat dA b) (j := 15) rfl)
  | 33, _ => exact hP 16 _ (rg_ws_at (C := x0flat dA b) (j := 16) rfl)
  | 34, _ => exact hP 17 _ (rg_ws_at (C := x0flat dA b) (j := 17) rfl)
  | 35, _ => exact hP 18 _ (rg_ws_at (C := x0flat dA b) (j := 18) rfl)
  | 36, _ => exact hP 19 _ (rg_ws_at (C := x0flat dA b) (j := 19) rfl)
  | 37, _ => exact hP 20 _ (rg_ws_at (C := x0flat dA b) (j := 20) rfl)
  | 38, _ => exact hP 21 _ (rg_ws_at (C := x0flat dA b) (j := 21) rfl)
  | 39, _ => exact hP 24 _ (rg_ws_at (C := x0flat dA b) (j := 24) rfl)
  | 40, _ => exact hP 25 _ (rg_ws_at (C := x0flat dA b) (j := 25) rfl)
  | 41, _ => exact hP 26 _ (rg_ws_at (C := x0flat dA b) (j := 26) rfl)
  | 42, _ => exact hP 27 _ (rg_ws_at (C := x0flat dA b) (j := 27) rfl)
  | 43, _ => exact x0_ref (hP 28 _ (rg_ws_at (C := x0flat dA b) (j := 28) rfl)) (rg_all6 rfl rfl rfl rfl rfl rfl)
  | 44, _ => exact hP 29 _ (rg_ws_at (C := x0flat dA b) (j := 29) rfl)
  | 45, _ => exact hP 30 _ (rg_ws_at (C := x0flat dA b) (j := 30) rfl)
  | 46, _ => exact hP 31 _ (rg_ws_at (C := x0flat dA b) (j := 31) rfl)
  | 47, _ => exact hP 32 _ (rg_ws_at (C := x0flat dA b) (j := 32) rfl)
  | 48, _ => exact hP 33 _ (rg_ws_at (C := x0flat dA b) (j := 33) rfl)
  | 49, _ => exact hP 34 _ (rg_ws_at (C := x0flat dA b) (j := 34) rfl)
  | 50, _ => exact hP 35 _ (rg_ws_at (C := x0flat dA b) (j := 35) rfl)
  | 51, _ => exact hP 36 _ (rg_ws_at (C := x0flat dA b) (j := 36) rfl)
  | 52, _ => exact hP 37 _ (rg_ws_at (C := x0flat dA b) (j := 37) rfl)
  | 53, _ => exact hP 38 _ (rg_ws_at (C := x0flat dA b) (j := 38) rfl)
  | 54, _ => exact x0_ref (hP 39 _ (rg_ws_at (C := x0flat dA b) (j := 39) rfl)) (rg_all6 rfl rfl rfl rfl rfl rfl)
  | 55, _ => exact hP 40 _ (rg_ws_at (C := x0flat dA b) (j := 40) rfl)
  | 56, _ => exact hP 41 _ (rg_ws_at (C := x0flat dA b) (j := 41) rfl)
  | 57, _ => exact hP 42 _ (rg_ws_at (C := x0flat dA b) (j := 42) rfl)
  | 58, _ => exact hP 43 _ (rg_ws_at (C := x0flat dA b) (j := 43) rfl)
  | 59, _ => exact hP 44 _ (rg_ws_at (C := x0flat dA b) (j := 44) rfl)
  | 60, _ => exact hP 45 _ (rg_ws_at (C := x0flat dA b) (j := 45) rfl)
  | 61, _ => exact hP 47 _ (rg_ws_at (C := x0flat dA b) (j := 47) rfl)
  | 62, _ => exact hP 48 _ (rg_ws_at (C := x0flat dA b) (j := 48) rfl)
  | 63, _ => exact hP 49 _ (rg_ws_at (C := x0flat dA b) (j := 49) rfl)
  | 64, _ => exact hP 50 _ (rg_ws_at (C := x0flat dA b) (j := 50) rfl)
  | 65, _ => exact x0_ref (hP 51 _ (rg_ws_at (C := x0flat dA b) (j := 51) rfl)) (rg_all6 rfl rfl rfl rfl rfl rfl)
  | 66, _ => exact hP 52 _ (rg_ws_at (C := x0flat dA b) (j := 52) rfl)
  | 67, _ => exact hP 53 _ (rg_ws_at (C := x0flat dA b) (j := 53) rfl)
  | 68, _ => exact hP 54 _ (rg_ws_at (C := x0flat dA b) (j := 54) rfl)
  | 69, _ => exact hP 55 _ (rg_ws_at (C := x0flat dA b) (j := 55) rfl)
  | 70, _ => exact hP 56 _ (rg_ws_at (C := x0flat dA b) (j := 56) rfl)
  | 71, _ => exact hP 57 _ (rg_ws_at (C := x0flat dA b) (j := 57) rfl)
  | 72, _ => exact hP 58 _ (rg_ws_at (C := x0flat dA b) (j := 58) rfl)
  | 73, _ => exact hP 59 _ (rg_ws_at (C := x0flat dA b) (j := 59) rfl)
  | 74, _ => exact hP 60 _ (rg_ws_at (C := x0flat dA b) (j := 60) rfl)
  | 75, _ => exact hP 61 _ (rg_ws_at (C := x0flat dA b) (j := 61) rfl)
  | 76, _ => exact x0_ref (hP 62 _ (rg_ws_at (C := x0flat dA b) (j := 62) rfl)) (rg_all6 rfl rfl rfl rfl rfl rfl)
  | 77, _ => exact hP 63 _ (rg_ws_at (C := x0flat dA b) (j := 63) rfl)
  | 78, _ => exact hP 64 _ (rg_ws_at (C := x0flat dA b) (j := 64) rfl)
  | 79, _ => exact hP 65 _ (rg_ws_at (C := x0flat dA b) (j := 65) rfl)
  | 80, _ => exact hP 66 _ (rg_ws_at (C := x0flat dA b) (j := 66) rfl)
  | 81, _ => exact hP 67 _ (rg_ws_at (C := x0flat dA b) (j := 67) rfl)
  | 82, _ => exact hP 68 _ (rg_ws_at (C := x0flat dA b) (j := 68) rfl)
  | 83, _ => exact hP 69 _ (rg_ws_at (C := x0flat dA b) (j := 69) rfl)
  | 84, _ => exact hP 70 _ (rg_ws_at (C := x0flat dA b) (j := 70) rfl)
  | 85, _ => exact hP 71 _ (rg_ws_at (C := x0flat dA b) (j := 71) rfl)
  | 86, _ => exact hP 72 _ (rg_ws_at (C := x0flat dA b) (j := 72) rfl)
  | 87, _ => exact x0_ref (hP 73 _ (rg_ws_at (C := x0flat dA b) (j := 73) rfl)) (rg_all6 rfl rfl rfl rfl rfl rfl)
  | 88, _ => exact hP 74 _ (rg_ws_at (C := x0flat dA b) (j := 74) rfl)
  | 89, _ => exact hP 75 _ (rg_ws_at (C := x0flat dA b) (j := 75) rfl)
  | 90, _ => exact hP 76 _ (rg_ws_at (C := x0flat dA b) (j := 76) rfl)
  | 91, _ => exact hP 77 _ (rg_ws_at (C := x0flat dA b) (j := 77) rfl)
  | 92, _ => exact hP 78 _ (rg_ws_at (C := x0flat dA b) (j := 78) rfl)
  | 93, _ => exact hP 79 _ (rg_ws_at (C := x0flat dA b) (j := 79) rfl)
  | 94, _ => exact hP 80 _ (rg_ws_at (C := x0flat dA b) (j := 80) rfl)
  | 95, _ => exact hP 81 _ (rg_ws_at (C := x0flat dA b) (j := 81) rfl)
  | 96, _ => exact hP 82 _ (rg_ws_at (C := x0flat dA b) (j := 82) rfl)
  | 97, _ => exact hP 83 _ (rg_ws_at (C := x0flat dA b) (j := 83) rfl)
  | 98, _ => exact x0_ref (hP 84 _ (rg_ws_at (C := x0flat dA b) (j := 84) rfl)) (rg_all6 rfl rfl rfl rfl rfl rfl)
  | 99, _ => exact hP 85 _ (rg_ws_at (C := x0flat dA b) (j := 85) rfl)
  | 100, _ => exact hP 86 _ (rg_ws_at (C := x0flat dA b) (j := 86) rfl)
  | 101, _ => exact hP 87 _ (rg_ws_at (C := x0flat dA b) (j := 87) rfl)
  | 102, _ => exact hP 88 _ (rg_ws_at (C := x0flat dA b) (j := 88) rfl)
  | 103, _ => exact hP 89 _ (rg_ws_at (C := x0flat dA b) (j := 89) rfl)
  | 104, _ => exact hP 90 _ (rg_ws_at (C := x0flat dA b) (j := 90) rfl)
  | 105, _ => exact hP 91 _ (rg_ws_at (C := x0flat dA b) (j := 91) rfl)
  | 106, _ => exact hP 92 _ (rg_ws_at (C := x0flat dA b) (j := 92) rfl)
  | 107, _ => exact hP 93 _ (rg_ws_at (C := x0flat dA b) (j := 93) rfl)
  | 108, _ => exact hP 94 _ (rg_ws_at (C := x0flat dA b) (j := 94) rfl)
  | 109, _ => exact x0_ref (hP 95 _ (rg_ws_at (C := x0flat dA b) (j := 95) rfl)) (rg_all6 rfl rfl rfl rfl rfl rfl)
  | 110, _ => exact hP 96 _ (rg_ws_at (C := x0flat dA b) (j := 96) rfl)
  | 111, _ => exact hP 97 _ (rg_ws_at (C := x0flat dA b) (j := 97) rfl)
  | 112, _ => exact hP 98 _ (rg_ws_at (C := x0flat dA b) (j := 98) rfl)
  | 113, _ => exact hP 99 _ (rg_ws_at (C := x0flat dA b) (j := 99) rfl)
  | 114, _ => exact hP 100 _ (rg_ws_at (C := x0flat dA b) (j := 100) rfl)
  | 115, _ => exact hP 101 _ (rg_ws_at (C := x0flat dA b) (j := 101) rfl)
  | 116, _ => exact hP 102 _ (rg_ws_at (C := x0flat dA b) (j := 102) rfl)
  | 117, _ => exact hP 103 _ (rg_ws_at (C := x0flat dA b) (j := 103) rfl)
  | 118, _ => exact hP 104 _ (rg_ws_at (C := x0flat dA b) (j := 104) rfl)
  | 119, _ => exact hP 105 _ (rg_ws_at (C := x0flat dA b) (j := 105) rfl)
  | 120, _ => exact x0_ref (hP 106 _ (rg_ws_at (C := x0flat dA b) (j := 106) rfl)) (rg_all6 rfl rfl rfl rfl rfl rfl)
  | 121, _ => exact hP 107 _ (rg_ws_at (C := x0flat dA b) (j := 107) rfl)
  | 122, _ => exact hP 108 _ (rg_ws_at (C := x0flat dA b) (j := 108) rfl)
  | 123, _ => exact hP 109 _ (rg_ws_at (C := x0flat dA b) (j := 109) rfl)
  | 124, _ => exact hP 110 _ (rg_ws_at (C := x0flat dA b) (j := 110) rfl)
  | 125, _ => exact hP 111 _ (rg_ws_at (C := x0flat dA b) (j := 111) rfl)
  | 126, _ => exact hP 112 _ (rg_ws_at (C := x0flat dA b) (j := 112) rfl)
  | 127, _ => exact hP 113 _ (rg_ws_at (C := x0flat dA b) (j := 113) rfl)
  | 128, _ => exact hP 114 _ (rg_ws_at (C := x0flat dA b) (j := 114) rfl)
  | 129, _ => exact hP 115 _ (rg_ws_at (C := x0flat dA b) (j := 115) rfl)
  | 130, _ => exact hP 116 _ (rg_ws_at (C := x0flat dA b) (j := 116) rfl)
  | 131, _ => exact x0_ref (hP 117 _ (rg_ws_at (C := x0flat dA b) (j := 117) rfl)) (rg_all6 rfl rfl rfl rfl rfl rfl)
  | 132, _ => exact hP 118 _ (rg_ws_at (C := x0flat dA b) (j := 118) rfl)
  | 133, _ => exact hP 119 _ (rg_ws_at (C := x0flat dA b) (j := 119) rfl)
  | 134, _ => exact hP 120 _ (rg_ws_at (C := x0flat dA b) (j := 120) rfl)
  | 135, _ => exact hP 121 _ (rg_ws_at (C := x0flat dA b) (j := 121) rfl)
  | 136, _ => exact hP 122 _ (rg_ws_at (C := x0flat dA b) (j := 122) rfl)
  | 137, _ => exact hP 123 _ (rg_ws_at (C := x0flat dA b) (j := 123) rfl)
  | 138, _ => exact hP 124 _ (rg_ws_at (C := x0flat dA b) (j := 124) rfl)
  | 139, _ => exact hP 125 _ (rg_ws_at (C := x0flat dA b) (j := 125) rfl)
  | 140, _ => exact hP 126 _ (rg_ws_at (C := x0flat dA b) (j := 126) rfl)
  | 141, _ => exact hP 127 _ (rg_ws_at (C := x0flat dA b) (j := 127) rfl)
  | 142, _ => exact x0_ref (hP 128 _ (rg_ws_at (C := x0flat dA b) (j := 128) rfl)) (rg_all6 rfl rfl rfl rfl rfl rfl)
  | 143, _ => exact hP 129 _ (rg_ws_at (C := x0flat dA b) (j := 129) rfl)
  | 144, _ => exact hP 130 _ (rg_ws_at (C := x0flat dA b) (j := 130) rfl)
  | 145, _ => exact hP 131 _ (rg_ws_at (C := x0flat dA b) (j := 131) rfl)
  | 146, _ => exact hP 132 _ (rg_ws_at (C := x0flat dA b) (j := 132) rfl)
  | 147, _ => exact hP 133 _ (rg_ws_at (C := x0flat dA b) (j := 133) rfl)
  | 148, _ => exact hP 134 _ (rg_ws_at (C := x0flat dA b) (j := 134) rfl)
  | 149, _ => exact hP 135 _ (rg_ws_at (C := x0flat dA b) (j := 135) rfl)
  | 150, _ => exact hP 136 _ (rg_ws_at (C := x0flat dA b) (j := 136) rfl)
  | 151, _ => exact hP 137 _ (rg_ws_at (C := x0flat dA b) (j := 137) rfl)
  | 152, _ => exact hP 138 _ (rg_ws_at (C := x0flat dA b) (j := 138) rfl)
  | 153, _ => exact x0_ref (hP 139 _ (rg_ws_at (C := x0flat dA b) (j := 139) rfl)) (rg_all6 rfl rfl rfl rfl rfl rfl)
  | 154, _ => exact hP 140 _ (rg_ws_at (C := x0flat dA b) (j := 140) rfl)
  | 155, _ => exact hP 141 _ (rg_ws_at (C := x0flat dA b) (j := 141) rfl)
  | 156, _ => exact hP 142 _ (rg_ws_at (C := x0flat dA b) (j := 142) rfl)
  | 157, _ => exact hP 143 _ (rg_ws_at (C := x0flat dA b) (j := 143) rfl)
  | 158, _ => exact hP 144 _ (rg_ws_at (C := x0flat dA b) (j := 144) rfl)
  | 159, _ => exact hP 145 _ (rg_ws_at (C := x0flat dA b) (j := 145) rfl)
  | 160, _ => exact hP 146 _ (rg_ws_at (C := x0flat dA b) (j := 146) rfl)
  | 161, _ => exact hP 147 _ (rg_ws_at (C := x0flat dA b) (j := 147) rfl)
  | 162, _ => exact hP 148 _ (rg_ws_at (C := x0flat dA b) (j := 148) rfl)
  | 163, _ => exact hP 149 _ (rg_ws_at (C := x0flat dA b) (j := 149) rfl)
  | 164, _ => exact x0_ref (hP 150 _ (rg_ws_at (C := x0flat dA b) (j := 150) rfl)) (rg_all6 rfl rfl rfl rfl rfl rfl)
  | 165, _ => exact hP 151 _ (rg_ws_at (C := x0flat dA b) (j := 151) rfl)
  | 166, _ => exact hP 152 _ (rg_ws_at (C := x0flat dA b) (j := 152) rfl)
  | 167, _ => exact hP 153 _ (rg_ws_at (C := x0flat dA b) (j := 153) rfl)
  | 168, _ => exact hP 154 _ (rg_ws_at (C := x0flat dA b) (j := 154) rfl)
  | 169, _ => exact hP 155 _ (rg_ws_at (C := x0flat dA b) (j := 155) rfl)
  | 170, _ => exact hP 156 _ (rg_ws_at (C := x0flat dA b) (j := 156) rfl)
  | 171, _ => exact hP 158 _ (rg_ws_at (C := x0flat dA b) (j := 158) rfl)
  | 172, _ => exact hP 159 _ (rg_ws_at (C := x0flat dA b) (j := 159) rfl)
  | 173, _ => exact hP 160 _ (rg_ws_at (C := x0flat dA b) (j := 160) rfl)
  | 174, _ => exact hP 161 _ (rg_ws_at (C := x0flat dA b) (j := 161) rfl)
  | 175, _ => exact x0_ref (hP 162 _ (rg_ws_at (C := x0flat dA b) (j := 162) rfl)) (rg_all6 rfl rfl rfl rfl rfl rfl)
  | 176, _ => exact hP 163 _ (rg_ws_at (C := x0flat dA b) (j := 163) rfl)
  | 177, _ => exact hP 164 _ (rg_ws_at (C := x0flat dA b) (j := 164) rfl)
  | 178, _ => exact hP 165 _ (rg_ws_at (C := x0flat dA b) (j := 165) rfl)
  | 179, _ => exact hP 166 _ (rg_ws_at (C := x0flat dA b) (j := 166) rfl)
  | 180, _ => exact hP 167 _ (rg_ws_at (C := x0flat dA b) (j := 167) rfl)
  | 181, _ => exact hP 168 _ (rg_ws_at (C := x0flat dA b) (j := 168) rfl)
  | 182, _ => exact hP 169 _ (rg_ws_at (C := x0flat dA b) (j := 169) rfl)
  | 183, _ => exact hP 170 _ (rg_ws_at (C := x0flat dA b) (j := 170) rfl)
  | 184, _ => exact hP 171 _ (rg_ws_at (C := x0flat dA b) (j := 171) rfl)
  | 185, _ => exact hP 172 _ (rg_ws_at (C := x0flat dA b) (j := 172) rfl)
  | 186, _ => exact x0_ref (hP 173 _ (rg_ws_at (C := x0flat dA b) (j := 173) rfl)) (rg_all6 rfl rfl rfl rfl rfl rfl)
  | 187, _ => exact hP 174 _ (rg_ws_at (C := x0flat dA b) (j := 174) rfl)
  | 188, _ => exact hP 175 _ (rg_ws_at (C := x0flat dA b) (j := 175) rfl)
  | 189, _ => exact hP 176 _ (rg_ws_at (C := x0flat dA b) (j := 176) rfl)
  | 190, _ => exact hP 177 _ (rg_ws_at (C := x0flat dA b) (j := 177) rfl)
  | 191, _ => exact hP 178 _ (rg_ws_at (C := x0flat dA b) (j := 178) rfl)
  | 192, _ => exact hP 179 _ (rg_ws_at (C := x0flat dA b) (j := 179) rfl)
  | k + 193, hk => exact absurd hk (by show ¬ k + 193 < 193; omega)
