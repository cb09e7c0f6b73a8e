/-! the reference's cells as its world -/
set_option maxRecDepth 100000
theorem st_flat {dA : Nat → ClassId} {b : Nat} : cells_X9 dA b = [(.inr (9, [.int 0, .long 0, .ref (b + 1), .int 0, .int 0, .int 0, .int 0, .int 0, .int 0, .ref (b + 2), .ref (b + 3), .ref (b + 4), .ref (b + 5), .ref (b + 6), .ref (b + 7), .ref (b + 8), .ref (b + 9), .ref (b + 10), .ref (b + 11), .ref (b + 12), .ref (b + 13), .ref (b + 14), .ref (b + 15), .int 0, .ref (b + 16), .ref (b + 17), .int 0, .ref (b + 18), .ref (b + 19)]) : va_E), (.inl (dA 0, 200, .inl (fun _ => 0)) : va_E), (.inl (dA 0, 4, .inl (fun _ => 0)) : va_E), (.inl (dA 0, 12, .inl (fun _ => 0)) : va_E), (.inl (dA 0, 12, .inl (fun _ => 0)) : va_E), (.inl (dA 0, 12, .inl (fun _ => 0)) : va_E), (.inl (dA 0, 72, .inl (fun _ => 0)) : va_E), (.inl (dA 0, 12, .inl (fun _ => 0)) : va_E), (.inl (dA 0, 12, .inl (fun _ => 0)) : va_E), (.inl (dA 0, 12, .inl (fun _ => 0)) : va_E), (.inl (dA 0, 36, .inl (fun _ => 0)) : va_E), (.inl (dA 0, 56, .inl (fun _ => 0)) : va_E), (.inl (dA 0, 56, .inl (fun _ => 0)) : va_E), (.inl (dA 0, 112, .inl (fun _ => 0)) : va_E), (.inl (dA 1, 2, .inl (fun _ => 0)) : va_E), (.inl (dA 0, 560, .inl (fun _ => 0)) : va_E), (.inl (dA 0, 5, .inl (fun _ => 0)) : va_E), (.inl (dA 0, 5, .inl (fun _ => 0)) : va_E), (.inl (dA 0, 6, .inl (fun _ => 0)) : va_E), (.inl (dA 0, 6, .inl (fun _ => 0)) : va_E)] := by
  simp only [cells_X9, rg_ai, List.cons_append, List.nil_append]
theorem st_YM {D : va_G} {dA : Nat → ClassId} {b : Nat} {H : Heap} (hP : va_P D fm_cl (rg_ws b (cells_X9 dA b)) H) : fm_P (YM D dA (fun i => b + i)) ps_0 H := by
  rw [st_flat] at hP
  intro k e hk
  obtain ⟨hi, rfl⟩ := fm_ws_inv hk
  have hi : k < 20 := hi
  clear hk
  have h0 : va_at D fm_cl (b + 0, (.inr (9, [.int 0, .long 0, .ref (b + 1), .int 0, .int 0, .int 0, .int 0, .int 0, .int 0, .ref (b + 2), .ref (b + 3), .ref (b + 4), .ref (b + 5), .ref (b + 6), .ref (b + 7), .ref (b + 8), .ref (b + 9), .ref (b + 10), .ref (b + 11), .ref (b + 12), .ref (b + 13), .ref (b + 14), .ref (b + 15), .int 0, .ref (b + 16), .ref (b + 17), .int 0, .ref (b + 18), .ref (b + 19)]) : va_E)) H := hP 0 _ (rg_ws_at rfl)
  have h1 : va_at D fm_cl (b + 1, (.inl (dA 0, 200, .inl (fun _ => 0)) : va_E)) H := hP 1 _ (rg_ws_at rfl)
  have h2 : va_at D fm_cl (b + 2, (.inl (dA 0, 4, .inl (fun _ => 0)) : va_E)) H := hP 2 _ (rg_ws_at rfl)
  have h3 : va_at D fm_cl (b + 3, (.inl (dA 0, 12, .inl (fun _ => 0)) : va_E)) H := hP 3 _ (rg_ws_at rfl)
  have h4 : va_at D fm_cl (b + 4, (.inl (dA 0, 12, .inl (fun _ => 0)) : va_E)) H := hP 4 _ (rg_ws_at rfl)
  have h5 : va_at D fm_cl (b + 5, (.inl (dA 0, 12, .inl (fun _ => 0)) : va_E)) H := hP 5 _ (rg_ws_at rfl)
  have h6 : va_at D fm_cl (b + 6, (.inl (dA 0, 72, .inl (fun _ => 0)) : va_E)) H := hP 6 _ (rg_ws_at rfl)
  have h7 : va_at D fm_cl (b + 7, (.inl (dA 0, 12, .inl (fun _ => 0)) : va_E)) H := hP 7 _ (rg_ws_at rfl)
  have h8 : va_at D fm_cl (b + 8, (.inl (dA 0, 12, .inl (fun _ => 0)) : va_E)) H := hP 8 _ (rg_ws_at rfl)
  have h9 : va_at D fm_cl (b + 9, (.inl (dA 0, 12, .inl (fun _ => 0)) : va_E)) H := hP 9 _ (rg_ws_at rfl)
  have h10 : va_at D fm_cl (b + 10, (.inl (dA 0, 36, .inl (fun _ => 0)) : va_E)) H := hP 10 _ (rg_ws_at rfl)
  have h11 : va_at D fm_cl (b + 11, (.inl (dA 0, 56, .inl (fun _ => 0)) : va_E)) H := hP 11 _ (rg_ws_at rfl)
  have h12 : va_at D fm_cl (b + 12, (.inl (dA 0, 56, .inl (fun _ => 0)) : va_E)) H := hP 12 _ (rg_ws_at rfl)
  have h13 : va_at D fm_cl (b + 13, (.inl (dA 0, 112, .inl (fun _ => 0)) : va_E)) H := hP 13 _ (rg_ws_at rfl)
  have h14 : va_at D fm_cl (b + 14, (.inl (dA 1, 2, .inl (fun _ => 0)) : va_E)) H := hP 14 _ (rg_ws_at rfl)
  have h15 : va_at D fm_cl (b + 15, (.inl (dA 0, 560, .inl (fun _ => 0)) : va_E)) H := hP 15 _ (rg_ws_at rfl)
  have h16 : va_at D fm_cl (b + 16, (.inl (dA 0, 5, .inl (fun _ => 0)) : va_E)) H := hP 16 _ (rg_ws_at rfl)
  have h17 : va_at D fm_cl (b + 17, (.inl (dA 0, 5, .inl (fun _ => 0)) : va_E)) H := hP 17 _ (rg_ws_at rfl)
  have h18 : va_at D fm_cl (b + 18, (.inl (dA 0, 6, .inl (fun _ => 0)) : va_E)) H := hP 18 _ (rg_ws_at rfl)
  have h19 : va_at D fm_cl (b + 19, (.inl (dA 0, 6, .inl (fun _ => 0)) : va_E)) H := hP 19 _ (rg_ws_at rfl)
  clear hP
  match k, hi with
  | 0, _ => exact h0
  | 1, _ => exact h1
  | 2, _ => exact h2
  | 3, _ => exact h3
  | 4, _ => exact h4
  | 5, _ => exact h5
  | 6, _ => exact h6
  | 7, _ => exact h7
  | 8, _ => exact h8
  | 9, _ => exact h9
  | 10, _ => exact h10
  | 11, _ => exact h11
  | 12, _ => exact h12
  | 13, _ => exact h13
  | 14, _ => exact h14
  | 15, _ => exact h15
  | 16, _ => exact h16
  | 17, _ => exact h17
  | 18, _ => exact h18
  | 19, _ => exact h19
  | k + 20, h => exact absurd h (by omega)
