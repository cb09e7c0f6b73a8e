/-! what holds at the law's start -/
set_option maxRecDepth 100000
theorem st_arr {s : State} {args : Array Value} {t : FieldType} (h : (Cond.arrayClass t).before args s = true) : ∃ c k comp, s.vm.findClass ("[" ++ t.toString) = some c ∧ s.vm.classes[c]? = some k ∧ k.kind = .array comp t := Cond.arrayClass_spec h
theorem st_K {s : State} {args : Array Value} (hts : ∀ w ∈ lw_tbl, w.before args s = true) (k6 k7 : Nat) : ∃ (D : va_G) (dA : Nat → ClassId), va_K D fm_cl (fm_ty dA) s ∧ dA 6 = k6 ∧ dA 7 = k7 := by
  have htA : ∀ w ∈ lw_all, w.before args s = true := fun w h => hts w (lw_all_tbl h)
  obtain ⟨c0, i0, h0⟩ := u_known (C := RX0) (T := TX0) (N := 19) (n := 19) htA in_X0 (htA _ q63)
  obtain ⟨c1, i1, h1⟩ := u_known (C := RX1) (T := TX1) (N := 11) (n := 11) htA in_X1 (htA _ q71)
  obtain ⟨c2, i2, h2⟩ := u_known (C := RX2) (T := TX2) (N := 7) (n := 7) htA in_X2 (htA _ q141)
  obtain ⟨c3, i3, h3⟩ := u_known (C := RX3) (T := TX3) (N := 1) (n := 1) htA in_X3 (htA _ q184)
  obtain ⟨c4, i4, h4⟩ := u_known (C := RX4) (T := TX4) (N := 2) (n := 2) htA in_X4 (htA _ q196)
  obtain ⟨c5, i5, h5⟩ := u_known (C := RX5) (T := TX5) (N := 2) (n := 2) htA in_X5 (htA _ q207)
  obtain ⟨c6, i6, h6⟩ := u_known (C := RX6) (T := TX6) (N := 3) (n := 3) htA in_X6 (htA _ q218)
  obtain ⟨c7, i7, h7⟩ := u_known (C := RX7) (T := TX7) (N := 3) (n := 3) htA in_X7 (htA _ q230)
  obtain ⟨c8, i8, h8⟩ := u_known (C := RX8) (T := TX8) (N := 2) (n := 2) htA in_X8 (htA _ q242)
  obtain ⟨c9, i9, h9⟩ := u_known (C := RX9) (T := TX9) (N := 29) (n := 29) htA in_X9 (htA _ q790)
  obtain ⟨c10, i10, h10⟩ := u_known (C := RX10) (T := TX10) (N := 6) (n := 6) htA in_X10 (htA _ q352)
  obtain ⟨c11, i11, h11⟩ := u_known (C := RX11) (T := TX11) (N := 7) (n := 7) htA in_X11 (htA _ q486)
  obtain ⟨a0, k0, m0, e0, f0, g0⟩ := st_arr (htA _ q139)
  obtain ⟨a1, k1, m1, e1, f1, g1⟩ := st_arr (htA _ q193)
  obtain ⟨a2, k2, m2, e2, f2, g2⟩ := st_arr (htA _ q194)
  obtain ⟨m3, a3, k3, d3, -, f3, g3, e3⟩ := Cond.arrayOver_spec (hts _ q181)
  obtain ⟨m4, a4, k4, d4, -, f4, g4, e4⟩ := Cond.arrayOver_spec (hts _ q183)
  obtain ⟨m5, a5, k5, d5, -, f5, g5, e5⟩ := arrayOverA_spec (t := .int) (hts _ q77)
  refine ⟨(fun k => match k with | 0 => c0 | 1 => c1 | 2 => c2 | 3 => c3 | 4 => c4 | 5 => c5 | 6 => c6 | 7 => c7 | 8 => c8 | 9 => c9 | 10 => c10 | _ => c11, fun k => match k with | 0 => i0 | 1 => i1 | 2 => i2 | 3 => i3 | 4 => i4 | 5 => i5 | 6 => i6 | 7 => i7 | 8 => i8 | 9 => i9 | 10 => i10 | _ => i11), fun k => match k with | 0 => a0 | 1 => a1 | 2 => a2 | 3 => a3 | 4 => a4 | 5 => a5 | 6 => k6 | _ => k7, ⟨fun k q hq => ?_, fun k q hq => ?_⟩, rfl, rfl⟩
  · match k, hq with
    | 0, hq => cases hq; exact h0
    | 1, hq => cases hq; exact h1
    | 2, hq => cases hq; exact h2
    | 3, hq => cases hq; exact h3
    | 4, hq => cases hq; exact h4
    | 5, hq => cases hq; exact h5
    | 6, hq => cases hq; exact h6
    | 7, hq => cases hq; exact h7
    | 8, hq => cases hq; exact h8
    | 9, hq => cases hq; exact h9
    | 10, hq => cases hq; exact h10
    | 11, hq => cases hq; exact h11
    | k + 12, hq => simp [fm_cl] at hq
  · match k, hq with
    | 0, hq => cases hq; exact ⟨fun n z => ⟨fun k h => (by cases h), k0, f0, m0, g0⟩, e0⟩
    | 1, hq => cases hq; exact ⟨fun n z => ⟨fun k h => (by cases h), k1, f1, m1, g1⟩, e1⟩
    | 2, hq => cases hq; exact ⟨fun n z => ⟨fun k h => (by cases h), k2, f2, m2, g2⟩, e2⟩
    | 3, hq => cases hq; exact ⟨fun n z => ⟨fun k h => (by cases h), k3, f3, m3, g3⟩, k3, m3, f3, g3, d3, e3⟩
    | 4, hq => cases hq; exact ⟨fun n z => ⟨fun k h => (by cases h), k4, f4, m4, g4⟩, k4, m4, f4, g4, d4, e4⟩
    | 5, hq => cases hq; exact ⟨fun n z => ⟨fun k h => (by cases h), k5, f5, m5, g5⟩, e5⟩
    | k + 6, hq => simp [fm_ty] at hq
theorem st_NW {s : State} {args : Array Value} (hts : ∀ w ∈ lw_tbl, w.before args s = true) : fm_NW s := fun w hw hn => by
  have h := hts w hw
  cases w <;> first | exact h | (cases hn)
theorem st_AO {s : State} {args : Array Value} (hts : ∀ w ∈ lw_tbl, w.before args s = true) : fm_AO s := ⟨va_AO.of (hts _ q181), va_AO.of (hts _ q183), hts _ q77⟩
