/-! the component's world: 0 the object; 1 moved, 2 lot, 3 before, 4 images, 5 isKept, 6 text, 7 going, 8 best, 9 factBell, 10 factTown, 11 kinds, 12..17 the kinds; 18..38 the first book; 39 + 11 k the plains (now, tried, ten before, two images), 11 cells each; from 193 on a reader and its book, 22 cells each -/
set_option maxRecDepth 100000
def mkB (ad : Nat → Nat) (dA : Nat → ClassId) (b j : Nat) (r : Nat → Int32) : va_E := match j with
  | 0 => .inr (1, [.ref (ad (b + 1)), .ref (ad (b + 2)), .ref (ad (b + 3)), .ref (ad (b + 4)), .ref (ad (b + 11)), .ref (ad (b + 18)), .ref (ad (b + 19)), .ref (ad (b + 20)), .int (r 8), .int (r 9), .int (r 10)])
  | 4 => .inl (dA 5, 6, .inr (.inr (.inr (.inr (fun i => some (ad (b + 5 + i)))))))
  | 11 => .inl (dA 5, 6, .inr (.inr (.inr (.inr (fun i => some (ad (b + 12 + i)))))))
  | _ => .inl (dA 0, 6, .inl r)
def mkPl (ad : Nat → Nat) (dA : Nat → ClassId) (a j : Nat) (r : Nat → Int32) : va_E := match j with
  | 0 => .inr (2, [.int (r 0), .int (r 1), .ref (ad (a + 1)), .ref (ad (a + 2)), .ref (ad (a + 3)), .ref (ad (a + 4)), .ref (ad 0)])
  | 4 => .inl (dA 5, 6, .inr (.inr (.inr (.inr (fun i => some (ad (a + 5 + i)))))))
  | _ => .inl (dA 0, 6, .inl r)
def mkH (ad : Nat → Nat) (dA : Nat → ClassId) (bk i : Nat) (r : Nat → Int32) (t : Int64) : va_E := match i with
  | 0 => .inr (0, [.ref (ad bk), .ref (ad 1), .ref (ad 2), .ref (ad 39), .ref (ad 50), .ref (ad 3), .int (r 6), .ref (ad 4), .ref (ad 5), .ref (ad 6), .int (r 10), .int (r 11), .ref (ad 7), .ref (ad 8), .ref (ad 9), .ref (ad 10), .int (r 16), .long t, .ref (ad 11)])
  | 3 => .inl (dA 3, 10, .inr (.inr (.inr (.inr (fun j => some (ad (39 + 11 * (r j).toNatClampNeg)))))))
  | 4 => .inl (dA 3, 2, .inr (.inr (.inr (.inr (fun j => some (ad (171 + 11 * j)))))))
  | 5 => .inl (dA 1, 2, .inl r)
  | 6 => .inl (dA 2, 200, .inl r)
  | 9 => .inl (dA 0, 5, .inl r)
  | 10 => .inl (dA 0, 5, .inl r)
  | 11 => .inl (dA 4, 6, .inr (.inr (.inr (.inr (fun j => some (ad (12 + j)))))))
  | 12 => .inr (3, [.ref (ad 0)])
  | 13 => .inr (4, [.ref (ad 0), .ref (ad 0)])
  | 14 => .inr (5, [.ref (ad 0), .ref (ad 0)])
  | 15 => .inr (6, [.ref (ad 0), .ref (ad 0), .ref (ad 0)])
  | 16 => .inr (7, [.ref (ad 0), .ref (ad 0), .ref (ad 0)])
  | 17 => .inr (8, [.ref (ad 0), .ref (ad 0)])
  | _ => .inl (dA 0, 6, .inl r)
def mkC (ad : Nat → Nat) (dA : Nat → ClassId) (bk : Nat) : fm_K := fun i r t =>
  bif Nat.blt i 18 then mkH ad dA bk i r t
  else bif Nat.blt i 39 then mkB ad dA 18 (i - 18) r
  else bif Nat.blt i 193 then mkPl ad dA (39 + 11 * ((i - 39) / 11)) ((i - 39) % 11) r
  else bif Nat.beq ((i - 193) % 22) 0 then .inr (10, [.int (r 0), .int (r 1), .int (r 2), .int (r 3), .ref (ad (i + 1)), .ref (ad 0)])
  else mkB ad dA (194 + 22 * ((i - 193) / 22)) ((i - 193) % 22 - 1) r
abbrev YC (D : va_G) (dA : Nat → ClassId) (N : Nat) (ad : Nat → Nat) (bk : Nat) : fm_Y := (D, dA, N, ad, mkC ad dA bk)
theorem fm_ltN {N a : Nat} (hN : 193 ≤ N) (h : Nat.blt a 193 = true) : a < N := Nat.lt_of_lt_of_le (fm_lt h) hN
theorem fm_vlt {i : Int32} {n : Nat} (h : vp_in i n) : i.toNatClampNeg < n := Nat.not_le.mp fun q => h (Or.inr q)
theorem mkC_z {ad : Nat → Nat} {dA : Nat → ClassId} {bk : Nat} {t0 : Int64} : ∀ i, i ≠ 0 → ∀ r t, mkC ad dA bk i r t = mkC ad dA bk i r t0 := by
  intro i hi r t
  unfold mkC
  congr 1
  unfold mkH
  split <;> first | rfl | exact absurd rfl hi
def fm_isPl (a : Nat) : Prop := ∃ k, k < 14 ∧ a = 39 + 11 * k
def fm_isBk (N b : Nat) : Prop := (b = 18 ∧ 39 ≤ N) ∨ ∃ q, b = 194 + 22 * q ∧ b + 21 ≤ N
def fm_isRd (N a : Nat) : Prop := ∃ q, a = 193 + 22 * q ∧ a + 22 ≤ N
theorem mkC_pl {ad : Nat → Nat} {dA : Nat → ClassId} {bk a o : Nat} (h : fm_isPl a) (ho : o < 11) (r : Nat → Int32) (t : Int64) : mkC ad dA bk (a + o) r t = mkPl ad dA a o r := by
  obtain ⟨k, hk, rfl⟩ := h
  have h1 : Nat.blt (39 + 11 * k + o) 18 = false := Bool.eq_false_iff.mpr (fun q => by have := fm_lt q; omega)
  have h2 : Nat.blt (39 + 11 * k + o) 39 = false := Bool.eq_false_iff.mpr (fun q => by have := fm_lt q; omega)
  have h3 : Nat.blt (39 + 11 * k + o) 193 = true := Nat.ble_eq_true_of_le (by omega)
  have h4 : (39 + 11 * k + o - 39) / 11 = k := by omega
  have h5 : (39 + 11 * k + o - 39) % 11 = o := by omega
  unfold mkC
  rw [h1, h2, h3, h4, h5]
  rfl
theorem mkC_bk {ad : Nat → Nat} {dA : Nat → ClassId} {N bk b o : Nat} (h : fm_isBk N b) (ho : o < 21) (r : Nat → Int32) (t : Int64) : mkC ad dA bk (b + o) r t = mkB ad dA b o r := by
  rcases h with ⟨rfl, -⟩ | ⟨q, rfl, -⟩
  · have h1 : Nat.blt (18 + o) 18 = false := Bool.eq_false_iff.mpr (fun q => by have := fm_lt q; omega)
    have h2 : Nat.blt (18 + o) 39 = true := Nat.ble_eq_true_of_le (by omega)
    unfold mkC
    rw [h1, h2, Nat.add_sub_cancel_left]
    rfl
  · have h1 : Nat.blt (194 + 22 * q + o) 18 = false := Bool.eq_false_iff.mpr (fun q => by have := fm_lt q; omega)
    have h2 : Nat.blt (194 + 22 * q + o) 39 = false := Bool.eq_false_iff.mpr (fun q => by have := fm_lt q; omega)
    have h3 : Nat.blt (194 + 22 * q + o) 193 = false := Bool.eq_false_iff.mpr (fun q => by have := fm_lt q; omega)
    have h4 : (194 + 22 * q + o - 193) / 22 = q := by omega
    have h5 : (194 + 22 * q + o - 193) % 22 = o + 1 := by omega
    unfold mkC
    rw [h1, h2, h3, h4, h5]
    rfl
theorem fm_isRd.mk0 {ad : Nat → Nat} {dA : Nat → ClassId} {N bk a : Nat} (h : fm_isRd N a) (r : Nat → Int32) (t : Int64) : mkC ad dA bk a r t = .inr (10, [.int (r 0), .int (r 1), .int (r 2), .int (r 3), .ref (ad (a + 1)), .ref (ad 0)]) := by
  obtain ⟨q, rfl, -⟩ := h
  have h1 : Nat.blt (193 + 22 * q) 18 = false := Bool.eq_false_iff.mpr (fun q => by have := fm_lt q; omega)
  have h2 : Nat.blt (193 + 22 * q) 39 = false := Bool.eq_false_iff.mpr (fun q => by have := fm_lt q; omega)
  have h3 : Nat.blt (193 + 22 * q) 193 = false := Bool.eq_false_iff.mpr (fun q => by have := fm_lt q; omega)
  have h5 : (193 + 22 * q - 193) % 22 = 0 := by omega
  unfold mkC
  rw [h1, h2, h3, h5]
  rfl
theorem fm_isRd.lt {N a : Nat} (h : fm_isRd N a) (o : Nat) (ho : o < 22) : a + o < N := by
  obtain ⟨q, rfl, h2⟩ := h
  omega
theorem fm_isRd.bk {N a : Nat} (h : fm_isRd N a) : fm_isBk N (a + 1) := by
  obtain ⟨q, rfl, h2⟩ := h
  exact Or.inr ⟨q, by omega, by omega⟩
theorem fm_isPl.now : fm_isPl 39 := ⟨0, by decide, rfl⟩
theorem fm_isPl.tried : fm_isPl 50 := ⟨1, by decide, rfl⟩
theorem fm_isPl.of {k : Nat} (h : Nat.blt k 14 = true) : fm_isPl (39 + 11 * k) := ⟨k, fm_lt h, rfl⟩
theorem fm_isPl.im {j : Nat} (h : j < 2) : fm_isPl (171 + 11 * j) := ⟨12 + j, by omega, by omega⟩
theorem fm_isPl.lt {N a : Nat} (h : fm_isPl a) (hN : 193 ≤ N) (o : Nat) (ho : o < 11) : a + o < N := by
  obtain ⟨k, hk, rfl⟩ := h
  omega
theorem fm_isPl.ltr {N a i : Nat} (h : fm_isPl a) (hN : 193 ≤ N) (hi : i < 6) : a + 5 + i < N := by
  obtain ⟨k, hk, rfl⟩ := h
  omega
theorem fm_isBk.lt {N b : Nat} (h : fm_isBk N b) (o : Nat) (ho : o < 21) : b + o < N := by
  rcases h with ⟨rfl, h⟩ | ⟨q, rfl, h⟩ <;> omega
theorem fm_isBk.ltr {N b i : Nat} (h : fm_isBk N b) (o : Nat) (ho : o + 6 ≤ 21) (hi : i < 6) : b + o + i < N := by
  have := h.lt (o + i) (by omega)
  omega
section MKS
variable {ad : Nat → Nat} {dA : Nat → ClassId} {N bk a b i : Nat}
theorem fm_isPl.mk0 (h : fm_isPl a) (r : Nat → Int32) (t : Int64) : mkC ad dA bk a r t = .inr (2, [.int (r 0), .int (r 1), .ref (ad (a + 1)), .ref (ad (a + 2)), .ref (ad (a + 3)), .ref (ad (a + 4)), .ref (ad 0)]) := mkC_pl (o := 0) h (by decide) r t
theorem fm_isPl.mk1 (h : fm_isPl a) (r : Nat → Int32) (t : Int64) : mkC ad dA bk (a + 1) r t = .inl (dA 0, 6, .inl r) := mkC_pl h (by decide) r t
theorem fm_isPl.mk2 (h : fm_isPl a) (r : Nat → Int32) (t : Int64) : mkC ad dA bk (a + 2) r t = .inl (dA 0, 6, .inl r) := mkC_pl h (by decide) r t
theorem fm_isPl.mk3 (h : fm_isPl a) (r : Nat → Int32) (t : Int64) : mkC ad dA bk (a + 3) r t = .inl (dA 0, 6, .inl r) := mkC_pl h (by decide) r t
theorem fm_isPl.mk4 (h : fm_isPl a) (r : Nat → Int32) (t : Int64) : mkC ad dA bk (a + 4) r t = .inl (dA 5, 6, .inr (.inr (.inr (.inr (fun i => some (ad (a + 5 + i))))))) := mkC_pl h (by decide) r t
theorem fm_isPl.mkr (h : fm_isPl a) (hi : i < 6) (r : Nat → Int32) (t : Int64) : mkC ad dA bk (a + 5 + i) r t = .inl (dA 0, 6, .inl r) := by
  rw [Nat.add_assoc, mkC_pl h (by omega)]
  match i, hi with
  | 0, _ => rfl
  | 1, _ => rfl
  | 2, _ => rfl
  | 3, _ => rfl
  | 4, _ => rfl
  | 5, _ => rfl
theorem fm_isBk.mk0 (h : fm_isBk N b) (r : Nat → Int32) (t : Int64) : mkC ad dA bk b r t = .inr (1, [.ref (ad (b + 1)), .ref (ad (b + 2)), .ref (ad (b + 3)), .ref (ad (b + 4)), .ref (ad (b + 11)), .ref (ad (b + 18)), .ref (ad (b + 19)), .ref (ad (b + 20)), .int (r 8), .int (r 9), .int (r 10)]) := mkC_bk (o := 0) h (by decide) r t
theorem fm_isBk.mk1 (h : fm_isBk N b) (r : Nat → Int32) (t : Int64) : mkC ad dA bk (b + 1) r t = .inl (dA 0, 6, .inl r) := mkC_bk h (by decide) r t
theorem fm_isBk.mk2 (h : fm_isBk N b) (r : Nat → Int32) (t : Int64) : mkC ad dA bk (b + 2) r t = .inl (dA 0, 6, .inl r) := mkC_bk h (by decide) r t
theorem fm_isBk.mk3 (h : fm_isBk N b) (r : Nat → Int32) (t : Int64) : mkC ad dA bk (b + 3) r t = .inl (dA 0, 6, .inl r) := mkC_bk h (by decide) r t
theorem fm_isBk.mk4 (h : fm_isBk N b) (r : Nat → Int32) (t : Int64) : mkC ad dA bk (b + 4) r t = .inl (dA 5, 6, .inr (.inr (.inr (.inr (fun i => some (ad (b + 5 + i))))))) := mkC_bk h (by decide) r t
theorem fm_isBk.mk11 (h : fm_isBk N b) (r : Nat → Int32) (t : Int64) : mkC ad dA bk (b + 11) r t = .inl (dA 5, 6, .inr (.inr (.inr (.inr (fun i => some (ad (b + 12 + i))))))) := mkC_bk h (by decide) r t
theorem fm_isBk.mk18 (h : fm_isBk N b) (r : Nat → Int32) (t : Int64) : mkC ad dA bk (b + 18) r t = .inl (dA 0, 6, .inl r) := mkC_bk h (by decide) r t
theorem fm_isBk.mk19 (h : fm_isBk N b) (r : Nat → Int32) (t : Int64) : mkC ad dA bk (b + 19) r t = .inl (dA 0, 6, .inl r) := mkC_bk h (by decide) r t
theorem fm_isBk.mk20 (h : fm_isBk N b) (r : Nat → Int32) (t : Int64) : mkC ad dA bk (b + 20) r t = .inl (dA 0, 6, .inl r) := mkC_bk h (by decide) r t
theorem fm_isBk.mkr5 (h : fm_isBk N b) (hi : i < 6) (r : Nat → Int32) (t : Int64) : mkC ad dA bk (b + 5 + i) r t = .inl (dA 0, 6, .inl r) := by
  rw [Nat.add_assoc, mkC_bk h (by omega)]
  match i, hi with
  | 0, _ => rfl
  | 1, _ => rfl
  | 2, _ => rfl
  | 3, _ => rfl
  | 4, _ => rfl
  | 5, _ => rfl
theorem fm_isBk.mkr12 (h : fm_isBk N b) (hi : i < 6) (r : Nat → Int32) (t : Int64) : mkC ad dA bk (b + 12 + i) r t = .inl (dA 0, 6, .inl r) := by
  rw [Nat.add_assoc, mkC_bk h (by omega)]
  match i, hi with
  | 0, _ => rfl
  | 1, _ => rfl
  | 2, _ => rfl
  | 3, _ => rfl
  | 4, _ => rfl
  | 5, _ => rfl
end MKS
/-- a cell that is an int array of six -/
def fm_i6 (N : Nat) (ad : Nat → Nat) (dA : Nat → ClassId) (bk a : Nat) : Prop := a < N ∧ ∀ r t, mkC ad dA bk a r t = .inl (dA 0, 6, .inl r)
theorem fm_isPl.i6r {ad : Nat → Nat} {dA : Nat → ClassId} {N bk a i : Nat} (h : fm_isPl a) (hN : 193 ≤ N) (hi : i < 6) : fm_i6 N ad dA bk (a + 5 + i) := ⟨h.ltr hN hi, h.mkr hi⟩
theorem fm_isPl.i6 {ad : Nat → Nat} {dA : Nat → ClassId} {N bk a : Nat} (h : fm_isPl a) (hN : 193 ≤ N) (o : Nat) (ho : o < 11) (hz : (o == 3) = true) : fm_i6 N ad dA bk (a + o) := by
  have : o = 3 := by simpa using hz
  subst this
  exact ⟨h.lt hN 3 ho, h.mk3⟩
section FMC
variable {X : fm_X} {Y : fm_Y} {cs : Nat × Nat} {cc : ByteArray} {nL : Nat} {own : String} {R0 : Room} {M : fm_M} {pc : Nat} {lv : List (Nat × Value)} {st : List Value}
theorem fm_aaldK (F : fm_F X Y cc nL own R0) (d : decode cc pc = .ok (.aaload, 1)) (id : Nat) (hid : id < yN Y) (t0 : Nat) {n : Nat} {ty : FieldType} {cA : ClassId} (g : Nat → Nat) (he : ymk Y id (M.1 id) M.2 = .inl (cA, n, .inr (.inr (.inr (.inr (fun j => some (yad Y (g j)))))))) (ht : (fm_ty (yA Y))[t0]? = some (cA, ty)) (hty : ty.isReference = true) (k : Nat) {i : Int32} (hi : vp_in i n) (hk : i.toNatClampNeg = k) (kk : fm_G X Y cs nL M (pc + 1) lv (.ref (yad Y (g k)) :: st)) : fm_G X Y cs nL M pc lv (.int i :: .ref (yad Y id) :: st) := by
  subst hk
  exact fm_aald F d id hid t0 g he ht hty hi kk
theorem fm_zaldK (F : fm_F X Y cc nL own R0) (d : decode cc pc = .ok (.baload, 1)) (id : Nat) (hid : id < yN Y) {n : Nat} (he : ymk Y id (M.1 id) M.2 = .inl (yA Y 1, n, .inl (M.1 id))) {i : Int32} (j : Nat) (hi : vp_in i n) (hj : i.toNatClampNeg = j) (kk : fm_G X Y cs nL M (pc + 1) lv (.int (M.1 id j) :: st)) : fm_G X Y cs nL M pc lv (.int i :: .ref (yad Y id) :: st) := by
  subst hj
  exact fm_zald F d id hid he hi kk
theorem fm_copyiK (F : fm_F X Y cc nL own R0) {index : Nat} (d : decode cc pc = .ok (.invokestatic index, 3)) (w1 : Cond.methodLink own index arraycopyName ∈ lw_all) (w2 : Cond.native arraycopyName ∈ lw_all) (w3 : Cond.static arraycopyName ∈ lw_all) (w4 : Cond.initialized "java/lang/System" ∈ lw_all)
    (i0 i1 : Nat) (h0 : i0 < yN Y) (h1 : i1 < yN Y) {n0 n1 : Nat} (he0 : ymk Y i0 (M.1 i0) M.2 = .inl (yA Y 0, n0, .inl (M.1 i0))) (he1 : ∀ r, ymk Y i1 r M.2 = .inl (yA Y 0, n1, .inl r)) {sp dp n : Int32} (hb : ¬ sp < 0 ∧ ¬ dp < 0 ∧ ¬ n < 0 ∧ sp.toNatClampNeg + n.toNatClampNeg ≤ n0 ∧ dp.toNatClampNeg + n.toNatClampNeg ≤ n1)
    (hR : 1 ≤ R0.frames ∧ (st.map fun v => v.category).sum + (nativeFrameWords "java/lang/System" "arraycopy" 5 + 11) ≤ R0.locals) (s' d' n' : Nat) (e1 : sp.toNatClampNeg = s') (e2 : dp.toNatClampNeg = d') (e3 : n.toNatClampNeg = n') (kk : fm_G X Y cs nL (fm_row M i1 (va_cpy (M.1 i0) (M.1 i1) s' d' n')) (pc + 3) lv st) : fm_G X Y cs nL M pc lv (.int n :: .int dp :: .ref (yad Y i1) :: .int sp :: .ref (yad Y i0) :: st) := by
  subst e1
  subst e2
  subst e3
  exact fm_copyi F d w1 w2 w3 w4 i0 i1 h0 h1 he0 he1 hb hR kk
end FMC
def fm_cpok (sp dp n : Int32) (n0 n1 : Nat) : Bool := decide (¬ sp < 0 ∧ ¬ dp < 0 ∧ ¬ n < 0 ∧ sp.toNatClampNeg + n.toNatClampNeg ≤ n0 ∧ dp.toNatClampNeg + n.toNatClampNeg ≤ n1)
theorem fm_cpok_inv {sp dp n : Int32} {n0 n1 : Nat} (h : fm_cpok sp dp n n0 n1 = true) : ¬ sp < 0 ∧ ¬ dp < 0 ∧ ¬ n < 0 ∧ sp.toNatClampNeg + n.toNatClampNeg ≤ n0 ∧ dp.toNatClampNeg + n.toNatClampNeg ≤ n1 := of_decide_eq_true h
