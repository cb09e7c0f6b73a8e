/-! further rows of the layer, and the reference's world -/
set_option maxRecDepth 100000
theorem fm_lt {a b : Nat} (h : Nat.blt a b = true) : a < b := Nat.le_of_ble_eq_true h
theorem fm_le {a b : Nat} (h : Nat.ble a b = true) : a ≤ b := Nat.le_of_ble_eq_true h
theorem fm_ok {i : Int32} {n : Nat} (h : 0 ≤ i.toInt ∧ i.toInt < n) : vp_in i n := vp_in_iff.mpr h
section FMX
variable {X : fm_X} {Y : fm_Y} {cs : Nat × Nat} {cc : ByteArray} {nL : Nat} {own : String} {R0 : Room} {M : fm_M} {pc : Nat} {lv : List (Nat × Value)} {st : List Value}
theorem fm_ialdK (F : fm_F X Y cc nL own R0) (d : decode cc pc = .ok (.iaload, 1)) (id : Nat) (hid : id < yN Y) {n : Nat} (he : ymk Y id (M.1 id) M.2 = .inl (yA Y 0, n, .inl (M.1 id))) {i : Int32} (j : Nat) (hi : vp_in i n) (hj : i.toNatClampNeg = j) (kk : fm_G X Y cs nL M (pc + 1) lv (.int (M.1 id j) :: st)) : fm_G X Y cs nL M pc lv (.int i :: .ref (yad Y id) :: st) := by
  subst hj
  exact fm_iald F d id hid he hi kk
theorem fm_iastK (F : fm_F X Y cc nL own R0) (d : decode cc pc = .ok (.iastore, 1)) (id : Nat) (hid : id < yN Y) {n : Nat} (he : ∀ r, ymk Y id r M.2 = .inl (yA Y 0, n, .inl r)) {i x : Int32} (j : Nat) (hi : vp_in i n) (hj : i.toNatClampNeg = j) (kk : fm_G X Y cs nL (fm_wr M id j x) (pc + 1) lv st) : fm_G X Y cs nL M pc lv (.int x :: .int i :: .ref (yad Y id) :: st) := by
  subst hj
  exact fm_iast F d id hid he hi kk
theorem fm_zastK (F : fm_F X Y cc nL own R0) (d : decode cc pc = .ok (.bastore, 1)) (id : Nat) (hid : id < yN Y) {n : Nat} (he : ∀ r, ymk Y id r M.2 = .inl (yA Y 1, n, .inl r)) {i x : Int32} (j : Nat) (hi : vp_in i n) (hj : i.toNatClampNeg = j) (hx : vp_nar .boolean x = x) (kk : fm_G X Y cs nL (fm_wr M id j x) (pc + 1) lv st) : fm_G X Y cs nL M pc lv (.int x :: .int i :: .ref (yad Y id) :: st) := by
  subst hj
  exact fm_zast F d id hid he hi hx kk
theorem fm_nar0 : vp_nar .boolean 0 = 0 := rfl
theorem fm_nar1 : vp_nar .boolean 1 = 1 := rfl
theorem fm_narB {x : Int32} (h : x = 0 ∨ x = 1) : vp_nar .boolean x = x := by rcases h with rfl | rfl <;> rfl
theorem fm_putI (F : fm_F X Y cc nL own R0) {ci n : Nat} {C : String} {T : u_T} {ty0 : Nat → FieldType} (hc : fm_cls ci C T n ty0) (k : Nat) (hk : k < n) {index : Nat} {v : Int32} (d : decode cc pc = .ok (.putfield index, 3)) (h : Cond.fieldLink own index (T k).1 (T k).2.1 (T k).2.2.1 ∈ lw_all)
    (hfin : (T k).2.2.2 = false) (ht : ty0 k = .int) (id : Nat) (hid : id < yN Y) {fs : List Value} (he : ymk Y id (M.1 id) M.2 = .inr (ci, fs)) (hl0 : k < fs.length) (he2 : ymk Y id (upd (M.1 id) k v) M.2 = .inr (ci, fs.set k (.int v)))
    (kk : fm_G X Y cs nL (fm_wr M id k v) (pc + 3) lv st) : fm_G X Y cs nL M pc lv (.int v :: .ref (yad Y id) :: st) :=
  fm_put F hc k hk (ty := .int) d h hfin ((hc.2.2.1 k hk).trans (by rw [ht])) rfl rfl id hid he hl0 (fm_setI he2) kk
theorem fm_putNI (F : fm_F X Y cc nL own R0) {ci n : Nat} {C host : String} {T : u_T} {ty0 : Nat → FieldType} (hc : fm_cls ci C T n ty0) (k : Nat) (hk : k < n) {index : Nat} {v : Int32} (d : decode cc pc = .ok (.putfield index, 3)) (h : Cond.fieldLinkNest own index (T k).1 (T k).2.1 (T k).2.2.1 host ∈ lw_tbl)
    (hfin : (T k).2.2.2 = false) (ht : ty0 k = .int) (id : Nat) (hid : id < yN Y) {fs : List Value} (he : ymk Y id (M.1 id) M.2 = .inr (ci, fs)) (hl0 : k < fs.length) (he2 : ymk Y id (upd (M.1 id) k v) M.2 = .inr (ci, fs.set k (.int v)))
    (kk : fm_G X Y cs nL (fm_wr M id k v) (pc + 3) lv st) : fm_G X Y cs nL M pc lv (.int v :: .ref (yad Y id) :: st) :=
  fm_putN F hc k hk (ty := .int) d h hfin ((hc.2.2.1 k hk).trans (by rw [ht])) rfl rfl id hid he hl0 (fm_setI he2) kk
theorem fm_putL (F : fm_F X Y cc nL own R0) {ci n : Nat} {C : String} {T : u_T} {ty0 : Nat → FieldType} (hc : fm_cls ci C T n ty0) (k : Nat) (hk : k < n) {index : Nat} {v : Int64} (d : decode cc pc = .ok (.putfield index, 3)) (h : Cond.fieldLink own index (T k).1 (T k).2.1 (T k).2.2.1 ∈ lw_all)
    (hfin : (T k).2.2.2 = false) (ht : ty0 k = .long) (id : Nat) (hid : id < yN Y) {fs : List Value} (he : ymk Y id (M.1 id) M.2 = .inr (ci, fs)) (hl0 : k < fs.length) (he2 : ymk Y id (M.1 id) v = .inr (ci, fs.set k (.long v))) (hz : ∀ i, i ≠ id → ∀ r t, ymk Y i r t = ymk Y i r M.2)
    (kk : fm_G X Y cs nL (fm_wl M v) (pc + 3) lv st) : fm_G X Y cs nL M pc lv (.long v :: .ref (yad Y id) :: st) :=
  fm_put F hc k hk (ty := .long) d h hfin ((hc.2.2.1 k hk).trans (by rw [ht])) rfl rfl id hid he hl0 (fm_setL he2 hz) kk
theorem fm_putNL (F : fm_F X Y cc nL own R0) {ci n : Nat} {C host : String} {T : u_T} {ty0 : Nat → FieldType} (hc : fm_cls ci C T n ty0) (k : Nat) (hk : k < n) {index : Nat} {v : Int64} (d : decode cc pc = .ok (.putfield index, 3)) (h : Cond.fieldLinkNest own index (T k).1 (T k).2.1 (T k).2.2.1 host ∈ lw_tbl)
    (hfin : (T k).2.2.2 = false) (ht : ty0 k = .long) (id : Nat) (hid : id < yN Y) {fs : List Value} (he : ymk Y id (M.1 id) M.2 = .inr (ci, fs)) (hl0 : k < fs.length) (he2 : ymk Y id (M.1 id) v = .inr (ci, fs.set k (.long v))) (hz : ∀ i, i ≠ id → ∀ r t, ymk Y i r t = ymk Y i r M.2)
    (kk : fm_G X Y cs nL (fm_wl M v) (pc + 3) lv st) : fm_G X Y cs nL M pc lv (.long v :: .ref (yad Y id) :: st) :=
  fm_putN F hc k hk (ty := .long) d h hfin ((hc.2.2.1 k hk).trans (by rw [ht])) rfl rfl id hid he hl0 (fm_setL he2 hz) kk
/-- switches -/
theorem fm_tableIn (F : fm_F X Y cc nL own R0) {dflt lo hi : Int} {offs : Array Int} {len : Nat} {x v : Int32} {off : Int} {tgt : Nat} (d : decode cc pc = .ok (.tableswitch dflt lo hi offs, len)) (hx : x = v) (h : ¬ v.toInt < lo ∧ ¬ hi < v.toInt ∧ offs[(v.toInt - lo).toNat]? = some off ∧ (pc : Int) + off = (tgt : Int)) (kk : fm_G X Y cs nL M tgt lv st) : fm_G X Y cs nL M pc lv (.int x :: st) := by
  subst hx
  exact fun H locs ls hP hS hl => lv_tableIn F.exec F.bytes d h.1 h.2.1 h.2.2.1 h.2.2.2 (kk H locs ls hP hS hl)
theorem fm_tableOut (F : fm_F X Y cc nL own R0) {dflt lo hi : Int} {offs : Array Int} {len : Nat} {x : Int32} {tgt : Nat} (d : decode cc pc = .ok (.tableswitch dflt lo hi offs, len)) (h : x.toInt < lo ∨ hi < x.toInt) (ht : (pc : Int) + dflt = (tgt : Int)) (kk : fm_G X Y cs nL M tgt lv st) : fm_G X Y cs nL M pc lv (.int x :: st) :=
  fun H locs ls hP hS hl => lv_tableOut F.exec F.bytes d h ht (kk H locs ls hP hS hl)
theorem fm_look (F : fm_F X Y cc nL own R0) {dflt : Int} {ps : Array (Int × Int)} {len : Nat} {x : Int32} {off : Int} {tgt : Nat} (d : decode cc pc = .ok (.lookupswitch dflt ps, len)) (hp : (ps.toList.zip (ps.toList.drop 1)).all (fun (a, next) => a.1 < next.1) = true) (ho : Op.lookupswitch.offset ps.toList dflt x.toInt = off) (ht : (pc : Int) + off = (tgt : Int)) (kk : fm_G X Y cs nL M tgt lv st) : fm_G X Y cs nL M pc lv (.int x :: st) :=
  fun H locs ls hP hS hl => lv_lookup F.exec F.bytes d hp ho ht (kk H locs ls hP hS hl)
theorem fm_ne {x k : Int32} (h : ¬ x = k) : x.toInt ≠ k.toInt := fun q => h (Int32.toInt_inj.mp q)
end FMX
theorem clX0 : fm_cls 0 RX0 TX0 19 tyX0 := ⟨rfl, in_X0, tyX0_ok, nmX0⟩
theorem clX1 : fm_cls 1 RX1 TX1 11 tyX1 := ⟨rfl, in_X1, tyX1_ok, nmX1⟩
theorem clX2 : fm_cls 2 RX2 TX2 7 tyX2 := ⟨rfl, in_X2, tyX2_ok, nmX2⟩
theorem clX9 : fm_cls 9 RX9 TX9 29 tyX9 := ⟨rfl, in_X9, tyX9_ok, nmX9⟩
theorem clX10 : fm_cls 10 RX10 TX10 6 tyX10 := ⟨rfl, in_X10, tyX10_ok, nmX10⟩
theorem clX11 : fm_cls 11 RX11 TX11 7 tyX11 := ⟨rfl, in_X11, tyX11_ok, nmX11⟩
/-! the reference's world: 0 the object; 1 text, 2 many, 3 bears, 4 weight, 5 note, 6 toll, 7 oathBell, 8 oathTown, 9 oathTerm, 10 far, 11 s, 12 w, 13 kept, 14 isKept, 15 undos, 16 foundBell, 17 foundTown, 18 goes, 19 best -/
def mkM (ad : Nat → Nat) (dA : Nat → ClassId) : fm_K := fun i r t => match i with
  | 0 => .inr (9, [.int (r 0), .long t, .ref (ad 1), .int (r 3), .int (r 4), .int (r 5), .int (r 6), .int (r 7), .int (r 8), .ref (ad 2), .ref (ad 3), .ref (ad 4), .ref (ad 5), .ref (ad 6), .ref (ad 7), .ref (ad 8), .ref (ad 9), .ref (ad 10), .ref (ad 11), .ref (ad 12), .ref (ad 13), .ref (ad 14), .ref (ad 15), .int (r 23), .ref (ad 16), .ref (ad 17), .int (r 26), .ref (ad 18), .ref (ad 19)])
  | 1 => .inl (dA 0, 200, .inl r)
  | 2 => .inl (dA 0, 4, .inl r)
  | 3 => .inl (dA 0, 12, .inl r)
  | 4 => .inl (dA 0, 12, .inl r)
  | 5 => .inl (dA 0, 12, .inl r)
  | 6 => .inl (dA 0, 72, .inl r)
  | 7 => .inl (dA 0, 12, .inl r)
  | 8 => .inl (dA 0, 12, .inl r)
  | 9 => .inl (dA 0, 12, .inl r)
  | 10 => .inl (dA 0, 36, .inl r)
  | 11 => .inl (dA 0, 56, .inl r)
  | 12 => .inl (dA 0, 56, .inl r)
  | 13 => .inl (dA 0, 112, .inl r)
  | 14 => .inl (dA 1, 2, .inl r)
  | 15 => .inl (dA 0, 560, .inl r)
  | 16 => .inl (dA 0, 5, .inl r)
  | 17 => .inl (dA 0, 5, .inl r)
  | 18 => .inl (dA 0, 6, .inl r)
  | _ => .inl (dA 0, 6, .inl r)
abbrev YM (D : va_G) (dA : Nat → ClassId) (ad : Nat → Nat) : fm_Y := (D, dA, 20, ad, mkM ad dA)
theorem mkM_z {ad : Nat → Nat} {dA : Nat → ClassId} {t0 : Int64} : ∀ i, i ≠ 0 → ∀ r t, mkM ad dA i r t = mkM ad dA i r t0 := by
  intro i hi r t
  unfold mkM
  split <;> first | rfl | exact absurd rfl hi
def fm_r56 (a : Nat) : Prop := a = 11 ∨ a = 12
theorem fm_r56.lt {a : Nat} (h : fm_r56 a) : a < 20 := by rcases h with rfl | rfl <;> decide
theorem fm_r56.mk {ad : Nat → Nat} {dA : Nat → ClassId} {a : Nat} (h : fm_r56 a) (r : Nat → Int32) (t : Int64) : mkM ad dA a r t = .inl (dA 0, 56, .inl r) := by rcases h with rfl | rfl <;> rfl
