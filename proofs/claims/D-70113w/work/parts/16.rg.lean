/-! the rg_ layer, for methods that make cells: the cells from the address b on lie one behind the other, the list C says what they hold -/
set_option maxRecDepth 100000
def rg_ws : Nat → List va_E → va_W
  | _, [] => []
  | b, e :: l => (b, e) :: rg_ws (b + 1) l
theorem rg_ws_get : ∀ (C : List va_E) (b j : Nat), (rg_ws b C)[j]? = (C[j]?).map (fun e => (b + j, e))
  | [], b, j => by simp [rg_ws]
  | e :: l, b, 0 => by simp [rg_ws]
  | e :: l, b, j + 1 => by
    rw [rg_ws, List.getElem?_cons_succ, List.getElem?_cons_succ, rg_ws_get l (b + 1) j]
    rw [show b + 1 + j = b + (j + 1) by omega]
theorem rg_ws_at {C : List va_E} {b j : Nat} {e : va_E} (h : C[j]? = some e) : (rg_ws b C)[j]? = some (b + j, e) := by rw [rg_ws_get, h]; rfl
theorem rg_ws_set (C : List va_E) (b j : Nat) (e : va_E) : (rg_ws b C).set j (b + j, e) = rg_ws b (C.set j e) := by
  apply List.ext_getElem?
  intro k
  rw [rg_ws_get, List.getElem?_set, List.getElem?_set, rg_ws_get]
  have hl : (rg_ws b C).length = C.length := by
    clear e k j
    induction C generalizing b with
    | nil => rfl
    | cons e l ih => simp [rg_ws, ih]
  rw [hl]
  by_cases h : j = k
  · subst h
    simp only [if_true]
    by_cases h2 : j < C.length
    · simp [h2]
    · simp [h2]
  · simp [h]
theorem rg_D {C : List va_E} {b : Nat} : va_D (fun q => b ≤ q) (rg_ws b C) := by
  refine ⟨fun i j p q hp hq e => ?_, fun k q hk => ?_⟩
  · rw [rg_ws_get] at hp hq
    cases h1 : C[i]? with
    | none => rw [h1] at hp; cases hp
    | some x =>
      cases h2 : C[j]? with
      | none => rw [h2] at hq; cases hq
      | some y =>
        rw [h1] at hp
        rw [h2] at hq
        cases hp
        cases hq
        have : b + i = b + j := e
        omega
  · rw [rg_ws_get] at hk
    cases h1 : C[k]? with
    | none => rw [h1] at hk; cases hk
    | some x =>
      rw [h1] at hk
      cases hk
      exact Nat.le_add_right _ _
abbrev rg_Z : Type := va_G × (Nat → ClassId) × Nat
def rg_G (X : fm_X) (Z : rg_Z) (cs : Nat × Nat) (nL : Nat) (C : List va_E) (pc : Nat) (lv : List (Nat × Value)) (st : List Value) : Prop :=
  ∀ (H : Heap) (locs : List Loc) (ls : Array Slot), H.size = Z.2.2 + C.length → va_P Z.1 fm_cl (rg_ws Z.2.2 C) H → va_S (fun q => Z.2.2 ≤ q) (xs X).heap H locs → lv_has ls nL lv → W (xp X) (xl X) (xe X) (xR X) (xs X) (xm X) (xa X) (xb X) (xt X) (xc X) H locs cs.1 cs.2 (xQ X) (F0 (xm X) pc ls st)
def rg_F (X : fm_X) (Z : rg_Z) (cc : ByteArray) (nL : Nat) (own : String) (R0 : Room) : Prop :=
  (xp X).tables.exec = Jvm.exec ∧ (xc X).code = cc ∧ (xc X).maxLocals = nL ∧ (xs X).vm.findClass own = some (xm X).cls ∧ (∀ w ∈ lw_all, w.before (xa X) (xs X) = true) ∧ va_K Z.1 fm_cl (fm_ty Z.2.1) (xs X) ∧ fm_NW (xs X) ∧ (xt X).locks = false ∧ xR X = R0 ∧ fm_ST Z.2.1 (fun q => Z.2.2 ≤ q) (xs X) (xs X).heap ∧ Z.2.2 ≤ (xs X).heap.size ∧ fm_AO (xs X)
section RG
variable {X : fm_X} {Z : rg_Z} {cs : Nat × Nat} {cc : ByteArray} {nL : Nat} {own : String} {R0 : Room} {C : List va_E} {pc : Nat} {lv : List (Nat × Value)} {st : List Value}
theorem rg_F.exec (F : rg_F X Z cc nL own R0) : (xp X).tables.exec = Jvm.exec := F.1
theorem rg_F.bytes (F : rg_F X Z cc nL own R0) : (xc X).code = cc := F.2.1
theorem rg_F.maxL (F : rg_F X Z cc nL own R0) : (xc X).maxLocals = nL := F.2.2.1
theorem rg_F.ownC (F : rg_F X Z cc nL own R0) : (xs X).vm.findClass own = some (xm X).cls := F.2.2.2.1
theorem rg_F.words (F : rg_F X Z cc nL own R0) : ∀ w ∈ lw_all, w.before (xa X) (xs X) = true := F.2.2.2.2.1
theorem rg_F.kn (F : rg_F X Z cc nL own R0) : va_K Z.1 fm_cl (fm_ty Z.2.1) (xs X) := F.2.2.2.2.2.1
theorem rg_F.nw (F : rg_F X Z cc nL own R0) : fm_NW (xs X) := F.2.2.2.2.2.2.1
theorem rg_F.locks (F : rg_F X Z cc nL own R0) : (xt X).locks = false := F.2.2.2.2.2.2.2.1
theorem rg_F.room (F : rg_F X Z cc nL own R0) : xR X = R0 := F.2.2.2.2.2.2.2.2.1
theorem rg_F.stc (F : rg_F X Z cc nL own R0) : fm_ST Z.2.1 (fun q => Z.2.2 ≤ q) (xs X) (xs X).heap := F.2.2.2.2.2.2.2.2.2.1
theorem rg_F.lo (F : rg_F X Z cc nL own R0) : Z.2.2 ≤ (xs X).heap.size := F.2.2.2.2.2.2.2.2.2.2.1
theorem rg_F.ao (F : rg_F X Z cc nL own R0) : fm_AO (xs X) := F.2.2.2.2.2.2.2.2.2.2.2
theorem rg_F.nest (F : rg_F X Z cc nL own R0) {w : Cond} (hw : w ∈ lw_tbl) (hn : fm_nw w = true) : va_Nw w (xs X) := F.nw w hw hn
theorem rg_pick {lv' : List (Nat × Value)} (ks : List Nat) (h : lv_pick lv ks = lv') (k : rg_G X Z cs nL C pc lv' st) : rg_G X Z cs nL C pc lv st := fun H locs ls hz hP hS hl => k H locs ls hz hP hS (lv_sub hl ks h)
theorem rg_null (F : rg_F X Z cc nL own R0) (d : decode cc pc = .ok (.aconst_null, 1)) (k : rg_G X Z cs nL C (pc + 1) lv (.null :: st)) : rg_G X Z cs nL C pc lv st := fun H locs ls hz hP hS hl => lv_null F.exec F.bytes d (k H locs ls hz hP hS hl)
theorem rg_aload_nN (F : rg_F X Z cc nL own R0) {k : Fin 4} (d : decode cc pc = .ok (.aload_n k, 1)) (j : Nat) (hj : lv[j]? = some ((k : Nat), .null)) (kk : rg_G X Z cs nL C (pc + 1) lv (.null :: st)) : rg_G X Z cs nL C pc lv st := fun H locs ls hz hP hS hl => lv_aload_nN F.exec F.bytes d rfl (lv_at hl j hj) (kk H locs ls hz hP hS hl)
/-- the same cells, written otherwise -/
theorem rg_eq {C' : List va_E} (h : C = C') (k : rg_G X Z cs nL C' pc lv st) : rg_G X Z cs nL C pc lv st := h ▸ k
theorem rg_get (F : rg_F X Z cc nL own R0) {ci n : Nat} {c0 : String} {T : u_T} (hc : fm_cl[ci]? = some (c0, T, n)) (hin : ∀ w ∈ u_ws c0 T n, w ∈ lw_all) (k : Nat) (hk : k < n) {index : Nat} (d : decode cc pc = .ok (.getfield index, 3)) (h : Cond.fieldLink own index (T k).1 (T k).2.1 (T k).2.2.1 ∈ lw_all)
    (j : Nat) {fs : List Value} (he : C[j]? = some (.inr (ci, fs))) {v : Value} (hv : fs[k]? = some v) {a : Nat} (ha : a = Z.2.2 + j) (kk : rg_G X Z cs nL C (pc + 3) lv (v :: st)) : rg_G X Z cs nL C pc lv (.ref a :: st) := by
  subst ha
  exact fun H locs ls hz hP hS hl => va_get F.exec F.bytes F.words hin F.ownC F.kn hP j (rg_ws_at he) hc k hk (F.words _ h) (fun _ h9 => h9) hv d (kk H locs ls hz hP hS hl)
/-- a field is written: the list's entry changes -/
theorem rg_put (F : rg_F X Z cc nL own R0) {ci n : Nat} {c0 : String} {T : u_T} (hc : fm_cl[ci]? = some (c0, T, n)) (hin : ∀ w ∈ u_ws c0 T n, w ∈ lw_all) (hap : ∀ x y, x < n → y < n → x ≠ y → (Z.1.2 ci) x ≠ (Z.1.2 ci) y) (k : Nat) (hk : k < n) {index : Nat} {v : Value} {ty : FieldType} (d : decode cc pc = .ok (.putfield index, 3)) (h : Cond.fieldLink own index (T k).1 (T k).2.1 (T k).2.2.1 ∈ lw_all)
    (hfin : (T k).2.2.2 = false ∨ ((T k).2.2.2 = true ∧ (xt X).name = "<init>" ∧ (T k).1 = own)) (hd : parseFieldDescriptor (T k).2.2.1 = some ty) (hn : narrow ty v = v) (hfit : fits ty v = true) (j : Nat) {fs : List Value} (he : C[j]? = some (.inr (ci, fs))) (hl0 : k < fs.length) {a : Nat} (ha : a = Z.2.2 + j)
    (kk : rg_G X Z cs nL (C.set j (.inr (ci, fs.set k v))) (pc + 3) lv st) : rg_G X Z cs nL C pc lv (v :: .ref a :: st) := by
  subst ha
  intro H locs ls hz hP hS hl
  have he' := rg_ws_at (b := Z.2.2) he
  obtain ⟨r, h1, cell, q1, q2, q3, q4⟩ := hP j _ he'
  have hr : r = (c0, T, n) := Option.some.inj (h1.symm.trans hc)
  subst hr
  obtain ⟨hSl, hfc, kC, hkC, hkind⟩ := F.kn.1 ci _ hc
  obtain ⟨cf, kf, fi, f, hi, hsl⟩ := hSl k hk
  have hlay := F.words _ (hin _ (u_in_lay hk))
  unfold u_lay at hlay
  have hst := (u_facts hfc hkC (u_lays F.words hin hk) hi).1
  have fin : ∀ H' : Heap, H'[Z.2.2 + j]? = some (cell.setSlot f.slot v) → H'.size = H.size → (∀ q, q ≠ Z.2.2 + j → H'[q]? = H[q]?) → W (xp X) (xl X) (xe X) (xR X) (xs X) (xm X) (xa X) (xb X) (xt X) (xc X) H' (locs ++ [⟨Z.2.2 + j, f.slot⟩]) cs.1 cs.2 (xQ X) (F0 (xm X) (pc + 3) ls st) := by
    intro H' e1 e2 e3
    rw [hsl] at e1 ⊢
    refine kk H' _ ls (by rw [e2, hz, List.length_set]) ?_ (hS.put e2 e3 (Nat.le_add_right _ _)) hl
    rw [← rg_ws_set]
    exact hP.set rg_D he' ⟨_, hc, t_OB.to (V := updV (vp_V fs) k v) ⟨_, e1, q2, q3, t_set q4 hap hk v⟩ (fun j _ => vp_updV_set hl0 v j)⟩ e3
  rcases hfin with hfin | ⟨hfin, hin2, hdecl⟩
  · rw [if_neg (by rw [hfin]; decide)] at hlay
    have h6 := u_store hfc hkC hkind hlay hi hd hn hfit
    exact W.putK F.exec F.bytes (f := f) ⟨F.ownC, F.words _ h, ⟨_, _, _, hi⟩, hst⟩ (by rw [q2]; exact h6) q1 q3 (by rw [hsl]; exact k2_hasslot (q4 k hk)) rfl rfl d fin
  · rw [if_pos hfin] at hlay
    have hcf : (xm X).cls = cf := by
      obtain ⟨_, _, c', _, _, _, -, -, hf', -, -, -, hown2, -⟩ := Cond.laysFinal_spec hlay
      have e1 : c' = cf := by have := hi.symm.trans hf'; simp at this; exact this.1.symm
      rw [hdecl] at hown2
      rw [← e1]; exact Option.some.inj (F.ownC.symm.trans hown2)
    have h6 := u_fits hfc hkC hkind (Or.inr hlay) hi hd hn hfit
    exact W.putFinK F.exec F.bytes F.ownC (F.words _ h) hi hst hcf hin2 (by rw [q2]; exact h6) q1 q3 (by rw [hsl]; exact k2_hasslot (q4 k hk)) rfl rfl d fin
theorem rg_F.ap (F : rg_F X Z cc nL own R0) {ci n : Nat} {c0 : String} {T : u_T} {ty0 : Nat → FieldType} (hc : fm_cls ci c0 T n ty0) : ∀ x y, x < n → y < n → x ≠ y → (Z.1.2 ci) x ≠ (Z.1.2 ci) y := va_apart (own := own) F.words hc.2.1 ty0 hc.2.2.1 hc.2.2.2 F.kn hc.1
theorem rg_obj (F : rg_F X Z cc nL own R0) {idx : Nat} (d : decode cc pc = .ok (.invokespecial idx, 3)) (w1 : Cond.methodLink own idx Lib.objectInit ∈ lw_all) (w2 : Cond.instanceMethod Lib.objectInit ∈ lw_all) (w3 : Cond.code Lib.objectInit ⟨#[0xb1]⟩ 1 none ∈ lw_all) (hR : 1 ≤ R0.frames ∧ (st.map fun v => v.category).sum + 12 ≤ R0.locals) {a : Nat} (kk : rg_G X Z cs nL C (pc + 3) lv st) : rg_G X Z cs nL C pc lv (.ref a :: st) := fun H locs ls hz hP hS hl => by
  have hR' := hR
  rw [← F.room] at hR'
  exact W.objInit F.exec F.bytes F.ownC (F.words _ w1) (F.words _ w2) (F.words _ w3) rfl (by rw [F.maxL]; exact hl.1) rfl d hR'.1 (by show 2 * 0 + _ + 12 ≤ _; omega) (kk H locs ls hz hP hS hl)
/-- what a world that has grown by a cell holds -/
theorem rg_push {H H1 : Heap} {e : va_E} (hz : H.size = Z.2.2 + C.length) (hP : va_P Z.1 fm_cl (rg_ws Z.2.2 C) H) (ho : ∀ q, q < H.size → H1[q]? = H[q]?) (he : va_at Z.1 fm_cl (H.size, e) H1) : va_P Z.1 fm_cl (rg_ws Z.2.2 (C ++ [e])) H1 := by
  intro k q hk
  rw [rg_ws_get] at hk
  by_cases h : k < C.length
  · rw [List.getElem?_append_left h] at hk
    have h2 : (rg_ws Z.2.2 C)[k]? = some q := by rw [rg_ws_get]; exact hk
    exact (hP k q h2).kept (ho q.1 ((hP k q h2).lt))
  · rw [List.getElem?_append_right (by omega)] at hk
    have h3 : k - C.length < 1 := by
      cases h4 : [e][k - C.length]? with
      | none => rw [h4] at hk; cases hk
      | some x => exact (List.getElem?_eq_some_iff.mp h4).1
    have h5 : k = C.length := by omega
    subst h5
    rw [Nat.sub_self] at hk
    cases hk
    rw [hz] at he
    exact he
theorem rg_sz {A : Nat → Prop} {H0 H H1 : Heap} {locs : List Loc} (hS : va_S A H0 H locs) (z : H1.size = H.size + 1) (ho : ∀ q, q < H.size → H1[q]? = H[q]?) : va_S A H0 H1 locs := ⟨Nat.le_trans hS.1 (by omega), fun x h1 h2 => (ho x (Nat.lt_of_lt_of_le h1 hS.1)).trans (hS.2.1 x h1 h2), hS.2.2⟩
theorem rg_new (F : rg_F X Z cc nL own R0) {ci n : Nat} {c0 : String} {T : u_T} {index : Nat} (hc : fm_cl[ci]? = some (c0, T, n)) (hin : ∀ w ∈ u_ws c0 T n, w ∈ lw_all) (ty0 : Nat → FieldType) (hty : ∀ k, k < n → parseFieldDescriptor (T k).2.2.1 = some (ty0 k)) (d : decode cc pc = .ok (.new index, 3)) (w1 : Cond.classLink own index c0 ∈ lw_all) (w2 : Cond.instantiable c0 n ∈ lw_all) (w3 : Cond.initialized c0 ∈ lw_all)
    {fs : List Value} (hfs : ∀ j, j < n → defaultValue (ty0 j) = vp_V fs j) (hR : cs.1 + 1 ≤ R0.cells ∧ cs.2 + n ≤ R0.slots) {cs' : Nat × Nat} (hcs : cs' = (cs.1 + 1, cs.2 + n)) {a : Nat} (ha : a = Z.2.2 + C.length) (kk : rg_G X Z cs' nL (C ++ [.inr (ci, fs)]) (pc + 3) lv (.ref a :: st)) : rg_G X Z cs nL C pc lv st := by
  subst ha
  subst hcs
  intro H locs ls hz hP hS hl
  have hR' := hR
  rw [← F.room] at hR'
  have hKn := F.kn.1 ci _ hc
  refine W.newcK F.exec F.bytes F.ownC (F.words _ w1) (F.words _ w2) (F.words _ w3) rfl d hR'.1 hR'.2 hKn.2.1 rfl fun H1 kC hkC e1 z1 o1 => ?_
  rw [← hz] at kk
  exact kk H1 locs ls (by rw [z1, hz, List.length_append]; rfl) (rg_push hz hP o1 ⟨_, hc, (u_born ty0 F.words hin hKn hkC e1 hty).to hfs⟩) (rg_sz hS z1 o1) hl
theorem rg_cA {dA : Nat → ClassId} {D : va_G} {s : State} (hK : va_K D fm_cl (fm_ty dA) s) : s.vm.findClass "[I" = some (dA 0) ∧ s.vm.findClass "[Z" = some (dA 1) ∧ s.vm.findClass "[B" = some (dA 2) ∧ s.vm.findClass "[[I" = some (dA 5) := ⟨(hK.2 0 _ rfl).2, (hK.2 1 _ rfl).2, (hK.2 2 _ rfl).2, (hK.2 5 _ rfl).2⟩
theorem rg_newI (F : rg_F X Z cc nL own R0) (d : decode cc pc = .ok (.newarray .int, 2)) (w : Cond.arrayClass .int ∈ lw_all) {n : Int32} (N : Nat) (hn : ¬ n < 0) (hN : n.toNatClampNeg = N) (hb : N ≤ 1000) (hR : cs.1 + 1 ≤ R0.cells ∧ cs.2 + N ≤ R0.slots) {cs' : Nat × Nat} (hcs : cs' = (cs.1 + 1, cs.2 + N)) {a : Nat} (ha : a = Z.2.2 + C.length) (kk : rg_G X Z cs' nL (C ++ [.inl (Z.2.1 0, N, .inl (fun _ => 0))]) (pc + 2) lv (.ref a :: st)) : rg_G X Z cs nL C pc lv (.int n :: st) := by
  subst ha
  subst hcs
  intro H locs ls hz hP hS hl
  have hR' := hR
  rw [← F.room] at hR'
  refine va_newaK F.exec F.bytes (atype := .int) (F.words _ w) rfl d rfl hn hN (by show N * 4 ≤ _; omega) hR'.1 hR'.2 rfl fun H1 cA e1 z1 o1 hAr hNm => ?_
  rw [← hz] at kk
  have hcA : cA = Z.2.1 0 := Option.some.inj (hNm.symm.trans (rg_cA F.kn).1)
  subst hcA
  exact kk H1 locs ls (by rw [z1, hz, List.length_append]; rfl) (rg_push hz hP o1 e1) (rg_sz hS z1 o1) hl
theorem rg_newZ (F : rg_F X Z cc nL own R0) (d : decode cc pc = .ok (.newarray .boolean, 2)) (w : Cond.arrayClass .boolean ∈ lw_all) {n : Int32} (N : Nat) (hn : ¬ n < 0) (hN : n.toNatClampNeg = N) (hb : N ≤ 1000) (hR : cs.1 + 1 ≤ R0.cells ∧ cs.2 + N ≤ R0.slots) {cs' : Nat × Nat} (hcs : cs' = (cs.1 + 1, cs.2 + N)) {a : Nat} (ha : a = Z.2.2 + C.length) (kk : rg_G X Z cs' nL (C ++ [.inl (Z.2.1 1, N, .inl (fun _ => 0))]) (pc + 2) lv (.ref a :: st)) : rg_G X Z cs nL C pc lv (.int n :: st) := by
  subst ha
  subst hcs
  intro H locs ls hz hP hS hl
  have hR' := hR
  rw [← F.room] at hR'
  refine va_newaK F.exec F.bytes (atype := .boolean) (F.words _ w) rfl d rfl hn hN (by show N * 1 ≤ _; omega) hR'.1 hR'.2 rfl fun H1 cA e1 z1 o1 hAr hNm => ?_
  rw [← hz] at kk
  have hcA : cA = Z.2.1 1 := Option.some.inj (hNm.symm.trans (rg_cA F.kn).2.1)
  subst hcA
  exact kk H1 locs ls (by rw [z1, hz, List.length_append]; rfl) (rg_push hz hP o1 e1) (rg_sz hS z1 o1) hl
theorem rg_newB (F : rg_F X Z cc nL own R0) (d : decode cc pc = .ok (.newarray .byte, 2)) (w : Cond.arrayClass .byte ∈ lw_all) {n : Int32} (N : Nat) (hn : ¬ n < 0) (hN : n.toNatClampNeg = N) (hb : N ≤ 1000) (hR : cs.1 + 1 ≤ R0.cells ∧ cs.2 + N ≤ R0.slots) {cs' : Nat × Nat} (hcs : cs' = (cs.1 + 1, cs.2 + N)) {a : Nat} (ha : a = Z.2.2 + C.length) (kk : rg_G X Z cs' nL (C ++ [.inl (Z.2.1 2, N, .inl (fun _ => 0))]) (pc + 2) lv (.ref a :: st)) : rg_G X Z cs nL C pc lv (.int n :: st) := by
  subst ha
  subst hcs
  intro H locs ls hz hP hS hl
  have hR' := hR
  rw [← F.room] at hR'
  refine va_newaK F.exec F.bytes (atype := .byte) (F.words _ w) rfl d rfl hn hN (by show N * 1 ≤ _; omega) hR'.1 hR'.2 rfl fun H1 cA e1 z1 o1 hAr hNm => ?_
  rw [← hz] at kk
  have hcA : cA = Z.2.1 2 := Option.some.inj (hNm.symm.trans (rg_cA F.kn).2.2.1)
  subst hcA
  exact kk H1 locs ls (by rw [z1, hz, List.length_append]; rfl) (rg_push hz hP o1 e1) (rg_sz hS z1 o1) hl
theorem rg_iconst (F : rg_F X Z cc nL own R0) {n : Int} {v : Int32} (d : decode cc pc = .ok (.iconst n, 1)) (hv : Int32.ofInt n = v) (k : rg_G X Z cs nL C (pc + 1) lv (.int v :: st)) : rg_G X Z cs nL C pc lv (st) := fun H locs ls hz hP hS hl => lv_iconst F.exec F.bytes d hv (k H locs ls hz hP hS hl)
theorem rg_bipush (F : rg_F X Z cc nL own R0) {n : Int} {v : Int32} (d : decode cc pc = .ok (.bipush n, 2)) (hv : (Int8.ofInt n).toInt32 = v) (k : rg_G X Z cs nL C (pc + 2) lv (.int v :: st)) : rg_G X Z cs nL C pc lv (st) := fun H locs ls hz hP hS hl => lv_bipush F.exec F.bytes d hv (k H locs ls hz hP hS hl)
theorem rg_sipush (F : rg_F X Z cc nL own R0) {n : Int} {v : Int32} (d : decode cc pc = .ok (.sipush n, 3)) (hv : (Int16.ofInt n).toInt32 = v) (k : rg_G X Z cs nL C (pc + 3) lv (.int v :: st)) : rg_G X Z cs nL C pc lv (st) := fun H locs ls hz hP hS hl => lv_sipush F.exec F.bytes d hv (k H locs ls hz hP hS hl)
theorem rg_lconst (F : rg_F X Z cc nL own R0) {n : Fin 2} {v : Int64} (d : decode cc pc = .ok (.lconst n, 1)) (hv : Int64.ofNat (n : Nat) = v) (k : rg_G X Z cs nL C (pc + 1) lv (.long v :: st)) : rg_G X Z cs nL C pc lv (st) := fun H locs ls hz hP hS hl => lv_lconst F.exec F.bytes d hv (k H locs ls hz hP hS hl)
theorem rg_iload_n (F : rg_F X Z cc nL own R0) {k : Fin 4} {x : Int32} (d : decode cc pc = .ok (.iload_n k, 1)) (j : Nat) (hj : lv[j]? = some ((k : Nat), .int x)) (kk : rg_G X Z cs nL C (pc + 1) lv (.int x :: st)) : rg_G X Z cs nL C pc lv st := fun H locs ls hz hP hS hl => lv_iload_n F.exec F.bytes d rfl (lv_at hl j hj) (kk H locs ls hz hP hS hl)
theorem rg_iload (F : rg_F X Z cc nL own R0) {i : Nat} {x : Int32} (d : decode cc pc = .ok (.iload i, 2)) (j : Nat) (hj : lv[j]? = some (i, .int x)) (kk : rg_G X Z cs nL C (pc + 2) lv (.int x :: st)) : rg_G X Z cs nL C pc lv st := fun H locs ls hz hP hS hl => lv_iload F.exec F.bytes d (lv_at hl j hj) (kk H locs ls hz hP hS hl)
theorem rg_istore_n (F : rg_F X Z cc nL own R0) {k : Fin 4} {i : Nat} {x : Int32} {lv' : List (Nat × Value)} (d : decode cc pc = .ok (.istore_n k, 1)) (hi : (k : Nat) = i) (hn : i < nL) (hl' : (i, Value.int x) :: lv.filter (fun q => !(q.1 == i) && !(q.1 + 1 == i && q.2.category == 2)) = lv') (kk : rg_G X Z cs nL C (pc + 1) lv' st) : rg_G X Z cs nL C pc lv (.int x :: st) := fun H locs ls hz hP hS hl => lv_istore_n F.exec F.bytes d hi hl hn hl' (fun ls' h' => kk H locs ls' hz hP hS h')
theorem rg_istore (F : rg_F X Z cc nL own R0) {i : Nat} {x : Int32} {lv' : List (Nat × Value)} (d : decode cc pc = .ok (.istore i, 2)) (hn : i < nL) (hl' : (i, Value.int x) :: lv.filter (fun q => !(q.1 == i) && !(q.1 + 1 == i && q.2.category == 2)) = lv') (kk : rg_G X Z cs nL C (pc + 2) lv' st) : rg_G X Z cs nL C pc lv (.int x :: st) := fun H locs ls hz hP hS hl => lv_istore F.exec F.bytes d hl hn hl' (fun ls' h' => kk H locs ls' hz hP hS h')
theorem rg_lload_n (F : rg_F X Z cc nL own R0) {k : Fin 4} {x : Int64} (d : decode cc pc = .ok (.lload_n k, 1)) (j : Nat) (hj : lv[j]? = some ((k : Nat), .long x)) (kk : rg_G X Z cs nL C (pc + 1) lv (.long x :: st)) : rg_G X Z cs nL C pc lv st := fun H locs ls hz hP hS hl => lv_lload_n F.exec F.bytes d rfl (lv_at hl j hj) (kk H locs ls hz hP hS hl)
theorem rg_lload (F : rg_F X Z cc nL own R0) {i : Nat} {x : Int64} (d : decode cc pc = .ok (.lload i, 2)) (j : Nat) (hj : lv[j]? = some (i, .long x)) (kk : rg_G X Z cs nL C (pc + 2) lv (.long x :: st)) : rg_G X Z cs nL C pc lv st := fun H locs ls hz hP hS hl => lv_lload F.exec F.bytes d (lv_at hl j hj) (kk H locs ls hz hP hS hl)
theorem rg_lstore_n (F : rg_F X Z cc nL own R0) {k : Fin 4} {i : Nat} {x : Int64} {lv' : List (Nat × Value)} (d : decode cc pc = .ok (.lstore_n k, 1)) (hi : (k : Nat) = i) (hn : i + 1 < nL) (hl' : (i, Value.long x) :: lv.filter (fun q => !(q.1 == i) && (!(q.1 == i + 1) && !(q.1 + 1 == i && q.2.category == 2))) = lv') (kk : rg_G X Z cs nL C (pc + 1) lv' st) : rg_G X Z cs nL C pc lv (.long x :: st) := fun H locs ls hz hP hS hl => lv_lstore_n F.exec F.bytes d hi hl hn hl' (fun ls' h' => kk H locs ls' hz hP hS h')
theorem rg_lstore (F : rg_F X Z cc nL own R0) {i : Nat} {x : Int64} {lv' : List (Nat × Value)} (d : decode cc pc = .ok (.lstore i, 2)) (hn : i + 1 < nL) (hl' : (i, Value.long x) :: lv.filter (fun q => !(q.1 == i) && (!(q.1 == i + 1) && !(q.1 + 1 == i && q.2.category == 2))) = lv') (kk : rg_G X Z cs nL C (pc + 2) lv' st) : rg_G X Z cs nL C pc lv (.long x :: st) := fun H locs ls hz hP hS hl => lv_lstore F.exec F.bytes d hl hn hl' (fun ls' h' => kk H locs ls' hz hP hS h')
theorem rg_aload_n (F : rg_F X Z cc nL own R0) {k : Fin 4} {x : Nat} (d : decode cc pc = .ok (.aload_n k, 1)) (j : Nat) (hj : lv[j]? = some ((k : Nat), .ref x)) (kk : rg_G X Z cs nL C (pc + 1) lv (.ref x :: st)) : rg_G X Z cs nL C pc lv st := fun H locs ls hz hP hS hl => lv_aload_n F.exec F.bytes d rfl (lv_at hl j hj) (kk H locs ls hz hP hS hl)
theorem rg_aload (F : rg_F X Z cc nL own R0) {i : Nat} {x : Nat} (d : decode cc pc = .ok (.aload i, 2)) (j : Nat) (hj : lv[j]? = some (i, .ref x)) (kk : rg_G X Z cs nL C (pc + 2) lv (.ref x :: st)) : rg_G X Z cs nL C pc lv st := fun H locs ls hz hP hS hl => lv_aload F.exec F.bytes d (lv_at hl j hj) (kk H locs ls hz hP hS hl)
theorem rg_astore_n (F : rg_F X Z cc nL own R0) {k : Fin 4} {i : Nat} {x : Nat} {lv' : List (Nat × Value)} (d : decode cc pc = .ok (.astore_n k, 1)) (hi : (k : Nat) = i) (hn : i < nL) (hl' : (i, Value.ref x) :: lv.filter (fun q => !(q.1 == i) && !(q.1 + 1 == i && q.2.category == 2)) = lv') (kk : rg_G X Z cs nL C (pc + 1) lv' st) : rg_G X Z cs nL C pc lv (.ref x :: st) := fun H locs ls hz hP hS hl => lv_astore_n F.exec F.bytes d hi hl hn hl' (fun ls' h' => kk H locs ls' hz hP hS h')
theorem rg_astore (F : rg_F X Z cc nL own R0) {i : Nat} {x : Nat} {lv' : List (Nat × Value)} (d : decode cc pc = .ok (.astore i, 2)) (hn : i < nL) (hl' : (i, Value.ref x) :: lv.filter (fun q => !(q.1 == i) && !(q.1 + 1 == i && q.2.category == 2)) = lv') (kk : rg_G X Z cs nL C (pc + 2) lv' st) : rg_G X Z cs nL C pc lv (.ref x :: st) := fun H locs ls hz hP hS hl => lv_astore F.exec F.bytes d hl hn hl' (fun ls' h' => kk H locs ls' hz hP hS h')
theorem rg_iinc (F : rg_F X Z cc nL own R0) {i : Nat} {n : Int} {x v : Int32} {lv' : List (Nat × Value)} (d : decode cc pc = .ok (.iinc i n, 3)) (j : Nat) (hj : lv[j]? = some (i, .int x)) (hv : x + Int32.ofInt n = v) (hn : i < nL) (hl' : (i, Value.int v) :: lv.filter (fun q => !(q.1 == i) && !(q.1 + 1 == i && q.2.category == 2)) = lv') (kk : rg_G X Z cs nL C (pc + 3) lv' st) : rg_G X Z cs nL C pc lv st := fun H locs ls hz hP hS hl => lv_iinc F.exec F.bytes d hl hj hv hn hl' (fun ls' h' => kk H locs ls' hz hP hS h')
theorem rg_iadd (F : rg_F X Z cc nL own R0) {x y : Int32} (d : decode cc pc = .ok (.iadd, 1)) (k : rg_G X Z cs nL C (pc + 1) lv (.int (x + y) :: st)) : rg_G X Z cs nL C pc lv (.int y :: .int x :: st) := fun H locs ls hz hP hS hl => lv_iadd F.exec F.bytes d (k H locs ls hz hP hS hl)
theorem rg_isub (F : rg_F X Z cc nL own R0) {x y : Int32} (d : decode cc pc = .ok (.isub, 1)) (k : rg_G X Z cs nL C (pc + 1) lv (.int (x - y) :: st)) : rg_G X Z cs nL C pc lv (.int y :: .int x :: st) := fun H locs ls hz hP hS hl => lv_isub F.exec F.bytes d (k H locs ls hz hP hS hl)
theorem rg_imul (F : rg_F X Z cc nL own R0) {x y : Int32} (d : decode cc pc = .ok (.imul, 1)) (k : rg_G X Z cs nL C (pc + 1) lv (.int (x * y) :: st)) : rg_G X Z cs nL C pc lv (.int y :: .int x :: st) := fun H locs ls hz hP hS hl => lv_imul F.exec F.bytes d (k H locs ls hz hP hS hl)
theorem rg_iand (F : rg_F X Z cc nL own R0) {x y : Int32} (d : decode cc pc = .ok (.iand, 1)) (k : rg_G X Z cs nL C (pc + 1) lv (.int (x &&& y) :: st)) : rg_G X Z cs nL C pc lv (.int y :: .int x :: st) := fun H locs ls hz hP hS hl => lv_iand F.exec F.bytes d (k H locs ls hz hP hS hl)
theorem rg_ior (F : rg_F X Z cc nL own R0) {x y : Int32} (d : decode cc pc = .ok (.ior, 1)) (k : rg_G X Z cs nL C (pc + 1) lv (.int (x ||| y) :: st)) : rg_G X Z cs nL C pc lv (.int y :: .int x :: st) := fun H locs ls hz hP hS hl => lv_ior F.exec F.bytes d (k H locs ls hz hP hS hl)
theorem rg_ixor (F : rg_F X Z cc nL own R0) {x y : Int32} (d : decode cc pc = .ok (.ixor, 1)) (k : rg_G X Z cs nL C (pc + 1) lv (.int (x ^^^ y) :: st)) : rg_G X Z cs nL C pc lv (.int y :: .int x :: st) := fun H locs ls hz hP hS hl => lv_ixor F.exec F.bytes d (k H locs ls hz hP hS hl)
theorem rg_ishl (F : rg_F X Z cc nL own R0) {x y : Int32} (d : decode cc pc = .ok (.ishl, 1)) (k : rg_G X Z cs nL C (pc + 1) lv (.int (x <<< (y &&& 31)) :: st)) : rg_G X Z cs nL C pc lv (.int y :: .int x :: st) := fun H locs ls hz hP hS hl => lv_ishl F.exec F.bytes d (k H locs ls hz hP hS hl)
theorem rg_ishr (F : rg_F X Z cc nL own R0) {x y : Int32} (d : decode cc pc = .ok (.ishr, 1)) (k : rg_G X Z cs nL C (pc + 1) lv (.int (x >>> (y &&& 31)) :: st)) : rg_G X Z cs nL C pc lv (.int y :: .int x :: st) := fun H locs ls hz hP hS hl => lv_ishr F.exec F.bytes d (k H locs ls hz hP hS hl)
theorem rg_idiv (F : rg_F X Z cc nL own R0) {x y : Int32} (d : decode cc pc = .ok (.idiv, 1)) (hne : ¬ y = 0) (k : rg_G X Z cs nL C (pc + 1) lv (.int (x / y) :: st)) : rg_G X Z cs nL C pc lv (.int y :: .int x :: st) := fun H locs ls hz hP hS hl => lv_idiv F.exec F.bytes d hne (k H locs ls hz hP hS hl)
theorem rg_irem (F : rg_F X Z cc nL own R0) {x y : Int32} (d : decode cc pc = .ok (.irem, 1)) (hne : ¬ y = 0) (k : rg_G X Z cs nL C (pc + 1) lv (.int (x - x / y * y) :: st)) : rg_G X Z cs nL C pc lv (.int y :: .int x :: st) := fun H locs ls hz hP hS hl => lv_irem F.exec F.bytes d hne (k H locs ls hz hP hS hl)
theorem rg_ladd (F : rg_F X Z cc nL own R0) {x y : Int64} (d : decode cc pc = .ok (.ladd, 1)) (k : rg_G X Z cs nL C (pc + 1) lv (.long (x + y) :: st)) : rg_G X Z cs nL C pc lv (.long y :: .long x :: st) := fun H locs ls hz hP hS hl => lv_ladd F.exec F.bytes d (k H locs ls hz hP hS hl)
theorem rg_lsub (F : rg_F X Z cc nL own R0) {x y : Int64} (d : decode cc pc = .ok (.lsub, 1)) (k : rg_G X Z cs nL C (pc + 1) lv (.long (x - y) :: st)) : rg_G X Z cs nL C pc lv (.long y :: .long x :: st) := fun H locs ls hz hP hS hl => lv_lsub F.exec F.bytes d (k H locs ls hz hP hS hl)
theorem rg_lmul (F : rg_F X Z cc nL own R0) {x y : Int64} (d : decode cc pc = .ok (.lmul, 1)) (k : rg_G X Z cs nL C (pc + 1) lv (.long (x * y) :: st)) : rg_G X Z cs nL C pc lv (.long y :: .long x :: st) := fun H locs ls hz hP hS hl => lv_lmul F.exec F.bytes d (k H locs ls hz hP hS hl)
theorem rg_ldiv (F : rg_F X Z cc nL own R0) {x y : Int64} (d : decode cc pc = .ok (.ldiv, 1)) (hne : ¬ y = 0) (k : rg_G X Z cs nL C (pc + 1) lv (.long (x / y) :: st)) : rg_G X Z cs nL C pc lv (.long y :: .long x :: st) := fun H locs ls hz hP hS hl => lv_ldiv F.exec F.bytes d hne (k H locs ls hz hP hS hl)
theorem rg_lrem (F : rg_F X Z cc nL own R0) {x y : Int64} (d : decode cc pc = .ok (.lrem, 1)) (hne : ¬ y = 0) (k : rg_G X Z cs nL C (pc + 1) lv (.long (x - x / y * y) :: st)) : rg_G X Z cs nL C pc lv (.long y :: .long x :: st) := fun H locs ls hz hP hS hl => lv_lrem F.exec F.bytes d hne (k H locs ls hz hP hS hl)
theorem rg_ineg (F : rg_F X Z cc nL own R0) {x : Int32} (d : decode cc pc = .ok (.ineg, 1)) (k : rg_G X Z cs nL C (pc + 1) lv (.int (-x) :: st)) : rg_G X Z cs nL C pc lv (.int x :: st) := fun H locs ls hz hP hS hl => lv_ineg F.exec F.bytes d (k H locs ls hz hP hS hl)
theorem rg_i2l (F : rg_F X Z cc nL own R0) {x : Int32} (d : decode cc pc = .ok (.i2l, 1)) (k : rg_G X Z cs nL C (pc + 1) lv (.long x.toInt64 :: st)) : rg_G X Z cs nL C pc lv (.int x :: st) := fun H locs ls hz hP hS hl => lv_i2l F.exec F.bytes d rfl (k H locs ls hz hP hS hl)
theorem rg_l2i (F : rg_F X Z cc nL own R0) {x : Int64} (d : decode cc pc = .ok (.l2i, 1)) (k : rg_G X Z cs nL C (pc + 1) lv (.int x.toInt32 :: st)) : rg_G X Z cs nL C pc lv (.long x :: st) := fun H locs ls hz hP hS hl => lv_l2i F.exec F.bytes d rfl (k H locs ls hz hP hS hl)
theorem rg_i2b (F : rg_F X Z cc nL own R0) {x : Int32} (d : decode cc pc = .ok (.i2b, 1)) (k : rg_G X Z cs nL C (pc + 1) lv (.int x.toInt8.toInt32 :: st)) : rg_G X Z cs nL C pc lv (.int x :: st) := fun H locs ls hz hP hS hl => lv_i2b F.exec F.bytes d rfl (k H locs ls hz hP hS hl)
theorem rg_dup (F : rg_F X Z cc nL own R0) {va : Value} (d : decode cc pc = .ok (.dup, 1)) (hva : va.category = 1) (k : rg_G X Z cs nL C (pc + 1) lv (va :: va :: st)) : rg_G X Z cs nL C pc lv (va :: st) := fun H locs ls hz hP hS hl => lv_dup F.exec F.bytes d hva (k H locs ls hz hP hS hl)
theorem rg_pop (F : rg_F X Z cc nL own R0) {va : Value} (d : decode cc pc = .ok (.pop, 1)) (hva : va.category = 1) (k : rg_G X Z cs nL C (pc + 1) lv (st)) : rg_G X Z cs nL C pc lv (va :: st) := fun H locs ls hz hP hS hl => lv_pop F.exec F.bytes d hva (k H locs ls hz hP hS hl)
theorem rg_dup2_11 (F : rg_F X Z cc nL own R0) {va vb : Value} (d : decode cc pc = .ok (.dup2, 1)) (hva : va.category = 1) (hvb : vb.category = 1) (k : rg_G X Z cs nL C (pc + 1) lv (va :: vb :: va :: vb :: st)) : rg_G X Z cs nL C pc lv (va :: vb :: st) := fun H locs ls hz hP hS hl => lv_dup2_11 F.exec F.bytes d hva hvb (k H locs ls hz hP hS hl)
theorem rg_dup_x1 (F : rg_F X Z cc nL own R0) {va vb : Value} (d : decode cc pc = .ok (.dup_x1, 1)) (hva : va.category = 1) (hvb : vb.category = 1) (k : rg_G X Z cs nL C (pc + 1) lv (va :: vb :: va :: st)) : rg_G X Z cs nL C pc lv (va :: vb :: st) := fun H locs ls hz hP hS hl => lv_dup_x1 F.exec F.bytes d hva hvb (k H locs ls hz hP hS hl)
theorem rg_if_eq (F : rg_F X Z cc nL own R0) {x : Int32} {off : Int} {tgt : Nat} (d : decode cc pc = .ok (.ifCond .eq off, 3)) (ht : (pc : Int) + off = (tgt : Int)) (kt : x = 0 → rg_G X Z cs nL C tgt lv st) (kf : ¬ x = 0 → rg_G X Z cs nL C (pc + 3) lv st) : rg_G X Z cs nL C pc lv (.int x :: st) := fun H locs ls hz hP hS hl => lv_if_eq F.exec F.bytes d ht (fun q => kt q H locs ls hz hP hS hl) (fun q => kf q H locs ls hz hP hS hl)
theorem rg_icmp_eq (F : rg_F X Z cc nL own R0) {x y : Int32} {off : Int} {tgt : Nat} (d : decode cc pc = .ok (.if_icmp .eq off, 3)) (ht : (pc : Int) + off = (tgt : Int)) (kt : x = y → rg_G X Z cs nL C tgt lv st) (kf : ¬ x = y → rg_G X Z cs nL C (pc + 3) lv st) : rg_G X Z cs nL C pc lv (.int y :: .int x :: st) := fun H locs ls hz hP hS hl => lv_icmp_eq F.exec F.bytes d ht (fun q => kt q H locs ls hz hP hS hl) (fun q => kf q H locs ls hz hP hS hl)
theorem rg_if_ne (F : rg_F X Z cc nL own R0) {x : Int32} {off : Int} {tgt : Nat} (d : decode cc pc = .ok (.ifCond .ne off, 3)) (ht : (pc : Int) + off = (tgt : Int)) (kt : ¬ x = 0 → rg_G X Z cs nL C tgt lv st) (kf : x = 0 → rg_G X Z cs nL C (pc + 3) lv st) : rg_G X Z cs nL C pc lv (.int x :: st) := fun H locs ls hz hP hS hl => lv_if_ne F.exec F.bytes d ht (fun q => kt q H locs ls hz hP hS hl) (fun q => kf q H locs ls hz hP hS hl)
theorem rg_icmp_ne (F : rg_F X Z cc nL own R0) {x y : Int32} {off : Int} {tgt : Nat} (d : decode cc pc = .ok (.if_icmp .ne off, 3)) (ht : (pc : Int) + off = (tgt : Int)) (kt : ¬ x = y → rg_G X Z cs nL C tgt lv st) (kf : x = y → rg_G X Z cs nL C (pc + 3) lv st) : rg_G X Z cs nL C pc lv (.int y :: .int x :: st) := fun H locs ls hz hP hS hl => lv_icmp_ne F.exec F.bytes d ht (fun q => kt q H locs ls hz hP hS hl) (fun q => kf q H locs ls hz hP hS hl)
theorem rg_if_lt (F : rg_F X Z cc nL own R0) {x : Int32} {off : Int} {tgt : Nat} (d : decode cc pc = .ok (.ifCond .lt off, 3)) (ht : (pc : Int) + off = (tgt : Int)) (kt : x < 0 → rg_G X Z cs nL C tgt lv st) (kf : ¬ x < 0 → rg_G X Z cs nL C (pc + 3) lv st) : rg_G X Z cs nL C pc lv (.int x :: st) := fun H locs ls hz hP hS hl => lv_if_lt F.exec F.bytes d ht (fun q => kt q H locs ls hz hP hS hl) (fun q => kf q H locs ls hz hP hS hl)
theorem rg_icmp_lt (F : rg_F X Z cc nL own R0) {x y : Int32} {off : Int} {tgt : Nat} (d : decode cc pc = .ok (.if_icmp .lt off, 3)) (ht : (pc : Int) + off = (tgt : Int)) (kt : x < y → rg_G X Z cs nL C tgt lv st) (kf : ¬ x < y → rg_G X Z cs nL C (pc + 3) lv st) : rg_G X Z cs nL C pc lv (.int y :: .int x :: st) := fun H locs ls hz hP hS hl => lv_icmp_lt F.exec F.bytes d ht (fun q => kt q H locs ls hz hP hS hl) (fun q => kf q H locs ls hz hP hS hl)
theorem rg_if_ge (F : rg_F X Z cc nL own R0) {x : Int32} {off : Int} {tgt : Nat} (d : decode cc pc = .ok (.ifCond .ge off, 3)) (ht : (pc : Int) + off = (tgt : Int)) (kt : 0 ≤ x → rg_G X Z cs nL C tgt lv st) (kf : ¬ 0 ≤ x → rg_G X Z cs nL C (pc + 3) lv st) : rg_G X Z cs nL C pc lv (.int x :: st) := fun H locs ls hz hP hS hl => lv_if_ge F.exec F.bytes d ht (fun q => kt q H locs ls hz hP hS hl) (fun q => kf q H locs ls hz hP hS hl)
theorem rg_icmp_ge (F : rg_F X Z cc nL own R0) {x y : Int32} {off : Int} {tgt : Nat} (d : decode cc pc = .ok (.if_icmp .ge off, 3)) (ht : (pc : Int) + off = (tgt : Int)) (kt : y ≤ x → rg_G X Z cs nL C tgt lv st) (kf : ¬ y ≤ x → rg_G X Z cs nL C (pc + 3) lv st) : rg_G X Z cs nL C pc lv (.int y :: .int x :: st) := fun H locs ls hz hP hS hl => lv_icmp_ge F.exec F.bytes d ht (fun q => kt q H locs ls hz hP hS hl) (fun q => kf q H locs ls hz hP hS hl)
theorem rg_if_gt (F : rg_F X Z cc nL own R0) {x : Int32} {off : Int} {tgt : Nat} (d : decode cc pc = .ok (.ifCond .gt off, 3)) (ht : (pc : Int) + off = (tgt : Int)) (kt : 0 < x → rg_G X Z cs nL C tgt lv st) (kf : ¬ 0 < x → rg_G X Z cs nL C (pc + 3) lv st) : rg_G X Z cs nL C pc lv (.int x :: st) := fun H locs ls hz hP hS hl => lv_if_gt F.exec F.bytes d ht (fun q => kt q H locs ls hz hP hS hl) (fun q => kf q H locs ls hz hP hS hl)
theorem rg_icmp_gt (F : rg_F X Z cc nL own R0) {x y : Int32} {off : Int} {tgt : Nat} (d : decode cc pc = .ok (.if_icmp .gt off, 3)) (ht : (pc : Int) + off = (tgt : Int)) (kt : y < x → rg_G X Z cs nL C tgt lv st) (kf : ¬ y < x → rg_G X Z cs nL C (pc + 3) lv st) : rg_G X Z cs nL C pc lv (.int y :: .int x :: st) := fun H locs ls hz hP hS hl => lv_icmp_gt F.exec F.bytes d ht (fun q => kt q H locs ls hz hP hS hl) (fun q => kf q H locs ls hz hP hS hl)
theorem rg_if_le (F : rg_F X Z cc nL own R0) {x : Int32} {off : Int} {tgt : Nat} (d : decode cc pc = .ok (.ifCond .le off, 3)) (ht : (pc : Int) + off = (tgt : Int)) (kt : x ≤ 0 → rg_G X Z cs nL C tgt lv st) (kf : ¬ x ≤ 0 → rg_G X Z cs nL C (pc + 3) lv st) : rg_G X Z cs nL C pc lv (.int x :: st) := fun H locs ls hz hP hS hl => lv_if_le F.exec F.bytes d ht (fun q => kt q H locs ls hz hP hS hl) (fun q => kf q H locs ls hz hP hS hl)
theorem rg_icmp_le (F : rg_F X Z cc nL own R0) {x y : Int32} {off : Int} {tgt : Nat} (d : decode cc pc = .ok (.if_icmp .le off, 3)) (ht : (pc : Int) + off = (tgt : Int)) (kt : x ≤ y → rg_G X Z cs nL C tgt lv st) (kf : ¬ x ≤ y → rg_G X Z cs nL C (pc + 3) lv st) : rg_G X Z cs nL C pc lv (.int y :: .int x :: st) := fun H locs ls hz hP hS hl => lv_icmp_le F.exec F.bytes d ht (fun q => kt q H locs ls hz hP hS hl) (fun q => kf q H locs ls hz hP hS hl)
theorem rg_goto (F : rg_F X Z cc nL own R0) {off : Int} {tgt : Nat} (d : decode cc pc = .ok (.goto off, 3)) (ht : (pc : Int) + off = (tgt : Int)) (k : rg_G X Z cs nL C tgt lv st) : rg_G X Z cs nL C pc lv st := fun H locs ls hz hP hS hl => lv_goto F.exec F.bytes d ht (k H locs ls hz hP hS hl)
theorem rg_ldc (F : rg_F X Z cc nL own R0) {index : Nat} {v : Int32} (d : decode cc pc = .ok (.ldc index, 2)) (h : Cond.constant own index v ∈ lw_all) (k : rg_G X Z cs nL C (pc + 2) lv (.int v :: st)) : rg_G X Z cs nL C pc lv st := fun H locs ls hz hP hS hl => lv_ldc F.exec F.bytes F.ownC (F.words _ h) d (k H locs ls hz hP hS hl)
theorem rg_ldc2 (F : rg_F X Z cc nL own R0) {index : Nat} {v : Int64} (d : decode cc pc = .ok (.ldc2_w index, 3)) (h : Cond.constantLong own index v ∈ lw_all) (k : rg_G X Z cs nL C (pc + 3) lv (.long v :: st)) : rg_G X Z cs nL C pc lv st := fun H locs ls hz hP hS hl => lv_ldc2 F.exec F.bytes F.ownC (F.words _ h) d (k H locs ls hz hP hS hl)
end RG
