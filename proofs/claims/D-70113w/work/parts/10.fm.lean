/-! the fm_ layer: a world is a list of cells by number; the memory says what ints each cell holds; references follow a fixed layout -/
set_option maxRecDepth 100000
abbrev fm_M : Type := (Nat → Nat → Int32) × Int64
def fm_row (M : fm_M) (c : Nat) (r : Nat → Int32) : fm_M := (va_up M.1 c r, M.2)
def fm_wr (M : fm_M) (c k : Nat) (v : Int32) : fm_M := fm_row M c (upd (M.1 c) k v)
def fm_wl (M : fm_M) (v : Int64) : fm_M := (M.1, v)
abbrev fm_K : Type := Nat → (Nat → Int32) → Int64 → va_E
def fm_ws (N : Nat) (ad : Nat → Nat) (mk : fm_K) (M : fm_M) : va_W := (List.range N).map fun i => (ad i, mk i (M.1 i) M.2)
theorem fm_ws_get {N : Nat} {ad : Nat → Nat} {mk : fm_K} {M : fm_M} {i : Nat} (h : i < N) : (fm_ws N ad mk M)[i]? = some (ad i, mk i (M.1 i) M.2) := by
  simp [fm_ws, h]
theorem fm_ws_len {N : Nat} {ad : Nat → Nat} {mk : fm_K} {M : fm_M} : (fm_ws N ad mk M).length = N := by simp [fm_ws]
theorem fm_ws_inv {N : Nat} {ad : Nat → Nat} {mk : fm_K} {M : fm_M} {i : Nat} {q : Nat × va_E} (h : (fm_ws N ad mk M)[i]? = some q) : i < N ∧ q = (ad i, mk i (M.1 i) M.2) := by
  have h1 : i < N := by
    have := (List.getElem?_eq_some_iff.mp h).1
    rwa [fm_ws_len] at this
  rw [fm_ws_get h1] at h
  exact ⟨h1, (Option.some.inj h).symm⟩
theorem fm_ws_row {N : Nat} {ad : Nat → Nat} {mk : fm_K} {M : fm_M} (c : Nat) (r : Nat → Int32) : (fm_ws N ad mk M).set c (ad c, mk c r M.2) = fm_ws N ad mk (fm_row M c r) := by
  apply List.ext_getElem?
  intro j
  by_cases hj : j < N
  · by_cases hc : c = j
    · subst hc
      rw [List.getElem?_set_self (by rw [fm_ws_len]; exact hj), fm_ws_get hj]
      simp [fm_row, va_up]
    · rw [List.getElem?_set_ne hc, fm_ws_get hj, fm_ws_get hj]
      simp [fm_row, va_up, Ne.symm hc]
  · rw [List.getElem?_eq_none (by rw [List.length_set, fm_ws_len]; omega), List.getElem?_eq_none (by rw [fm_ws_len]; omega)]
theorem fm_ws_long {N : Nat} {ad : Nat → Nat} {mk : fm_K} {M : fm_M} (c : Nat) (v : Int64) (h : ∀ i, i ≠ c → ∀ r t, mk i r t = mk i r M.2) : (fm_ws N ad mk M).set c (ad c, mk c (M.1 c) v) = fm_ws N ad mk (fm_wl M v) := by
  apply List.ext_getElem?
  intro j
  by_cases hj : j < N
  · by_cases hc : c = j
    · subst hc
      rw [List.getElem?_set_self (by rw [fm_ws_len]; exact hj), fm_ws_get hj]
      simp [fm_wl]
    · rw [List.getElem?_set_ne hc, fm_ws_get hj, fm_ws_get hj]
      simp only [fm_wl]
      rw [← h j (Ne.symm hc) (M.1 j) v]
  · rw [List.getElem?_eq_none (by rw [List.length_set, fm_ws_len]; omega), List.getElem?_eq_none (by rw [fm_ws_len]; omega)]
/-- all classes of the two systems, by number -/
def fm_cl : List vw_C := [(RX0, TX0, 19), (RX1, TX1, 11), (RX2, TX2, 7), (RX3, TX3, 1), (RX4, TX4, 2), (RX5, TX5, 2), (RX6, TX6, 3), (RX7, TX7, 3), (RX8, TX8, 2), (RX9, TX9, 29), (RX10, TX10, 6), (RX11, TX11, 7)]
/-- the array classes -/
def fm_ty (dA : Nat → ClassId) : List (ClassId × FieldType) := [(dA 0, .int), (dA 1, .boolean), (dA 2, .byte), (dA 3, .object "BellLots$Plain"), (dA 4, .object "BellLots$Bell"), (dA 5, .array .int)]
/-- the words that don't ride in the lists -/
def fm_nw : Cond → Bool
  | .fieldLinkNest .. => true
  | .methodLinkNest .. => true
  | .castable .. => true
  | .declares .. => true
  | _ => false
def fm_NW (U : State) : Prop := ∀ w ∈ lw_tbl, fm_nw w = true → va_Nw w U
theorem fm_NW.warm {s U : State} (hW : s.WarmedH U.vm) (h : fm_NW s) : fm_NW U := by
  intro w hw hn
  have h1 := h w hw hn
  cases w <;> first | (exact va_Nw.warmF hW h1) | (exact va_Nw.warmM hW h1) | (exact va_Nw.warmD hW h1) | (exact va_Nw.warmC hW h1) | (cases hn)
theorem fm_NW.same {s U : State} (e : s.vm = U.vm) (h : fm_NW s) : fm_NW U := by
  intro w hw hn
  have h1 := h w hw hn
  cases w <;> first | (cases hn; done) | (exact va_Nw.same rfl e h1)
def fm_A (N : Nat) (ad : Nat → Nat) (sz : Nat) : Nat → Prop := fun q => (∃ i, i < N ∧ q = ad i) ∨ sz ≤ q
abbrev fm_X : Type := Program × Launch × Env × Room × State × MethodId × Array Value × List Frame × Method × Code × (State → Prop)
abbrev xp (X : fm_X) : Program := X.1
abbrev xl (X : fm_X) : Launch := X.2.1
abbrev xe (X : fm_X) : Env := X.2.2.1
abbrev xR (X : fm_X) : Room := X.2.2.2.1
abbrev xs (X : fm_X) : State := X.2.2.2.2.1
abbrev xm (X : fm_X) : MethodId := X.2.2.2.2.2.1
abbrev xa (X : fm_X) : Array Value := X.2.2.2.2.2.2.1
abbrev xb (X : fm_X) : List Frame := X.2.2.2.2.2.2.2.1
abbrev xt (X : fm_X) : Method := X.2.2.2.2.2.2.2.2.1
abbrev xc (X : fm_X) : Code := X.2.2.2.2.2.2.2.2.2.1
abbrev xQ (X : fm_X) : State → Prop := X.2.2.2.2.2.2.2.2.2.2
abbrev fm_Y : Type := va_G × (Nat → ClassId) × Nat × (Nat → Nat) × fm_K
abbrev yD (Y : fm_Y) : va_G := Y.1
abbrev yA (Y : fm_Y) : Nat → ClassId := Y.2.1
abbrev yN (Y : fm_Y) : Nat := Y.2.2.1
abbrev yad (Y : fm_Y) : Nat → Nat := Y.2.2.2.1
abbrev ymk (Y : fm_Y) : fm_K := Y.2.2.2.2
/-- the heap holds the memory M -/
def fm_P (Y : fm_Y) (M : fm_M) (H : Heap) : Prop := va_P (yD Y) fm_cl (fm_ws (yN Y) (yad Y) (ymk Y) M) H
/-- from any heap that holds M, with the locals lv and the stack st, at pc: the method comes to its end -/
def fm_G (X : fm_X) (Y : fm_Y) (cs : Nat × Nat) (nL : Nat) (M : fm_M) (pc : Nat) (lv : List (Nat × Value)) (st : List Value) : Prop :=
  ∀ (H : Heap) (locs : List Loc) (ls : Array Slot), fm_P Y M H → va_S (fm_A (yN Y) (yad Y) (xs X).heap.size) (xs X).heap H locs → lv_has ls nL lv → W (xp X) (xl X) (xe X) (xR X) (xs X) (xm X) (xa X) (xb X) (xt X) (xc X) H locs cs.1 cs.2 (xQ X) (F0 (xm X) pc ls st)
/-- what of the start's constants a method needs: the literal of the reader, the statics of String and Throwable; none of their cells is written -/
def fm_ST (dA : Nat → ClassId) (A : Nat → Prop) (U : State) (H : Heap) : Prop :=
  (vk_R "BellLots$Reader" 56 "tdo" (dA 6) U ∧ vk_S 1 [3] [[116, 100, 111]] (fun _ => dA 6) (fun _ => dA 7) A U H) ∧ va_Z "java/lang/String" "COMPACT_STRINGS" "Z" (.int 1) A U H ∧ va_Zq "java/lang/Throwable" "UNASSIGNED_STACK" "[Ljava/lang/StackTraceElement;" A U H ∧ va_Zq "java/lang/Throwable" "SUPPRESSED_SENTINEL" "Ljava/util/List;" A U H
theorem fm_ST.warm {dA : Nat → ClassId} {A : Nat → Prop} {s U : State} {H : Heap} (hW : s.WarmedH U.vm) (h : fm_ST dA A s H) : fm_ST dA A U H := by
  obtain ⟨⟨h1, h2⟩, h3, h4, h5⟩ := h
  exact ⟨⟨h1.warm hW, h2.moved hW.alike⟩, h3.moved hW.alike, h4.moved hW.alike, h5.moved hW.alike⟩
theorem fm_ST.same {dA : Nat → ClassId} {A : Nat → Prop} {s U : State} {H : Heap} (e : U.vm = s.vm) (h : fm_ST dA A s H) : fm_ST dA A U H := by
  obtain ⟨⟨h1, h2⟩, h3, h4, h5⟩ := h
  have ha : s.vm.Alike U.vm := by rw [e]; exact Vm.Alike.refl s.vm
  exact ⟨⟨h1.same e, h2.moved ha⟩, h3.moved ha, h4.moved ha, h5.moved ha⟩
theorem fm_ST.kept {dA : Nat → ClassId} {A : Nat → Prop} {U : State} {H H1 : Heap} (h : fm_ST dA A U H) (hq : ∀ a : Nat, a < H.size → ¬ A a → H1[a]? = H[a]?) : fm_ST dA A U H1 := by
  obtain ⟨⟨h1, h2⟩, h3, h4, h5⟩ := h
  exact ⟨⟨h1, h2.kept hq⟩, h3.kept hq, h4.kept hq, h5.kept hq⟩
theorem fm_ST.narrow {dA : Nat → ClassId} {A B : Nat → Prop} {U : State} {H : Heap} (h : fm_ST dA A U H) (hAB : ∀ q, B q → A q) : fm_ST dA B U H := by
  obtain ⟨⟨h1, h2⟩, h3, h4, h5⟩ := h
  exact ⟨⟨h1, h2.narrow hAB⟩, h3.narrow hAB, h4.narrow hAB, h5.narrow hAB⟩
/-- the array classes over classes, as the tables say them -/
def fm_AO (U : State) : Prop := va_AO "BellLots$Plain" U ∧ va_AO "BellLots$Bell" U ∧ (Cond.arrayOver (.array .int)).before #[] U = true
theorem fm_AO.moved {u U : State} (hvm : u.vm.Alike U.vm) (h : fm_AO u) : fm_AO U := by
  obtain ⟨h1, h2, h3⟩ := h
  refine ⟨va_AO.moved hvm h1, va_AO.moved hvm h2, ?_⟩
  obtain ⟨comp, c, k, g1, g2, g3, g4, g5⟩ := arrayOverA_spec (t := .int) h3
  obtain ⟨k', hk', he⟩ := hvm.2.2 _ _ g3
  have hi : (U.vm.classes.findIdx? fun (x : Class) => match x.kind with | .array component _ => component == comp | _ => false) = some c := by
    rw [hvm.findIdx?_eqK _ (fun _ => rfl)]
    exact g2
  have hkind : k'.kind = .array comp (.array .int) := by rw [he]; exact g4
  have f1 : U.vm.findClass (FieldType.array .int).toString = some comp := by rw [hvm.findClass]; exact g1
  have f2 : U.vm.findClass ("[" ++ (FieldType.array .int).toString) = some c := by rw [hvm.findClass]; exact g5
  unfold Cond.before Cond.holds
  simp only [Cond.value]
  rw [f1, Option.bind_some]
  refine (congrArg (fun o : Option Nat => (o.bind (fun c => (U.vm.classes[c]?).map fun (k : Class) => match k.kind with | .array _ ty => decide (ty = FieldType.array .int) && decide (U.vm.findClass ("[" ++ (FieldType.array .int).toString) = some c) | _ => false) == some true)) hi).trans ?_
  simp [hk', hkind, f2]
def fm_F (X : fm_X) (Y : fm_Y) (cc : ByteArray) (nL : Nat) (own : String) (R0 : Room) : Prop :=
  (xp X).tables.exec = Jvm.exec ∧ (xc X).code = cc ∧ (xc X).maxLocals = nL ∧ (xs X).vm.findClass own = some (xm X).cls ∧ (∀ w ∈ lw_all, w.before (xa X) (xs X) = true) ∧ va_K (yD Y) fm_cl (fm_ty (yA Y)) (xs X) ∧ (∀ i j, i < yN Y → j < yN Y → yad Y i = yad Y j → i = j) ∧ fm_NW (xs X) ∧ (xt X).locks = false ∧ xR X = R0 ∧ fm_ST (yA Y) (fm_A (yN Y) (yad Y) (xs X).heap.size) (xs X) (xs X).heap ∧ fm_AO (xs X)
section FM
variable {X : fm_X} {Y : fm_Y} {cs : Nat × Nat} {cc : ByteArray} {nL : Nat} {own : String} {R0 : Room} {M : fm_M} {pc : Nat} {lv : List (Nat × Value)} {st : List Value}
theorem fm_F.exec (F : fm_F X Y cc nL own R0) : (xp X).tables.exec = Jvm.exec := F.1
theorem fm_F.bytes (F : fm_F X Y cc nL own R0) : (xc X).code = cc := F.2.1
theorem fm_F.maxL (F : fm_F X Y cc nL own R0) : (xc X).maxLocals = nL := F.2.2.1
theorem fm_F.ownC (F : fm_F X Y cc nL own R0) : (xs X).vm.findClass own = some (xm X).cls := F.2.2.2.1
theorem fm_F.words (F : fm_F X Y cc nL own R0) : ∀ w ∈ lw_all, w.before (xa X) (xs X) = true := F.2.2.2.2.1
theorem fm_F.kn (F : fm_F X Y cc nL own R0) : va_K (yD Y) fm_cl (fm_ty (yA Y)) (xs X) := F.2.2.2.2.2.1
theorem fm_F.inj (F : fm_F X Y cc nL own R0) : ∀ i j, i < yN Y → j < yN Y → yad Y i = yad Y j → i = j := F.2.2.2.2.2.2.1
theorem fm_F.nw (F : fm_F X Y cc nL own R0) : fm_NW (xs X) := F.2.2.2.2.2.2.2.1
theorem fm_F.locks (F : fm_F X Y cc nL own R0) : (xt X).locks = false := F.2.2.2.2.2.2.2.2.1
theorem fm_F.room (F : fm_F X Y cc nL own R0) : xR X = R0 := F.2.2.2.2.2.2.2.2.2.1
theorem fm_F.stc (F : fm_F X Y cc nL own R0) : fm_ST (yA Y) (fm_A (yN Y) (yad Y) (xs X).heap.size) (xs X) (xs X).heap := F.2.2.2.2.2.2.2.2.2.2.1
theorem fm_F.ao (F : fm_F X Y cc nL own R0) : fm_AO (xs X) := F.2.2.2.2.2.2.2.2.2.2.2
theorem fm_F.nest (F : fm_F X Y cc nL own R0) {w : Cond} (hw : w ∈ lw_tbl) (hn : fm_nw w = true) : va_Nw w (xs X) := F.nw w hw hn
theorem fm_D {N : Nat} {ad : Nat → Nat} {mk : fm_K} {M : fm_M} {sz : Nat} (h : ∀ i j, i < N → j < N → ad i = ad j → i = j) : va_D (fm_A N ad sz) (fm_ws N ad mk M) := by
  refine ⟨fun i j p q hp hq e => ?_, fun k q hk => ?_⟩
  · obtain ⟨h1, rfl⟩ := fm_ws_inv hp
    obtain ⟨h2, rfl⟩ := fm_ws_inv hq
    exact h i j h1 h2 e
  · obtain ⟨h1, rfl⟩ := fm_ws_inv hk
    exact Or.inl ⟨k, h1, rfl⟩
theorem fm_F.apart (F : fm_F X Y cc nL own R0) : va_D (fm_A (yN Y) (yad Y) (xs X).heap.size) (fm_ws (yN Y) (yad Y) (ymk Y) M) := fm_D F.inj
theorem fm_pick {lv' : List (Nat × Value)} (ks : List Nat) (h : lv_pick lv ks = lv') (k : fm_G X Y cs nL M pc lv' st) : fm_G X Y cs nL M pc lv st := fun H locs ls hP hS hl => k H locs ls hP hS (lv_sub hl ks h)
theorem fm_nameM (k : ∀ M1 : fm_M, M1 = M → fm_G X Y cs nL M1 pc lv st) : fm_G X Y cs nL M pc lv st := k M rfl
theorem fm_topi {x : Int32} (k : ∀ y : Int32, y = x → fm_G X Y cs nL M pc lv (.int y :: st)) : fm_G X Y cs nL M pc lv (.int x :: st) := k x rfl
theorem fm_topl {x : Int64} (k : ∀ y : Int64, y = x → fm_G X Y cs nL M pc lv (.long y :: st)) : fm_G X Y cs nL M pc lv (.long x :: st) := k x rfl
/-- at another name of the same number -/
theorem fm_at {pc' : Nat} (h : pc = pc') (k : fm_G X Y cs nL M pc' lv st) : fm_G X Y cs nL M pc lv st := h ▸ k
theorem fm_iconst (F : fm_F X Y cc nL own R0) {n : Int} {v : Int32} (d : decode cc pc = .ok (.iconst n, 1)) (hv : Int32.ofInt n = v) (k : fm_G X Y cs nL M (pc + 1) lv (.int v :: st)) : fm_G X Y cs nL M pc lv (st) := fun H locs ls hP hS hl => lv_iconst F.exec F.bytes d hv (k H locs ls hP hS hl)
theorem fm_bipush (F : fm_F X Y cc nL own R0) {n : Int} {v : Int32} (d : decode cc pc = .ok (.bipush n, 2)) (hv : (Int8.ofInt n).toInt32 = v) (k : fm_G X Y cs nL M (pc + 2) lv (.int v :: st)) : fm_G X Y cs nL M pc lv (st) := fun H locs ls hP hS hl => lv_bipush F.exec F.bytes d hv (k H locs ls hP hS hl)
theorem fm_sipush (F : fm_F X Y cc nL own R0) {n : Int} {v : Int32} (d : decode cc pc = .ok (.sipush n, 3)) (hv : (Int16.ofInt n).toInt32 = v) (k : fm_G X Y cs nL M (pc + 3) lv (.int v :: st)) : fm_G X Y cs nL M pc lv (st) := fun H locs ls hP hS hl => lv_sipush F.exec F.bytes d hv (k H locs ls hP hS hl)
theorem fm_lconst (F : fm_F X Y cc nL own R0) {n : Fin 2} {v : Int64} (d : decode cc pc = .ok (.lconst n, 1)) (hv : Int64.ofNat (n : Nat) = v) (k : fm_G X Y cs nL M (pc + 1) lv (.long v :: st)) : fm_G X Y cs nL M pc lv (st) := fun H locs ls hP hS hl => lv_lconst F.exec F.bytes d hv (k H locs ls hP hS hl)
theorem fm_iload_n (F : fm_F X Y cc nL own R0) {k : Fin 4} {x : Int32} (d : decode cc pc = .ok (.iload_n k, 1)) (j : Nat) (hj : lv[j]? = some ((k : Nat), .int x)) (kk : fm_G X Y cs nL M (pc + 1) lv (.int x :: st)) : fm_G X Y cs nL M pc lv st := fun H locs ls hP hS hl => lv_iload_n F.exec F.bytes d rfl (lv_at hl j hj) (kk H locs ls hP hS hl)
theorem fm_iload (F : fm_F X Y cc nL own R0) {i : Nat} {x : Int32} (d : decode cc pc = .ok (.iload i, 2)) (j : Nat) (hj : lv[j]? = some (i, .int x)) (kk : fm_G X Y cs nL M (pc + 2) lv (.int x :: st)) : fm_G X Y cs nL M pc lv st := fun H locs ls hP hS hl => lv_iload F.exec F.bytes d (lv_at hl j hj) (kk H locs ls hP hS hl)
theorem fm_istore_n (F : fm_F X Y cc nL own R0) {k : Fin 4} {i : Nat} {x : Int32} {lv' : List (Nat × Value)} (d : decode cc pc = .ok (.istore_n k, 1)) (hi : (k : Nat) = i) (hn : i < nL) (hl' : (i, Value.int x) :: lv.filter (fun q => !(q.1 == i) && !(q.1 + 1 == i && q.2.category == 2)) = lv') (kk : fm_G X Y cs nL M (pc + 1) lv' st) : fm_G X Y cs nL M pc lv (.int x :: st) := fun H locs ls hP hS hl => lv_istore_n F.exec F.bytes d hi hl hn hl' (fun ls' h' => kk H locs ls' hP hS h')
theorem fm_istore (F : fm_F X Y cc nL own R0) {i : Nat} {x : Int32} {lv' : List (Nat × Value)} (d : decode cc pc = .ok (.istore i, 2)) (hn : i < nL) (hl' : (i, Value.int x) :: lv.filter (fun q => !(q.1 == i) && !(q.1 + 1 == i && q.2.category == 2)) = lv') (kk : fm_G X Y cs nL M (pc + 2) lv' st) : fm_G X Y cs nL M pc lv (.int x :: st) := fun H locs ls hP hS hl => lv_istore F.exec F.bytes d hl hn hl' (fun ls' h' => kk H locs ls' hP hS h')
theorem fm_lload_n (F : fm_F X Y cc nL own R0) {k : Fin 4} {x : Int64} (d : decode cc pc = .ok (.lload_n k, 1)) (j : Nat) (hj : lv[j]? = some ((k : Nat), .long x)) (kk : fm_G X Y cs nL M (pc + 1) lv (.long x :: st)) : fm_G X Y cs nL M pc lv st := fun H locs ls hP hS hl => lv_lload_n F.exec F.bytes d rfl (lv_at hl j hj) (kk H locs ls hP hS hl)
theorem fm_lload (F : fm_F X Y cc nL own R0) {i : Nat} {x : Int64} (d : decode cc pc = .ok (.lload i, 2)) (j : Nat) (hj : lv[j]? = some (i, .long x)) (kk : fm_G X Y cs nL M (pc + 2) lv (.long x :: st)) : fm_G X Y cs nL M pc lv st := fun H locs ls hP hS hl => lv_lload F.exec F.bytes d (lv_at hl j hj) (kk H locs ls hP hS hl)
theorem fm_lstore_n (F : fm_F X Y cc nL own R0) {k : Fin 4} {i : Nat} {x : Int64} {lv' : List (Nat × Value)} (d : decode cc pc = .ok (.lstore_n k, 1)) (hi : (k : Nat) = i) (hn : i + 1 < nL) (hl' : (i, Value.long x) :: lv.filter (fun q => !(q.1 == i) && (!(q.1 == i + 1) && !(q.1 + 1 == i && q.2.category == 2))) = lv') (kk : fm_G X Y cs nL M (pc + 1) lv' st) : fm_G X Y cs nL M pc lv (.long x :: st) := fun H locs ls hP hS hl => lv_lstore_n F.exec F.bytes d hi hl hn hl' (fun ls' h' => kk H locs ls' hP hS h')
theorem fm_lstore (F : fm_F X Y cc nL own R0) {i : Nat} {x : Int64} {lv' : List (Nat × Value)} (d : decode cc pc = .ok (.lstore i, 2)) (hn : i + 1 < nL) (hl' : (i, Value.long x) :: lv.filter (fun q => !(q.1 == i) && (!(q.1 == i + 1) && !(q.1 + 1 == i && q.2.category == 2))) = lv') (kk : fm_G X Y cs nL M (pc + 2) lv' st) : fm_G X Y cs nL M pc lv (.long x :: st) := fun H locs ls hP hS hl => lv_lstore F.exec F.bytes d hl hn hl' (fun ls' h' => kk H locs ls' hP hS h')
theorem fm_aload_n (F : fm_F X Y cc nL own R0) {k : Fin 4} {x : Nat} (d : decode cc pc = .ok (.aload_n k, 1)) (j : Nat) (hj : lv[j]? = some ((k : Nat), .ref x)) (kk : fm_G X Y cs nL M (pc + 1) lv (.ref x :: st)) : fm_G X Y cs nL M pc lv st := fun H locs ls hP hS hl => lv_aload_n F.exec F.bytes d rfl (lv_at hl j hj) (kk H locs ls hP hS hl)
theorem fm_aload (F : fm_F X Y cc nL own R0) {i : Nat} {x : Nat} (d : decode cc pc = .ok (.aload i, 2)) (j : Nat) (hj : lv[j]? = some (i, .ref x)) (kk : fm_G X Y cs nL M (pc + 2) lv (.ref x :: st)) : fm_G X Y cs nL M pc lv st := fun H locs ls hP hS hl => lv_aload F.exec F.bytes d (lv_at hl j hj) (kk H locs ls hP hS hl)
theorem fm_astore_n (F : fm_F X Y cc nL own R0) {k : Fin 4} {i : Nat} {x : Nat} {lv' : List (Nat × Value)} (d : decode cc pc = .ok (.astore_n k, 1)) (hi : (k : Nat) = i) (hn : i < nL) (hl' : (i, Value.ref x) :: lv.filter (fun q => !(q.1 == i) && !(q.1 + 1 == i && q.2.category == 2)) = lv') (kk : fm_G X Y cs nL M (pc + 1) lv' st) : fm_G X Y cs nL M pc lv (.ref x :: st) := fun H locs ls hP hS hl => lv_astore_n F.exec F.bytes d hi hl hn hl' (fun ls' h' => kk H locs ls' hP hS h')
theorem fm_astore (F : fm_F X Y cc nL own R0) {i : Nat} {x : Nat} {lv' : List (Nat × Value)} (d : decode cc pc = .ok (.astore i, 2)) (hn : i < nL) (hl' : (i, Value.ref x) :: lv.filter (fun q => !(q.1 == i) && !(q.1 + 1 == i && q.2.category == 2)) = lv') (kk : fm_G X Y cs nL M (pc + 2) lv' st) : fm_G X Y cs nL M pc lv (.ref x :: st) := fun H locs ls hP hS hl => lv_astore F.exec F.bytes d hl hn hl' (fun ls' h' => kk H locs ls' hP hS h')
theorem fm_iinc (F : fm_F X Y cc nL own R0) {i : Nat} {n : Int} {x v : Int32} {lv' : List (Nat × Value)} (d : decode cc pc = .ok (.iinc i n, 3)) (j : Nat) (hj : lv[j]? = some (i, .int x)) (hv : x + Int32.ofInt n = v) (hn : i < nL) (hl' : (i, Value.int v) :: lv.filter (fun q => !(q.1 == i) && !(q.1 + 1 == i && q.2.category == 2)) = lv') (kk : fm_G X Y cs nL M (pc + 3) lv' st) : fm_G X Y cs nL M pc lv st := fun H locs ls hP hS hl => lv_iinc F.exec F.bytes d hl hj hv hn hl' (fun ls' h' => kk H locs ls' hP hS h')
theorem fm_iadd (F : fm_F X Y cc nL own R0) {x y : Int32} (d : decode cc pc = .ok (.iadd, 1)) (k : fm_G X Y cs nL M (pc + 1) lv (.int (x + y) :: st)) : fm_G X Y cs nL M pc lv (.int y :: .int x :: st) := fun H locs ls hP hS hl => lv_iadd F.exec F.bytes d (k H locs ls hP hS hl)
theorem fm_isub (F : fm_F X Y cc nL own R0) {x y : Int32} (d : decode cc pc = .ok (.isub, 1)) (k : fm_G X Y cs nL M (pc + 1) lv (.int (x - y) :: st)) : fm_G X Y cs nL M pc lv (.int y :: .int x :: st) := fun H locs ls hP hS hl => lv_isub F.exec F.bytes d (k H locs ls hP hS hl)
theorem fm_imul (F : fm_F X Y cc nL own R0) {x y : Int32} (d : decode cc pc = .ok (.imul, 1)) (k : fm_G X Y cs nL M (pc + 1) lv (.int (x * y) :: st)) : fm_G X Y cs nL M pc lv (.int y :: .int x :: st) := fun H locs ls hP hS hl => lv_imul F.exec F.bytes d (k H locs ls hP hS hl)
theorem fm_iand (F : fm_F X Y cc nL own R0) {x y : Int32} (d : decode cc pc = .ok (.iand, 1)) (k : fm_G X Y cs nL M (pc + 1) lv (.int (x &&& y) :: st)) : fm_G X Y cs nL M pc lv (.int y :: .int x :: st) := fun H locs ls hP hS hl => lv_iand F.exec F.bytes d (k H locs ls hP hS hl)
theorem fm_ior (F : fm_F X Y cc nL own R0) {x y : Int32} (d : decode cc pc = .ok (.ior, 1)) (k : fm_G X Y cs nL M (pc + 1) lv (.int (x ||| y) :: st)) : fm_G X Y cs nL M pc lv (.int y :: .int x :: st) := fun H locs ls hP hS hl => lv_ior F.exec F.bytes d (k H locs ls hP hS hl)
theorem fm_ixor (F : fm_F X Y cc nL own R0) {x y : Int32} (d : decode cc pc = .ok (.ixor, 1)) (k : fm_G X Y cs nL M (pc + 1) lv (.int (x ^^^ y) :: st)) : fm_G X Y cs nL M pc lv (.int y :: .int x :: st) := fun H locs ls hP hS hl => lv_ixor F.exec F.bytes d (k H locs ls hP hS hl)
theorem fm_ishl (F : fm_F X Y cc nL own R0) {x y : Int32} (d : decode cc pc = .ok (.ishl, 1)) (k : fm_G X Y cs nL M (pc + 1) lv (.int (x <<< (y &&& 31)) :: st)) : fm_G X Y cs nL M pc lv (.int y :: .int x :: st) := fun H locs ls hP hS hl => lv_ishl F.exec F.bytes d (k H locs ls hP hS hl)
theorem fm_ishr (F : fm_F X Y cc nL own R0) {x y : Int32} (d : decode cc pc = .ok (.ishr, 1)) (k : fm_G X Y cs nL M (pc + 1) lv (.int (x >>> (y &&& 31)) :: st)) : fm_G X Y cs nL M pc lv (.int y :: .int x :: st) := fun H locs ls hP hS hl => lv_ishr F.exec F.bytes d (k H locs ls hP hS hl)
theorem fm_idiv (F : fm_F X Y cc nL own R0) {x y : Int32} (d : decode cc pc = .ok (.idiv, 1)) (hne : ¬ y = 0) (k : fm_G X Y cs nL M (pc + 1) lv (.int (x / y) :: st)) : fm_G X Y cs nL M pc lv (.int y :: .int x :: st) := fun H locs ls hP hS hl => lv_idiv F.exec F.bytes d hne (k H locs ls hP hS hl)
theorem fm_irem (F : fm_F X Y cc nL own R0) {x y : Int32} (d : decode cc pc = .ok (.irem, 1)) (hne : ¬ y = 0) (k : fm_G X Y cs nL M (pc + 1) lv (.int (x - x / y * y) :: st)) : fm_G X Y cs nL M pc lv (.int y :: .int x :: st) := fun H locs ls hP hS hl => lv_irem F.exec F.bytes d hne (k H locs ls hP hS hl)
theorem fm_ladd (F : fm_F X Y cc nL own R0) {x y : Int64} (d : decode cc pc = .ok (.ladd, 1)) (k : fm_G X Y cs nL M (pc + 1) lv (.long (x + y) :: st)) : fm_G X Y cs nL M pc lv (.long y :: .long x :: st) := fun H locs ls hP hS hl => lv_ladd F.exec F.bytes d (k H locs ls hP hS hl)
theorem fm_lsub (F : fm_F X Y cc nL own R0) {x y : Int64} (d : decode cc pc = .ok (.lsub, 1)) (k : fm_G X Y cs nL M (pc + 1) lv (.long (x - y) :: st)) : fm_G X Y cs nL M pc lv (.long y :: .long x :: st) := fun H locs ls hP hS hl => lv_lsub F.exec F.bytes d (k H locs ls hP hS hl)
theorem fm_lmul (F : fm_F X Y cc nL own R0) {x y : Int64} (d : decode cc pc = .ok (.lmul, 1)) (k : fm_G X Y cs nL M (pc + 1) lv (.long (x * y) :: st)) : fm_G X Y cs nL M pc lv (.long y :: .long x :: st) := fun H locs ls hP hS hl => lv_lmul F.exec F.bytes d (k H locs ls hP hS hl)
theorem fm_ldiv (F : fm_F X Y cc nL own R0) {x y : Int64} (d : decode cc pc = .ok (.ldiv, 1)) (hne : ¬ y = 0) (k : fm_G X Y cs nL M (pc + 1) lv (.long (x / y) :: st)) : fm_G X Y cs nL M pc lv (.long y :: .long x :: st) := fun H locs ls hP hS hl => lv_ldiv F.exec F.bytes d hne (k H locs ls hP hS hl)
theorem fm_lrem (F : fm_F X Y cc nL own R0) {x y : Int64} (d : decode cc pc = .ok (.lrem, 1)) (hne : ¬ y = 0) (k : fm_G X Y cs nL M (pc + 1) lv (.long (x - x / y * y) :: st)) : fm_G X Y cs nL M pc lv (.long y :: .long x :: st) := fun H locs ls hP hS hl => lv_lrem F.exec F.bytes d hne (k H locs ls hP hS hl)
theorem fm_ineg (F : fm_F X Y cc nL own R0) {x : Int32} (d : decode cc pc = .ok (.ineg, 1)) (k : fm_G X Y cs nL M (pc + 1) lv (.int (-x) :: st)) : fm_G X Y cs nL M pc lv (.int x :: st) := fun H locs ls hP hS hl => lv_ineg F.exec F.bytes d (k H locs ls hP hS hl)
theorem fm_i2l (F : fm_F X Y cc nL own R0) {x : Int32} (d : decode cc pc = .ok (.i2l, 1)) (k : fm_G X Y cs nL M (pc + 1) lv (.long x.toInt64 :: st)) : fm_G X Y cs nL M pc lv (.int x :: st) := fun H locs ls hP hS hl => lv_i2l F.exec F.bytes d rfl (k H locs ls hP hS hl)
theorem fm_l2i (F : fm_F X Y cc nL own R0) {x : Int64} (d : decode cc pc = .ok (.l2i, 1)) (k : fm_G X Y cs nL M (pc + 1) lv (.int x.toInt32 :: st)) : fm_G X Y cs nL M pc lv (.long x :: st) := fun H locs ls hP hS hl => lv_l2i F.exec F.bytes d rfl (k H locs ls hP hS hl)
theorem fm_i2b (F : fm_F X Y cc nL own R0) {x : Int32} (d : decode cc pc = .ok (.i2b, 1)) (k : fm_G X Y cs nL M (pc + 1) lv (.int x.toInt8.toInt32 :: st)) : fm_G X Y cs nL M pc lv (.int x :: st) := fun H locs ls hP hS hl => lv_i2b F.exec F.bytes d rfl (k H locs ls hP hS hl)
theorem fm_dup (F : fm_F X Y cc nL own R0) {va : Value} (d : decode cc pc = .ok (.dup, 1)) (hva : va.category = 1) (k : fm_G X Y cs nL M (pc + 1) lv (va :: va :: st)) : fm_G X Y cs nL M pc lv (va :: st) := fun H locs ls hP hS hl => lv_dup F.exec F.bytes d hva (k H locs ls hP hS hl)
theorem fm_pop (F : fm_F X Y cc nL own R0) {va : Value} (d : decode cc pc = .ok (.pop, 1)) (hva : va.category = 1) (k : fm_G X Y cs nL M (pc + 1) lv (st)) : fm_G X Y cs nL M pc lv (va :: st) := fun H locs ls hP hS hl => lv_pop F.exec F.bytes d hva (k H locs ls hP hS hl)
theorem fm_dup2_11 (F : fm_F X Y cc nL own R0) {va vb : Value} (d : decode cc pc = .ok (.dup2, 1)) (hva : va.category = 1) (hvb : vb.category = 1) (k : fm_G X Y cs nL M (pc + 1) lv (va :: vb :: va :: vb :: st)) : fm_G X Y cs nL M pc lv (va :: vb :: st) := fun H locs ls hP hS hl => lv_dup2_11 F.exec F.bytes d hva hvb (k H locs ls hP hS hl)
theorem fm_dup_x1 (F : fm_F X Y cc nL own R0) {va vb : Value} (d : decode cc pc = .ok (.dup_x1, 1)) (hva : va.category = 1) (hvb : vb.category = 1) (k : fm_G X Y cs nL M (pc + 1) lv (va :: vb :: va :: st)) : fm_G X Y cs nL M pc lv (va :: vb :: st) := fun H locs ls hP hS hl => lv_dup_x1 F.exec F.bytes d hva hvb (k H locs ls hP hS hl)
theorem fm_if_eq (F : fm_F X Y cc nL own R0) {x : Int32} {off : Int} {tgt : Nat} (d : decode cc pc = .ok (.ifCond .eq off, 3)) (ht : (pc : Int) + off = (tgt : Int)) (kt : x = 0 → fm_G X Y cs nL M tgt lv st) (kf : ¬ x = 0 → fm_G X Y cs nL M (pc + 3) lv st) : fm_G X Y cs nL M pc lv (.int x :: st) := fun H locs ls hP hS hl => lv_if_eq F.exec F.bytes d ht (fun q => kt q H locs ls hP hS hl) (fun q => kf q H locs ls hP hS hl)
theorem fm_icmp_eq (F : fm_F X Y cc nL own R0) {x y : Int32} {off : Int} {tgt : Nat} (d : decode cc pc = .ok (.if_icmp .eq off, 3)) (ht : (pc : Int) + off = (tgt : Int)) (kt : x = y → fm_G X Y cs nL M tgt lv st) (kf : ¬ x = y → fm_G X Y cs nL M (pc + 3) lv st) : fm_G X Y cs nL M pc lv (.int y :: .int x :: st) := fun H locs ls hP hS hl => lv_icmp_eq F.exec F.bytes d ht (fun q => kt q H locs ls hP hS hl) (fun q => kf q H locs ls hP hS hl)
theorem fm_if_ne (F : fm_F X Y cc nL own R0) {x : Int32} {off : Int} {tgt : Nat} (d : decode cc pc = .ok (.ifCond .ne off, 3)) (ht : (pc : Int) + off = (tgt : Int)) (kt : ¬ x = 0 → fm_G X Y cs nL M tgt lv st) (kf : x = 0 → fm_G X Y cs nL M (pc + 3) lv st) : fm_G X Y cs nL M pc lv (.int x :: st) := fun H locs ls hP hS hl => lv_if_ne F.exec F.bytes d ht (fun q => kt q H locs ls hP hS hl) (fun q => kf q H locs ls hP hS hl)
theorem fm_icmp_ne (F : fm_F X Y cc nL own R0) {x y : Int32} {off : Int} {tgt : Nat} (d : decode cc pc = .ok (.if_icmp .ne off, 3)) (ht : (pc : Int) + off = (tgt : Int)) (kt : ¬ x = y → fm_G X Y cs nL M tgt lv st) (kf : x = y → fm_G X Y cs nL M (pc + 3) lv st) : fm_G X Y cs nL M pc lv (.int y :: .int x :: st) := fun H locs ls hP hS hl => lv_icmp_ne F.exec F.bytes d ht (fun q => kt q H locs ls hP hS hl) (fun q => kf q H locs ls hP hS hl)
theorem fm_if_lt (F : fm_F X Y cc nL own R0) {x : Int32} {off : Int} {tgt : Nat} (d : decode cc pc = .ok (.ifCond .lt off, 3)) (ht : (pc : Int) + off = (tgt : Int)) (kt : x < 0 → fm_G X Y cs nL M tgt lv st) (kf : ¬ x < 0 → fm_G X Y cs nL M (pc + 3) lv st) : fm_G X Y cs nL M pc lv (.int x :: st) := fun H locs ls hP hS hl => lv_if_lt F.exec F.bytes d ht (fun q => kt q H locs ls hP hS hl) (fun q => kf q H locs ls hP hS hl)
theorem fm_icmp_lt (F : fm_F X Y cc nL own R0) {x y : Int32} {off : Int} {tgt : Nat} (d : decode cc pc = .ok (.if_icmp .lt off, 3)) (ht : (pc : Int) + off = (tgt : Int)) (kt : x < y → fm_G X Y cs nL M tgt lv st) (kf : ¬ x < y → fm_G X Y cs nL M (pc + 3) lv st) : fm_G X Y cs nL M pc lv (.int y :: .int x :: st) := fun H locs ls hP hS hl => lv_icmp_lt F.exec F.bytes d ht (fun q => kt q H locs ls hP hS hl) (fun q => kf q H locs ls hP hS hl)
theorem fm_if_ge (F : fm_F X Y cc nL own R0) {x : Int32} {off : Int} {tgt : Nat} (d : decode cc pc = .ok (.ifCond .ge off, 3)) (ht : (pc : Int) + off = (tgt : Int)) (kt : 0 ≤ x → fm_G X Y cs nL M tgt lv st) (kf : ¬ 0 ≤ x → fm_G X Y cs nL M (pc + 3) lv st) : fm_G X Y cs nL M pc lv (.int x :: st) := fun H locs ls hP hS hl => lv_if_ge F.exec F.bytes d ht (fun q => kt q H locs ls hP hS hl) (fun q => kf q H locs ls hP hS hl)
theorem fm_icmp_ge (F : fm_F X Y cc nL own R0) {x y : Int32} {off : Int} {tgt : Nat} (d : decode cc pc = .ok (.if_icmp .ge off, 3)) (ht : (pc : Int) + off = (tgt : Int)) (kt : y ≤ x → fm_G X Y cs nL M tgt lv st) (kf : ¬ y ≤ x → fm_G X Y cs nL M (pc + 3) lv st) : fm_G X Y cs nL M pc lv (.int y :: .int x :: st) := fun H locs ls hP hS hl => lv_icmp_ge F.exec F.bytes d ht (fun q => kt q H locs ls hP hS hl) (fun q => kf q H locs ls hP hS hl)
theorem fm_if_gt (F : fm_F X Y cc nL own R0) {x : Int32} {off : Int} {tgt : Nat} (d : decode cc pc = .ok (.ifCond .gt off, 3)) (ht : (pc : Int) + off = (tgt : Int)) (kt : 0 < x → fm_G X Y cs nL M tgt lv st) (kf : ¬ 0 < x → fm_G X Y cs nL M (pc + 3) lv st) : fm_G X Y cs nL M pc lv (.int x :: st) := fun H locs ls hP hS hl => lv_if_gt F.exec F.bytes d ht (fun q => kt q H locs ls hP hS hl) (fun q => kf q H locs ls hP hS hl)
theorem fm_icmp_gt (F : fm_F X Y cc nL own R0) {x y : Int32} {off : Int} {tgt : Nat} (d : decode cc pc = .ok (.if_icmp .gt off, 3)) (ht : (pc : Int) + off = (tgt : Int)) (kt : y < x → fm_G X Y cs nL M tgt lv st) (kf : ¬ y < x → fm_G X Y cs nL M (pc + 3) lv st) : fm_G X Y cs nL M pc lv (.int y :: .int x :: st) := fun H locs ls hP hS hl => lv_icmp_gt F.exec F.bytes d ht (fun q => kt q H locs ls hP hS hl) (fun q => kf q H locs ls hP hS hl)
theorem fm_if_le (F : fm_F X Y cc nL own R0) {x : Int32} {off : Int} {tgt : Nat} (d : decode cc pc = .ok (.ifCond .le off, 3)) (ht : (pc : Int) + off = (tgt : Int)) (kt : x ≤ 0 → fm_G X Y cs nL M tgt lv st) (kf : ¬ x ≤ 0 → fm_G X Y cs nL M (pc + 3) lv st) : fm_G X Y cs nL M pc lv (.int x :: st) := fun H locs ls hP hS hl => lv_if_le F.exec F.bytes d ht (fun q => kt q H locs ls hP hS hl) (fun q => kf q H locs ls hP hS hl)
theorem fm_icmp_le (F : fm_F X Y cc nL own R0) {x y : Int32} {off : Int} {tgt : Nat} (d : decode cc pc = .ok (.if_icmp .le off, 3)) (ht : (pc : Int) + off = (tgt : Int)) (kt : x ≤ y → fm_G X Y cs nL M tgt lv st) (kf : ¬ x ≤ y → fm_G X Y cs nL M (pc + 3) lv st) : fm_G X Y cs nL M pc lv (.int y :: .int x :: st) := fun H locs ls hP hS hl => lv_icmp_le F.exec F.bytes d ht (fun q => kt q H locs ls hP hS hl) (fun q => kf q H locs ls hP hS hl)
theorem fm_goto (F : fm_F X Y cc nL own R0) {off : Int} {tgt : Nat} (d : decode cc pc = .ok (.goto off, 3)) (ht : (pc : Int) + off = (tgt : Int)) (k : fm_G X Y cs nL M tgt lv st) : fm_G X Y cs nL M pc lv st := fun H locs ls hP hS hl => lv_goto F.exec F.bytes d ht (k H locs ls hP hS hl)
theorem fm_ldc (F : fm_F X Y cc nL own R0) {index : Nat} {v : Int32} (d : decode cc pc = .ok (.ldc index, 2)) (h : Cond.constant own index v ∈ lw_all) (k : fm_G X Y cs nL M (pc + 2) lv (.int v :: st)) : fm_G X Y cs nL M pc lv st := fun H locs ls hP hS hl => lv_ldc F.exec F.bytes F.ownC (F.words _ h) d (k H locs ls hP hS hl)
theorem fm_ldc2 (F : fm_F X Y cc nL own R0) {index : Nat} {v : Int64} (d : decode cc pc = .ok (.ldc2_w index, 3)) (h : Cond.constantLong own index v ∈ lw_all) (k : fm_G X Y cs nL M (pc + 3) lv (.long v :: st)) : fm_G X Y cs nL M pc lv st := fun H locs ls hP hS hl => lv_ldc2 F.exec F.bytes F.ownC (F.words _ h) d (k H locs ls hP hS hl)
/-! fields -/
def fm_cls (ci : Nat) (C : String) (T : u_T) (n : Nat) (ty : Nat → FieldType) : Prop := fm_cl[ci]? = some (C, T, n) ∧ (∀ w ∈ u_ws C T n, w ∈ lw_all) ∧ (∀ k, k < n → parseFieldDescriptor (T k).2.2.1 = some (ty k)) ∧ (∀ a, a < n → ∀ b, b < n → a ≠ b → (T a).2.1 ≠ (T b).2.1)
theorem fm_get (F : fm_F X Y cc nL own R0) {ci n : Nat} {C : String} {T : u_T} (hc : fm_cl[ci]? = some (C, T, n)) (hin : ∀ w ∈ u_ws C T n, w ∈ lw_all) (k : Nat) (hk : k < n) {index : Nat} (d : decode cc pc = .ok (.getfield index, 3)) (h : Cond.fieldLink own index (T k).1 (T k).2.1 (T k).2.2.1 ∈ lw_all)
    (id : Nat) (hid : id < yN Y) {fs : List Value} (he : ymk Y id (M.1 id) M.2 = .inr (ci, fs)) {v : Value} (hv : fs[k]? = some v) (kk : fm_G X Y cs nL M (pc + 3) lv (v :: st)) : fm_G X Y cs nL M pc lv (.ref (yad Y id) :: st) := fun H locs ls hP hS hl =>
  va_get F.exec F.bytes F.words hin F.ownC F.kn hP id (by rw [fm_ws_get hid, he]) hc k hk (F.words _ h) (fun _ h9 => h9) hv d (kk H locs ls hP hS hl)
theorem fm_getN (F : fm_F X Y cc nL own R0) {ci n : Nat} {C host : String} {T : u_T} (hc : fm_cl[ci]? = some (C, T, n)) (hin : ∀ w ∈ u_ws C T n, w ∈ lw_all) (k : Nat) (hk : k < n) {index : Nat} (d : decode cc pc = .ok (.getfield index, 3)) (h : Cond.fieldLinkNest own index (T k).1 (T k).2.1 (T k).2.2.1 host ∈ lw_tbl)
    (id : Nat) (hid : id < yN Y) {fs : List Value} (he : ymk Y id (M.1 id) M.2 = .inr (ci, fs)) {v : Value} (hv : fs[k]? = some v) (kk : fm_G X Y cs nL M (pc + 3) lv (v :: st)) : fm_G X Y cs nL M pc lv (.ref (yad Y id) :: st) := fun H locs ls hP hS hl =>
  va_getN F.exec F.bytes F.words hin F.ownC F.kn hP id (by rw [fm_ws_get hid, he]) hc k hk (va_Nw.use rfl (F.nest h rfl)) (fun _ h9 => h9) hv d (kk H locs ls hP hS hl)
theorem fm_put (F : fm_F X Y cc nL own R0) {ci n : Nat} {C : String} {T : u_T} {ty0 : Nat → FieldType} (hc : fm_cls ci C T n ty0) (k : Nat) (hk : k < n) {index : Nat} {v : Value} {ty : FieldType} (d : decode cc pc = .ok (.putfield index, 3)) (h : Cond.fieldLink own index (T k).1 (T k).2.1 (T k).2.2.1 ∈ lw_all)
    (hfin : (T k).2.2.2 = false) (hd : parseFieldDescriptor (T k).2.2.1 = some ty) (hn : narrow ty v = v) (hfit : fits ty v = true) (id : Nat) (hid : id < yN Y) {fs : List Value} (he : ymk Y id (M.1 id) M.2 = .inr (ci, fs)) (hl0 : k < fs.length) {M' : fm_M} (hM : (fm_ws (yN Y) (yad Y) (ymk Y) M).set id (yad Y id, .inr (ci, fs.set k v)) = fm_ws (yN Y) (yad Y) (ymk Y) M')
    (kk : fm_G X Y cs nL M' (pc + 3) lv st) : fm_G X Y cs nL M pc lv (v :: .ref (yad Y id) :: st) := fun H locs ls hP hS hl =>
  va_put F.exec F.bytes F.words hc.2.1 ty0 hc.2.2.1 hc.2.2.2 F.ownC F.kn hP F.apart hS id (by rw [fm_ws_get hid, he]) hc.1 k hk (F.words _ h) (fun _ h9 => h9) hfin hd hn hfit hl0 d (fun H1 locs1 hP1 _ hS1 => kk H1 locs1 ls (by rw [hM] at hP1; exact hP1) hS1 hl)
theorem fm_putN (F : fm_F X Y cc nL own R0) {ci n : Nat} {C host : String} {T : u_T} {ty0 : Nat → FieldType} (hc : fm_cls ci C T n ty0) (k : Nat) (hk : k < n) {index : Nat} {v : Value} {ty : FieldType} (d : decode cc pc = .ok (.putfield index, 3)) (h : Cond.fieldLinkNest own index (T k).1 (T k).2.1 (T k).2.2.1 host ∈ lw_tbl)
    (hfin : (T k).2.2.2 = false) (hd : parseFieldDescriptor (T k).2.2.1 = some ty) (hn : narrow ty v = v) (hfit : fits ty v = true) (id : Nat) (hid : id < yN Y) {fs : List Value} (he : ymk Y id (M.1 id) M.2 = .inr (ci, fs)) (hl0 : k < fs.length) {M' : fm_M} (hM : (fm_ws (yN Y) (yad Y) (ymk Y) M).set id (yad Y id, .inr (ci, fs.set k v)) = fm_ws (yN Y) (yad Y) (ymk Y) M')
    (kk : fm_G X Y cs nL M' (pc + 3) lv st) : fm_G X Y cs nL M pc lv (v :: .ref (yad Y id) :: st) := fun H locs ls hP hS hl =>
  va_putN F.exec F.bytes F.words hc.2.1 ty0 hc.2.2.1 hc.2.2.2 F.ownC F.kn hP F.apart hS id (by rw [fm_ws_get hid, he]) hc.1 k hk (va_Nw.use rfl (F.nest h rfl)) (fun _ h9 => h9) hfin hd hn hfit hl0 d (fun H1 locs1 hP1 _ hS1 => kk H1 locs1 ls (by rw [hM] at hP1; exact hP1) hS1 hl)
/-- what a put of an int changes -/
theorem fm_setI {ci : Nat} {fs : List Value} {id k : Nat} {v : Int32} (he : ymk Y id (upd (M.1 id) k v) M.2 = .inr (ci, fs.set k (.int v))) : (fm_ws (yN Y) (yad Y) (ymk Y) M).set id (yad Y id, .inr (ci, fs.set k (.int v))) = fm_ws (yN Y) (yad Y) (ymk Y) (fm_wr M id k v) := by
  rw [← he]
  exact fm_ws_row id _
theorem fm_setL {ci : Nat} {fs : List Value} {id k : Nat} {v : Int64} (he : ymk Y id (M.1 id) v = .inr (ci, fs.set k (.long v))) (hz : ∀ i, i ≠ id → ∀ r t, ymk Y i r t = ymk Y i r M.2) : (fm_ws (yN Y) (yad Y) (ymk Y) M).set id (yad Y id, .inr (ci, fs.set k (.long v))) = fm_ws (yN Y) (yad Y) (ymk Y) (fm_wl M v) := by
  rw [← he]
  exact fm_ws_long id v hz
/-! arrays -/
def fm_b {α : Type} (i : Int32) (n : Nat) (k : Option α) : Option α := if 0 ≤ i.toInt ∧ i.toInt < n then k else none
theorem fm_b_inv {α : Type} {i : Int32} {n : Nat} {k : Option α} {r : α} (h : fm_b i n k = some r) : vp_in i n ∧ k = some r := by
  unfold fm_b at h
  by_cases c : 0 ≤ i.toInt ∧ i.toInt < n
  · rw [if_pos c] at h
    exact ⟨vp_in_iff.mpr c, h⟩
  · rw [if_neg c] at h
    cases h
theorem fm_iald (F : fm_F X Y cc nL own R0) (d : decode cc pc = .ok (.iaload, 1)) (id : Nat) (hid : id < yN Y) {n : Nat} (he : ymk Y id (M.1 id) M.2 = .inl (yA Y 0, n, .inl (M.1 id))) {i : Int32} (hi : vp_in i n) (kk : fm_G X Y cs nL M (pc + 1) lv (.int (M.1 id i.toNatClampNeg) :: st)) : fm_G X Y cs nL M pc lv (.int i :: .ref (yad Y id) :: st) := fun H locs ls hP hS hl =>
  va_iald F.exec F.bytes F.kn hP id 0 (by rw [fm_ws_get hid, he]) rfl hi d (kk H locs ls hP hS hl)
theorem fm_zald (F : fm_F X Y cc nL own R0) (d : decode cc pc = .ok (.baload, 1)) (id : Nat) (hid : id < yN Y) {n : Nat} (he : ymk Y id (M.1 id) M.2 = .inl (yA Y 1, n, .inl (M.1 id))) {i : Int32} (hi : vp_in i n) (kk : fm_G X Y cs nL M (pc + 1) lv (.int (M.1 id i.toNatClampNeg) :: st)) : fm_G X Y cs nL M pc lv (.int i :: .ref (yad Y id) :: st) := fun H locs ls hP hS hl =>
  va_zald F.exec F.bytes F.kn hP id 1 (by rw [fm_ws_get hid, he]) rfl hi d (kk H locs ls hP hS hl)
theorem fm_bald (F : fm_F X Y cc nL own R0) (d : decode cc pc = .ok (.baload, 1)) (id : Nat) (hid : id < yN Y) {n : Nat} (he : ymk Y id (M.1 id) M.2 = .inl (yA Y 2, n, .inl (M.1 id))) {i : Int32} (hi : vp_in i n) (kk : fm_G X Y cs nL M (pc + 1) lv (.int (M.1 id i.toNatClampNeg) :: st)) : fm_G X Y cs nL M pc lv (.int i :: .ref (yad Y id) :: st) := fun H locs ls hP hS hl =>
  va_bald F.exec F.bytes F.kn hP id 2 (by rw [fm_ws_get hid, he]) rfl hi d (kk H locs ls hP hS hl)
theorem fm_iast (F : fm_F X Y cc nL own R0) (d : decode cc pc = .ok (.iastore, 1)) (id : Nat) (hid : id < yN Y) {n : Nat} (he : ∀ r, ymk Y id r M.2 = .inl (yA Y 0, n, .inl r)) {i x : Int32} (hi : vp_in i n) (kk : fm_G X Y cs nL (fm_wr M id i.toNatClampNeg x) (pc + 1) lv st) : fm_G X Y cs nL M pc lv (.int x :: .int i :: .ref (yad Y id) :: st) := fun H locs ls hP hS hl =>
  va_iast F.exec F.bytes F.kn hP F.apart hS id 0 (by rw [fm_ws_get hid, he]) rfl hi d (fun H1 locs1 hP1 _ hS1 => kk H1 locs1 ls (by rw [← he, fm_ws_row] at hP1; exact hP1) hS1 hl)
theorem fm_bast (F : fm_F X Y cc nL own R0) (d : decode cc pc = .ok (.bastore, 1)) (id : Nat) (hid : id < yN Y) {n : Nat} (he : ∀ r, ymk Y id r M.2 = .inl (yA Y 2, n, .inl r)) {i x : Int32} (hi : vp_in i n) (kk : fm_G X Y cs nL (fm_wr M id i.toNatClampNeg x.toInt8.toInt32) (pc + 1) lv st) : fm_G X Y cs nL M pc lv (.int x :: .int i :: .ref (yad Y id) :: st) := fun H locs ls hP hS hl =>
  va_bast F.exec F.bytes F.kn hP F.apart hS id 2 (by rw [fm_ws_get hid, he]) rfl hi d (fun H1 locs1 hP1 _ hS1 => kk H1 locs1 ls (by rw [← he, fm_ws_row, vp_nar_byte] at hP1; exact hP1) hS1 hl)
theorem fm_zast (F : fm_F X Y cc nL own R0) (d : decode cc pc = .ok (.bastore, 1)) (id : Nat) (hid : id < yN Y) {n : Nat} (he : ∀ r, ymk Y id r M.2 = .inl (yA Y 1, n, .inl r)) {i x : Int32} (hi : vp_in i n) (hx : vp_nar .boolean x = x) (kk : fm_G X Y cs nL (fm_wr M id i.toNatClampNeg x) (pc + 1) lv st) : fm_G X Y cs nL M pc lv (.int x :: .int i :: .ref (yad Y id) :: st) := fun H locs ls hP hS hl =>
  va_zast F.exec F.bytes F.kn hP F.apart hS id 1 (by rw [fm_ws_get hid, he]) rfl hi d (fun H1 locs1 hP1 _ hS1 => kk H1 locs1 ls (by rw [← he, fm_ws_row, hx] at hP1; exact hP1) hS1 hl)
theorem fm_alen (F : fm_F X Y cc nL own R0) (d : decode cc pc = .ok (.arraylength, 1)) (id : Nat) (hid : id < yN Y) (t0 : Nat) {n : Nat} {ty : FieldType} {cA : ClassId} {z : (Nat → Int32) ⊕ (Nat → Int64) ⊕ (Nat → UInt32) ⊕ (Nat → UInt64) ⊕ (Nat → Option Nat)} (he : ymk Y id (M.1 id) M.2 = .inl (cA, n, z)) (ht : (fm_ty (yA Y))[t0]? = some (cA, ty)) {v : Int32} (hv : Int32.ofNat n = v) (kk : fm_G X Y cs nL M (pc + 1) lv (.int v :: st)) : fm_G X Y cs nL M pc lv (.ref (yad Y id) :: st) := fun H locs ls hP hS hl =>
  va_alen F.exec F.bytes F.kn hP id t0 (by rw [fm_ws_get hid, he]) ht hv d (kk H locs ls hP hS hl)
/-- an array of references: by the layout, place j holds the cell g j -/
theorem fm_aald (F : fm_F X Y cc nL own R0) (d : decode cc pc = .ok (.aaload, 1)) (id : Nat) (hid : id < yN Y) (t0 : Nat) {n : Nat} {ty : FieldType} {cA : ClassId} (g : Nat → Nat) (he : ymk Y id (M.1 id) M.2 = .inl (cA, n, .inr (.inr (.inr (.inr (fun j => some (yad Y (g j)))))))) (ht : (fm_ty (yA Y))[t0]? = some (cA, ty)) (hty : ty.isReference = true) {i : Int32} (hi : vp_in i n) (kk : fm_G X Y cs nL M (pc + 1) lv (.ref (yad Y (g i.toNatClampNeg)) :: st)) : fm_G X Y cs nL M pc lv (.int i :: .ref (yad Y id) :: st) := fun H locs ls hP hS hl => by
  have ha : (fm_ws (yN Y) (yad Y) (ymk Y) M)[id]? = some (yad Y id, .inl (cA, n, .inr (.inr (.inr (.inr (fun j => some (yad Y (g j)))))))) := by rw [fm_ws_get hid, he]
  have hlt : i.toNatClampNeg < n := Nat.not_le.mp fun q => hi (Or.inr q)
  exact W.aald (v := .ref (yad Y (g i.toNatClampNeg))) (ty := ty) F.exec F.bytes (hP id _ ha) ((F.kn.2 t0 _ ht).1 n (fun j => va_rf (some (yad Y (g j))))) hty (fun q => by cases q) (by show ¬ (i < 0 ∨ (arrV _ _ _).slots.size ≤ _); rw [arrV_size]; exact hi) (by show (arrV _ _ _).slots[_]? = _; rw [arrV_read _ _ hlt]; rfl) rfl rfl d (kk H locs ls hP hS hl)
/-! contracts -/
def fm_Pc (Y : fm_Y) (av : List Value) (M : fm_M) (sz : Nat) : Array Value → State → Prop := va_Pc av (fun U => U.heap.size = sz ∧ fm_P Y M U.heap ∧ va_K (yD Y) fm_cl (fm_ty (yA Y)) U ∧ fm_NW U ∧ fm_ST (yA Y) (fm_A (yN Y) (yad Y) sz) U U.heap ∧ fm_AO U)
def fm_Q (Y : fm_Y) (r : Option Value) (M' : fm_M) (sz : Nat) : Array Value → State → Outcome → State → Prop := fun _ st oc t => oc = .returned r ∧ fm_P Y M' t.heap ∧ va_F (fm_A (yN Y) (yad Y) sz) st t
def fm_C (l : Launch) (y : MethodName) (ws : List Cond) (rm : Room) (Y : fm_Y) (av : List Value) (M : fm_M) (r : Option Value) (M' : fm_M) : Prop := ∀ sz : Nat, Met l y ws rm (fm_Pc Y av M sz) (fm_Q Y r M' sz) 0 0 (fm_A (yN Y) (yad Y) sz)
/-- the end of this method's walk: its answer r, its memory M' -/
def fm_E (X : fm_X) (Y : fm_Y) (r : Option Value) (M' : fm_M) (ret : Option FieldType) : Prop := (xt X).sig.returnType = ret ∧ xQ X = MQ (xb X) (fm_Q Y r M' (xs X).heap.size) (xa X) (xs X) 0 0 (fm_A (yN Y) (yad Y) (xs X).heap.size)
theorem fm_enter {l : Launch} {y : MethodName} {cc : ByteArray} {maxL : Nat} {ret : Option FieldType} {rm : Room} {Y : fm_Y} {av : List Value} {M M' : fm_M} {r : Option Value} {own : String} (hy : plainName y.cls = true) (ho : y.cls = own) (hlen : (lg_sl av).length ≤ maxL)
    (inj : ∀ i j, i < yN Y → j < yN Y → yad Y i = yad Y j → i = j)
    (body : ∀ X : fm_X, xl X = l → fm_F X Y cc maxL own rm → fm_E X Y r M' ret → fm_G X Y (0, 0) maxL M 0 (lv_args 0 av) []) : fm_C l y (ws_ y cc maxL ret) rm Y av M r M' := by
  intro sz
  refine Met.ofW (cc := cc) (maxL := maxL) (ret := ret) hy rfl ?_
  intro p e s m args below meth c s₁ B hml hv
  obtain ⟨rfl, hsz, hP, hK, hN, hT, hO⟩ := hv
  subst hsz
  have hts := atoms_spec (ws := ws_ y cc maxL ret) B.pre
  have hts : ∀ w ∈ lw_all, w.before _ s = true := fun w h => hts w (List.mem_cons_of_mem _ h)
  have hown : s.vm.findClass y.cls = some m.cls := findClass_of_methodNamed B.named
  have hl := lv_entry av (n := maxL) hlen
  rw [lg_entry_eq]
  have hG := body (p, l, e, rm, s, m, av.toArray, below, meth, c, MQ below (fm_Q Y r M' s.heap.size) av.toArray s 0 0 (fm_A (yN Y) (yad Y) s.heap.size)) rfl ⟨B.exec, B.bytes, hml, by rw [← ho]; exact hown, hts, hK, inj, hN, B.notSynchronized, rfl, hT, hO⟩ ⟨B.returns, rfl⟩
  exact hG s.heap [] _ hP va_S.rf hl
theorem fm_iret (F : fm_F X Y cc nL own R0) {v r : Int32} {M' : fm_M} (E : fm_E X Y (some (.int r)) M' (some .int)) (hf : some (v, M) = some (r, M')) (d : decode cc pc = .ok (.ireturn, 1)) : fm_G X Y (0, 0) nL M pc lv [.int v] := fun H locs ls hP hS hl => by
  obtain ⟨rfl, rfl⟩ := Prod.mk.inj (Option.some.inj hf)
  have hlocks := F.locks
  show W _ _ _ _ _ _ _ _ _ _ H locs 0 0 (xQ X) _
  rw [E.2]
  exact W.iret F.exec F.bytes E.1 (fun t ht hW => ⟨rfl, by rw [ht]; exact hP, hS.F ht⟩) hS.2.2 d
theorem fm_zret (F : fm_F X Y cc nL own R0) {v r : Int32} {M' : fm_M} (E : fm_E X Y (some (.int r)) M' (some .boolean)) (hv : v = 0 ∨ v = 1) (hf : some (v, M) = some (r, M')) (d : decode cc pc = .ok (.ireturn, 1)) : fm_G X Y (0, 0) nL M pc lv [.int v] := fun H locs ls hP hS hl => by
  obtain ⟨rfl, rfl⟩ := Prod.mk.inj (Option.some.inj hf)
  have hlocks := F.locks
  show W _ _ _ _ _ _ _ _ _ _ H locs 0 0 (xQ X) _
  rw [E.2]
  exact W.zret F.exec F.bytes E.1 (by rcases hv with rfl | rfl <;> rfl) (fun t ht hW => ⟨rfl, by rw [ht]; exact hP, hS.F ht⟩) hS.2.2 d
theorem fm_lret (F : fm_F X Y cc nL own R0) {v r : Int64} {M' : fm_M} (E : fm_E X Y (some (.long r)) M' (some .long)) (hf : some (v, M) = some (r, M')) (d : decode cc pc = .ok (.lreturn, 1)) : fm_G X Y (0, 0) nL M pc lv [.long v] := fun H locs ls hP hS hl => by
  obtain ⟨rfl, rfl⟩ := Prod.mk.inj (Option.some.inj hf)
  have hlocks := F.locks
  show W _ _ _ _ _ _ _ _ _ _ H locs 0 0 (xQ X) _
  rw [E.2]
  exact W.lret F.exec F.bytes E.1 (fun t ht hW => ⟨rfl, by rw [ht]; exact hP, hS.F ht⟩) hS.2.2 d
theorem fm_vret (F : fm_F X Y cc nL own R0) {M' : fm_M} (E : fm_E X Y none M' none) (hf : some M = some M') (d : decode cc pc = .ok (.return_, 1)) : fm_G X Y (0, 0) nL M pc lv [] := fun H locs ls hP hS hl => by
  obtain rfl := Option.some.inj hf
  have hlocks := F.locks
  show W _ _ _ _ _ _ _ _ _ _ H locs 0 0 (xQ X) _
  rw [E.2]
  exact W.vret F.exec F.bytes E.1 (fun t ht hW => ⟨rfl, by rw [ht]; exact hP, hS.F ht⟩) hS.2.2 d
theorem fm_blind {Y : fm_Y} {av : List Value} {M : fm_M} {sz : Nat} : FrameBlind (fm_Pc Y av M sz) := fun a U g mk q => by
  obtain ⟨q0, q1, qP, qK, qN, qT, qO⟩ := q
  exact ⟨q0, q1, qP, va_K.moved (u := U) (U := U.calling g mk a) (Vm.Alike.refl U.vm) qK, fm_NW.same (s := U) (U := U.calling g mk a) rfl qN, fm_ST.same (s := U) (U := U.calling g mk a) rfl qT, fm_AO.moved (u := U) (U := U.calling g mk a) (Vm.Alike.refl U.vm) qO⟩
theorem fm_A_mono {N : Nat} {ad : Nat → Nat} {a b : Nat} (h : a ≤ b) (q : Nat) (hq : fm_A N ad b q) : fm_A N ad a q := by
  rcases hq with h1 | h1
  · exact Or.inl h1
  · exact Or.inr (Nat.le_trans h h1)
theorem fm_pre (F : fm_F X Y cc nL own R0) {H : Heap} {locs : List Loc} {av : List Value} (hP : fm_P Y M H) (hS : va_S (fm_A (yN Y) (yad Y) (xs X).heap.size) (xs X).heap H locs) : ∀ U : State, U.heap = H → (xs X).WarmedH U.vm → fm_Pc Y av M H.size av.toArray U := fun U hU hW => ⟨rfl, by rw [hU], by rw [hU]; exact hP, va_K.moved hW.alike F.kn, F.nw.warm hW, by rw [hU]; exact ((F.stc.kept hS.2.1).narrow (fm_A_mono hS.1)).warm hW, fm_AO.moved hW.alike F.ao⟩
/-- behind a call -/
theorem fm_ran {r : Option Value} {M' : fm_M} {a : Array Value} {rest st0 : List Value}
    (hrun : ∀ (H : Heap) (locs : List Loc) (ls : Array Slot), fm_P Y M H → va_S (fm_A (yN Y) (yad Y) (xs X).heap.size) (xs X).heap H locs → lv_has ls nL lv → va_Run (xp X) (xl X) (xe X) (xR X) (xs X) (xm X) (xa X) (xb X) (xt X) (xc X) H locs cs.1 cs.2 0 0 (F0 (xm X) pc ls st0) rest (fm_Q Y r M' H.size a) (fm_A (yN Y) (yad Y) H.size))
    (kk : fm_G X Y cs nL M' (pc + 3) lv (r.toList ++ rest)) : fm_G X Y cs nL M pc lv st0 := fun H locs ls hP hS hl => by
  intro T hT Z
  obtain ⟨v, st₀, t, T', L, h0, Z', hL, e1, e2, ⟨hv, hP1, hz, hk⟩, st⟩ := hrun H locs ls hP hS hl T hT Z
  cases hv
  rw [h0] at hz hk
  have hA : ∀ q, fm_A (yN Y) (yad Y) H.size q → fm_A (yN Y) (yad Y) (xs X).heap.size q := fun q h => by
    rcases h with h | h
    · exact Or.inl h
    · exact Or.inr (Nat.le_trans hS.1 h)
  have hS1 : va_S (fm_A (yN Y) (yad Y) (xs X).heap.size) (xs X).heap T'.heap (locs ++ L) := by
    refine ⟨Nat.le_trans hS.1 (by rw [e1]; exact hz), fun q h1 h2 => ?_, fun q hq => ?_⟩
    · rw [e1, hk q (Nat.lt_of_lt_of_le h1 hS.1) (fun z => h2 (hA q z))]
      exact hS.2.1 q h1 h2
    · rcases List.mem_append.mp hq with h | h
      · exact hS.2.2 q h
      · exact hA _ (hL q h)
  obtain ⟨t2, a1, b1⟩ := kk T'.heap (locs ++ L) ls (by rw [e1]; exact hP1) hS1 hl T' rfl Z'
  exact ⟨t2, st t2 a1, b1⟩
theorem fm_recv (F : fm_F X Y cc nL own R0) {H : Heap} (hP : fm_P Y M H) {id ci : Nat} {q : vw_C} (hid : id < yN Y) {fs : List Value} (he : ymk Y id (M.1 id) M.2 = .inr (ci, fs)) (hc : fm_cl[ci]? = some q) : ∃ cell : Cell, H[yad Y id]? = some cell ∧ cell.vm.isStatics = false ∧ (xs X).vm.findClass q.1 = some cell.cls :=
  va_recv F.kn hP hc (by rw [fm_ws_get hid, he])
theorem fm_sum0 {l : List Value} {n : Nat} (h : (l.map fun v => v.category).sum ≤ n) {g : JFrame} (hg : g.monitorRoom = 0) : 2 * g.monitorRoom + (l.map fun v => v.category).sum ≤ n := by rw [hg]; omega
/-- invokevirtual of a method of the receiver's own class -/
theorem fm_callV (F : fm_F X Y cc nL own R0) {y : MethodName} {bytes : ByteArray} {maxL n index : Nat} {ret : Option FieldType} {rm : Room} {As rest st0 : List Value} {r : Option Value} {M' : fm_M} {C : String} {T : u_T} {ci nf : Nat} (id : Nat) (hid : id < yN Y) {fs : List Value} (he : ymk Y id (M.1 id) M.2 = .inr (ci, fs)) (hc : fm_cl[ci]? = some (C, T, nf))
    (hM : fm_C (xl X) y (ws_ y bytes maxL ret) rm Y (.ref (yad Y id) :: As) M r M') (w1 : Cond.methodLink own index y ∈ lw_all) (w2 : Cond.instanceMethod y ∈ lw_all) (w3 : Cond.selects C y y ∈ lw_all) (w4 : Cond.initialized C ∈ lw_all) (w5 : Cond.code y bytes maxL ret ∈ lw_all)
    (hz : rm.cells = 0 ∧ rm.slots = 0) (hd : y.cls = C ∧ y.cls ≠ "java/lang/invoke/MethodHandle" ∧ y.cls ≠ "java/lang/invoke/VarHandle" ∧ (parseMethodDescriptor y.desc).map (fun d => d.parameters.length) = some n) (hR : rm.frames + 1 ≤ R0.frames ∧ 8 + (maxL + 11) + rm.locals ≤ R0.locals ∧ cs.1 ≤ R0.cells ∧ cs.2 ≤ R0.slots)
    (hn : As.length = n) (hst : st0 = As.reverse ++ .ref (yad Y id) :: rest) (hW : (rest.map fun v => v.category).sum ≤ 8) (d : decode cc pc = .ok (.invokevirtual index, 3)) (kk : fm_G X Y cs nL M' (pc + 3) lv (r.toList ++ rest)) : fm_G X Y cs nL M pc lv st0 := by
  subst hst
  have hR' := hR
  rw [← F.room] at hR'
  exact fm_ran (fun H locs ls hP hS hl => va_runV ⟨F.exec, F.bytes, F.maxL, F.ownC, F.words⟩ (hM H.size) (cwV n F.words (lw_V w1 w2 w3 w4 w5) rfl hz.1 hz.2 hd ⟨hR'.1, hR'.2.1⟩) ⟨fm_blind, fm_recv F hP hid he hc, fm_pre F hP hS⟩ rfl hn hl.1 rfl (fm_sum0 hW rfl) d ⟨by omega, by omega⟩) kk
theorem fm_callVN (F : fm_F X Y cc nL own R0) {y : MethodName} {bytes : ByteArray} {maxL n index : Nat} {ret : Option FieldType} {rm : Room} {As rest st0 : List Value} {r : Option Value} {M' : fm_M} {C host : String} {T : u_T} {ci nf : Nat} (id : Nat) (hid : id < yN Y) {fs : List Value} (he : ymk Y id (M.1 id) M.2 = .inr (ci, fs)) (hc : fm_cl[ci]? = some (C, T, nf))
    (hM : fm_C (xl X) y (ws_ y bytes maxL ret) rm Y (.ref (yad Y id) :: As) M r M') (w1 : Cond.methodLinkNest own index y host ∈ lw_tbl) (w2 : Cond.instanceMethod y ∈ lw_all) (w3 : Cond.selects C y y ∈ lw_all) (w4 : Cond.initialized y.cls ∈ lw_all) (w5 : Cond.code y bytes maxL ret ∈ lw_all)
    (hz : rm.cells = 0 ∧ rm.slots = 0) (hd : y.cls ≠ "java/lang/invoke/MethodHandle" ∧ y.cls ≠ "java/lang/invoke/VarHandle" ∧ (parseMethodDescriptor y.desc).map (fun d => d.parameters.length) = some n) (hR : rm.frames + 1 ≤ R0.frames ∧ 8 + (maxL + 11) + rm.locals ≤ R0.locals ∧ cs.1 ≤ R0.cells ∧ cs.2 ≤ R0.slots)
    (hn : As.length = n) (hst : st0 = As.reverse ++ .ref (yad Y id) :: rest) (hW : (rest.map fun v => v.category).sum ≤ 8) (d : decode cc pc = .ok (.invokevirtual index, 3)) (kk : fm_G X Y cs nL M' (pc + 3) lv (r.toList ++ rest)) : fm_G X Y cs nL M pc lv st0 := by
  subst hst
  have hR' := hR
  rw [← F.room] at hR'
  exact fm_ran (fun H locs ls hP hS hl => va_runVN (C := C) ⟨F.exec, F.bytes, F.maxL, F.ownC, F.words⟩ (hM H.size) ⟨va_cnB n F.words (lw_meth w5) rfl hz.1 hz.2 (F.nest w1 rfl) (F.words _ w4) hd ⟨hR'.1, hR'.2.1⟩, F.words _ w2, F.words _ w3⟩ ⟨fm_blind, fm_recv F hP hid he hc, fm_pre F hP hS⟩ rfl hn hl.1 rfl (fm_sum0 hW rfl) d ⟨by omega, by omega⟩) kk
theorem fm_callS (F : fm_F X Y cc nL own R0) {y : MethodName} {bytes : ByteArray} {maxL n index : Nat} {ret : Option FieldType} {rm : Room} {As rest st0 : List Value} {r : Option Value} {M' : fm_M}
    (hM : fm_C (xl X) y (ws_ y bytes maxL ret) rm Y As M r M') (w1 : Cond.methodLink own index y ∈ lw_all) (w2 : Cond.static y ∈ lw_all) (w3 : Cond.initialized y.cls ∈ lw_all) (w5 : Cond.code y bytes maxL ret ∈ lw_all)
    (hz : rm.cells = 0 ∧ rm.slots = 0) (hd : y.cls ≠ "java/lang/invoke/MethodHandle" ∧ y.cls ≠ "java/lang/invoke/VarHandle" ∧ (parseMethodDescriptor y.desc).map (fun d => d.parameters.length) = some n) (hR : rm.frames + 1 ≤ R0.frames ∧ 8 + (maxL + 11) + rm.locals ≤ R0.locals ∧ cs.1 ≤ R0.cells ∧ cs.2 ≤ R0.slots)
    (hn : As.length = n) (hst : st0 = As.reverse ++ rest) (hW : (rest.map fun v => v.category).sum ≤ 8) (d : decode cc pc = .ok (.invokestatic index, 3)) (kk : fm_G X Y cs nL M' (pc + 3) lv (r.toList ++ rest)) : fm_G X Y cs nL M pc lv st0 := by
  subst hst
  have hR' := hR
  rw [← F.room] at hR'
  exact fm_ran (fun H locs ls hP hS hl => va_runS ⟨F.exec, F.bytes, F.maxL, F.ownC, F.words⟩ (hM H.size) (va_cwS n F.words (lw_S w1 w2 w3 w5) rfl hz.1 hz.2 hd ⟨hR'.1, hR'.2.1⟩) ⟨fm_blind, fm_pre F hP hS⟩ rfl hn hl.1 rfl (fm_sum0 hW rfl) d ⟨by omega, by omega⟩) kk
theorem fm_callSN (F : fm_F X Y cc nL own R0) {y : MethodName} {bytes : ByteArray} {maxL n index : Nat} {ret : Option FieldType} {rm : Room} {As rest st0 : List Value} {r : Option Value} {M' : fm_M} {host : String}
    (hM : fm_C (xl X) y (ws_ y bytes maxL ret) rm Y As M r M') (w1 : Cond.methodLinkNest own index y host ∈ lw_tbl) (w2 : Cond.static y ∈ lw_all) (w3 : Cond.initialized y.cls ∈ lw_all) (w5 : Cond.code y bytes maxL ret ∈ lw_all)
    (hz : rm.cells = 0 ∧ rm.slots = 0) (hd : y.cls ≠ "java/lang/invoke/MethodHandle" ∧ y.cls ≠ "java/lang/invoke/VarHandle" ∧ (parseMethodDescriptor y.desc).map (fun d => d.parameters.length) = some n) (hR : rm.frames + 1 ≤ R0.frames ∧ 8 + (maxL + 11) + rm.locals ≤ R0.locals ∧ cs.1 ≤ R0.cells ∧ cs.2 ≤ R0.slots)
    (hn : As.length = n) (hst : st0 = As.reverse ++ rest) (hW : (rest.map fun v => v.category).sum ≤ 8) (d : decode cc pc = .ok (.invokestatic index, 3)) (kk : fm_G X Y cs nL M' (pc + 3) lv (r.toList ++ rest)) : fm_G X Y cs nL M pc lv st0 := by
  subst hst
  have hR' := hR
  rw [← F.room] at hR'
  exact fm_ran (fun H locs ls hP hS hl => va_runSN ⟨F.exec, F.bytes, F.maxL, F.ownC, F.words⟩ (hM H.size) ⟨va_cnB n F.words (lw_meth w5) rfl hz.1 hz.2 (F.nest w1 rfl) (F.words _ w3) hd ⟨hR'.1, hR'.2.1⟩, F.words _ w2, trivial⟩ ⟨fm_blind, fm_pre F hP hS⟩ rfl hn hl.1 rfl (fm_sum0 hW rfl) d ⟨by omega, by omega⟩) kk
/-- super.m(..) -/
theorem fm_callSU (F : fm_F X Y cc nL own R0) {y : MethodName} {bytes : ByteArray} {maxL n index : Nat} {ret : Option FieldType} {rm : Room} {As rest st0 : List Value} {r : Option Value} {M' : fm_M} {C : String} {T : u_T} {ci nf : Nat} (id : Nat) (hid : id < yN Y) {fs : List Value} (he : ymk Y id (M.1 id) M.2 = .inr (ci, fs)) (hc : fm_cl[ci]? = some (C, T, nf))
    (hM : fm_C (xl X) y (ws_ y bytes maxL ret) rm Y (.ref (yad Y id) :: As) M r M') (w1 : Cond.methodLink own index y ∈ lw_all) (w2 : Cond.sameMethod y.cls y.cls y.name y.desc ∈ lw_all) (w3 : Cond.superclass own y.cls ∈ lw_all) (w4 : Cond.instanceMethod y ∈ lw_all) (w5 : Cond.initialized y.cls ∈ lw_all) (w6 : Cond.code y bytes maxL ret ∈ lw_all)
    (hz : rm.cells = 0 ∧ rm.slots = 0) (hd : y.name ≠ "<init>" ∧ (parseMethodDescriptor y.desc).map (fun d => d.parameters.length) = some n) (hR : rm.frames + 1 ≤ R0.frames ∧ 8 + (maxL + 11) + rm.locals ≤ R0.locals ∧ cs.1 ≤ R0.cells ∧ cs.2 ≤ R0.slots)
    (hn : As.length = n) (hst : st0 = As.reverse ++ .ref (yad Y id) :: rest) (hW : (rest.map fun v => v.category).sum ≤ 8) (d : decode cc pc = .ok (.invokespecial index, 3)) (kk : fm_G X Y cs nL M' (pc + 3) lv (r.toList ++ rest)) : fm_G X Y cs nL M pc lv st0 := by
  subst hst
  have hR' := hR
  rw [← F.room] at hR'
  have hG : GoodIn lw_all (va_wsSU own index y (ws_ y bytes maxL ret)) := by
    refine lw_app ?_ (lw_meth w6)
    intro w hw
    simp only [List.mem_cons, List.not_mem_nil, or_false] at hw
    rcases hw with e | e | e | e | e
    · rw [e]; exact w1
    · rw [e]; exact w2
    · rw [e]; exact w3
    · rw [e]; exact w4
    · rw [e]; exact w5
  exact fm_ran (fun H locs ls hP hS hl => va_runSU (F.kn.1 ci _ hc).2 ⟨F.exec, F.bytes, F.maxL, F.ownC, F.words⟩ (hM H.size) (va_cwSU n F.words hG rfl hz.1 hz.2 hd ⟨hR'.1, hR'.2.1⟩) ⟨fm_blind, fm_recv F hP hid he hc, fm_pre F hP hS⟩ rfl hn hl.1 rfl (fm_sum0 hW rfl) d ⟨by omega, by omega⟩) kk
theorem fm_mmax (F : fm_F X Y cc nL own R0) {index : Nat} {x y : Int32} (w1 : Cond.methodLink own index Lib.Math.max.name ∈ lw_all) (w2 : Cond.static Lib.Math.max.name ∈ lw_all) (w3 : Cond.initialized "java/lang/Math" ∈ lw_all) (w4 : Cond.code Lib.Math.max.name Lib.Math.max.code 2 (some .int) ∈ lw_all) (hR : 1 ≤ R0.frames ∧ (st.map fun v => v.category).sum + 13 ≤ R0.locals ∧ cs.1 ≤ R0.cells ∧ cs.2 ≤ R0.slots) (d : decode cc pc = .ok (.invokestatic index, 3)) (kk : fm_G X Y cs nL M (pc + 3) lv (.int (if x < y then y else x) :: st)) : fm_G X Y cs nL M pc lv (.int y :: .int x :: st) := fun H locs ls hP hS hl => by
  have hR' := hR
  rw [← F.room] at hR'
  exact va_mmax F.exec F.bytes (F.maxL.trans hl.1.symm) F.ownC (F.words _ w1) (F.words _ w2) (F.words _ w3) (F.words _ w4) hR'.1 hR'.2.1 hR'.2.2.1 hR'.2.2.2 d (kk H locs ls hP hS hl)
theorem fm_mmin (F : fm_F X Y cc nL own R0) {index : Nat} {x y : Int32} (w1 : Cond.methodLink own index Lib.Math.min.name ∈ lw_all) (w2 : Cond.static Lib.Math.min.name ∈ lw_all) (w3 : Cond.initialized "java/lang/Math" ∈ lw_all) (w4 : Cond.code Lib.Math.min.name Lib.Math.min.code 2 (some .int) ∈ lw_all) (hR : 1 ≤ R0.frames ∧ (st.map fun v => v.category).sum + 13 ≤ R0.locals ∧ cs.1 ≤ R0.cells ∧ cs.2 ≤ R0.slots) (d : decode cc pc = .ok (.invokestatic index, 3)) (kk : fm_G X Y cs nL M (pc + 3) lv (.int (if y < x then y else x) :: st)) : fm_G X Y cs nL M pc lv (.int y :: .int x :: st) := fun H locs ls hP hS hl => by
  have hR' := hR
  rw [← F.room] at hR'
  exact va_mmin F.exec F.bytes (F.maxL.trans hl.1.symm) F.ownC (F.words _ w1) (F.words _ w2) (F.words _ w3) (F.words _ w4) hR'.1 hR'.2.1 hR'.2.2.1 hR'.2.2.2 d (kk H locs ls hP hS hl)
theorem fm_copyi (F : fm_F X Y cc nL own R0) {index : Nat} (d : decode cc pc = .ok (.invokestatic index, 3)) (w1 : Cond.methodLink own index arraycopyName ∈ lw_all) (w2 : Cond.native arraycopyName ∈ lw_all) (w3 : Cond.static arraycopyName ∈ lw_all) (w4 : Cond.initialized "java/lang/System" ∈ lw_all)
    (i0 i1 : Nat) (h0 : i0 < yN Y) (h1 : i1 < yN Y) {n0 n1 : Nat} (he0 : ymk Y i0 (M.1 i0) M.2 = .inl (yA Y 0, n0, .inl (M.1 i0))) (he1 : ∀ r, ymk Y i1 r M.2 = .inl (yA Y 0, n1, .inl r)) {sp dp n : Int32} (hb : ¬ sp < 0 ∧ ¬ dp < 0 ∧ ¬ n < 0 ∧ sp.toNatClampNeg + n.toNatClampNeg ≤ n0 ∧ dp.toNatClampNeg + n.toNatClampNeg ≤ n1)
    (hR : 1 ≤ R0.frames ∧ (st.map fun v => v.category).sum + (nativeFrameWords "java/lang/System" "arraycopy" 5 + 11) ≤ R0.locals) (kk : fm_G X Y cs nL (fm_row M i1 (va_cpy (M.1 i0) (M.1 i1) sp.toNatClampNeg dp.toNatClampNeg n.toNatClampNeg)) (pc + 3) lv st) : fm_G X Y cs nL M pc lv (.int n :: .int dp :: .ref (yad Y i1) :: .int sp :: .ref (yad Y i0) :: st) := fun H locs ls hP hS hl => by
  have hR' := hR
  rw [← F.room] at hR'
  exact va_copyi F.exec F.bytes (F.maxL.trans hl.1.symm) F.ownC (F.words _ w1) (F.words _ w2) (F.words _ w3) (F.words _ w4) F.kn hP F.apart hS i0 i1 0 0 (by rw [fm_ws_get h0, he0]) (by rw [fm_ws_get h1, he1]) rfl rfl rfl hb.1 hb.2.1 hb.2.2.1 hb.2.2.2.1 hb.2.2.2.2 (fun _ _ => rfl) hR'.1 hR'.2 d
    (fun H1 locs1 hP1 _ hS1 => kk H1 locs1 ls (by rw [← he1, fm_ws_row] at hP1; exact hP1) hS1 hl)
end FM
/-! eliminations of the pure functions -/
theorem fm_ip {α : Type} {c : Prop} [Decidable c] {a b r : α} (h : c) (e : (if c then a else b) = r) : a = r := by rwa [if_pos h] at e
theorem fm_in {α : Type} {c : Prop} [Decidable c] {a b r : α} (h : ¬ c) (e : (if c then a else b) = r) : b = r := by rwa [if_neg h] at e
def fm_let {α β : Type} (v : α) (k : α → β) : β := k v
theorem fm_let_inv {α β : Type} {v x : α} {k : α → β} {r : β} (e : x = v) (h : fm_let v k = r) : k x = r := by subst e; exact h
def fm_nz {α : Type} (y : Int32) (k : Option α) : Option α := if y = 0 then none else k
theorem fm_nz_inv {α : Type} {y : Int32} {k : Option α} {r : α} (h : fm_nz y k = some r) : ¬ y = 0 ∧ k = some r := by
  unfold fm_nz at h
  by_cases c : y = 0
  · rw [if_pos c] at h; cases h
  · rw [if_neg c] at h; exact ⟨c, h⟩
def fm_nzl {α : Type} (y : Int64) (k : Option α) : Option α := if y = 0 then none else k
theorem fm_nzl_inv {α : Type} {y : Int64} {k : Option α} {r : α} (h : fm_nzl y k = some r) : ¬ y = 0 ∧ k = some r := by
  unfold fm_nzl at h
  by_cases c : y = 0
  · rw [if_pos c] at h; cases h
  · rw [if_neg c] at h; exact ⟨c, h⟩
def fm_bz {α : Type} (v : Int32) (k : Option α) : Option α := if v = 0 ∨ v = 1 then k else none
theorem fm_bz_inv {α : Type} {v : Int32} {k : Option α} {r : α} (h : fm_bz v k = some r) : (v = 0 ∨ v = 1) ∧ k = some r := by
  unfold fm_bz at h
  by_cases c : v = 0 ∨ v = 1
  · rw [if_pos c] at h; exact ⟨c, h⟩
  · rw [if_neg c] at h; cases h
def fm_gd {α : Type} (c : Bool) (k : Option α) : Option α := match c with | true => k | false => none
theorem fm_gd_inv {α : Type} {c : Bool} {k : Option α} {r : α} (h : fm_gd c k = some r) : c = true ∧ k = some r := by
  cases c
  · cases h
  · exact ⟨rfl, h⟩
def fm_bi {α β : Type} (o : Option (α × fm_M)) (k : α → fm_M → Option β) : Option β := match o with
  | some q => k q.1 q.2
  | none => none
theorem fm_bi_inv {α β : Type} {o : Option (α × fm_M)} {k : α → fm_M → Option β} {r : β} (h : fm_bi o k = some r) : ∃ a M, o = some (a, M) ∧ k a M = some r := by
  cases o with
  | none => cases h
  | some q => exact ⟨q.1, q.2, rfl, h⟩
def fm_bv {β : Type} (o : Option fm_M) (k : fm_M → Option β) : Option β := match o with
  | some M => k M
  | none => none
theorem fm_bv_inv {β : Type} {o : Option fm_M} {k : fm_M → Option β} {r : β} (h : fm_bv o k = some r) : ∃ M, o = some M ∧ k M = some r := by
  cases o with
  | none => cases h
  | some M => exact ⟨M, rfl, h⟩
