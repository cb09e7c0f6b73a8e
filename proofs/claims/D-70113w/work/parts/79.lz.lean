/-! the law's layer: two worlds in one heap -/
set_option maxRecDepth 100000
abbrev lz_A (X : fm_X) : Nat → Prop := fun q => (xs X).heap.size ≤ q
def lz_F (X : fm_X) (D : va_G) (dA : Nat → ClassId) (b L : Nat) (sc : Nat → Int32) : Prop :=
  (xp X).tables.exec = Jvm.exec ∧ (xc X).code = code ∧ (xc X).maxLocals = 4 ∧ (xs X).vm.findClass R_law = some (xm X).cls ∧ (∀ w ∈ lw_all, w.before (xa X) (xs X) = true) ∧ va_K D fm_cl (fm_ty dA) (xs X) ∧ fm_NW (xs X) ∧ (xt X).locks = false ∧ xR X = room_1 ∧ fm_ST dA (lz_A X) (xs X) (xs X).heap ∧ fm_AO (xs X) ∧ va_X b L sc (xs X) (xs X).heap ∧ b < (xs X).heap.size ∧ (xt X).sig.returnType = ret ∧ xa X = #[Value.ref b] ∧ xQ X = lw_Z (xb X) #[Value.ref b] (xs X)
def lz_W (X : fm_X) (Y : fm_Y) : Prop := (∀ i j, i < yN Y → j < yN Y → yad Y i = yad Y j → i = j) ∧ ∀ i, i < yN Y → (xs X).heap.size ≤ yad Y i
def lz_D (Y Y2 : fm_Y) : Prop := ∀ i j, i < yN Y → j < yN Y2 → yad Y i ≠ yad Y2 j
theorem lz_D.symm {Y Y2 : fm_Y} (h : lz_D Y Y2) : lz_D Y2 Y := fun i j hi hj e => h j i hj hi e.symm
section LZ
variable {X : fm_X} {D : va_G} {dA : Nat → ClassId} {b L : Nat} {sc : Nat → Int32} {Y Y2 : fm_Y} {M M2 : fm_M} {H : Heap} {locs : List Loc} {ls : Array Slot} {lv : List (Nat × Value)} {cs : Nat × Nat} {pc : Nat}
theorem lz_F.exec (F : lz_F X D dA b L sc) : (xp X).tables.exec = Jvm.exec := F.1
theorem lz_F.bytes (F : lz_F X D dA b L sc) : (xc X).code = code := F.2.1
theorem lz_F.maxL (F : lz_F X D dA b L sc) : (xc X).maxLocals = 4 := F.2.2.1
theorem lz_F.ownC (F : lz_F X D dA b L sc) : (xs X).vm.findClass R_law = some (xm X).cls := F.2.2.2.1
theorem lz_F.words (F : lz_F X D dA b L sc) : ∀ w ∈ lw_all, w.before (xa X) (xs X) = true := F.2.2.2.2.1
theorem lz_F.kn (F : lz_F X D dA b L sc) : va_K D fm_cl (fm_ty dA) (xs X) := F.2.2.2.2.2.1
theorem lz_F.nw (F : lz_F X D dA b L sc) : fm_NW (xs X) := F.2.2.2.2.2.2.1
theorem lz_F.locks (F : lz_F X D dA b L sc) : (xt X).locks = false := F.2.2.2.2.2.2.2.1
theorem lz_F.room (F : lz_F X D dA b L sc) : xR X = room_1 := F.2.2.2.2.2.2.2.2.1
theorem lz_F.stc (F : lz_F X D dA b L sc) : fm_ST dA (lz_A X) (xs X) (xs X).heap := F.2.2.2.2.2.2.2.2.2.1
theorem lz_F.ao (F : lz_F X D dA b L sc) : fm_AO (xs X) := F.2.2.2.2.2.2.2.2.2.2.1
theorem lz_F.scr (F : lz_F X D dA b L sc) : va_X b L sc (xs X) (xs X).heap := F.2.2.2.2.2.2.2.2.2.2.2.1
theorem lz_F.blt (F : lz_F X D dA b L sc) : b < (xs X).heap.size := F.2.2.2.2.2.2.2.2.2.2.2.2.1
theorem lz_F.rets (F : lz_F X D dA b L sc) : (xt X).sig.returnType = ret := F.2.2.2.2.2.2.2.2.2.2.2.2.2.1
theorem lz_F.args (F : lz_F X D dA b L sc) : xa X = #[Value.ref b] := F.2.2.2.2.2.2.2.2.2.2.2.2.2.2.1
theorem lz_F.goal (F : lz_F X D dA b L sc) : xQ X = lw_Z (xb X) #[Value.ref b] (xs X) := F.2.2.2.2.2.2.2.2.2.2.2.2.2.2.2
theorem lz_F.bA (F : lz_F X D dA b L sc) : ¬ lz_A X b := Nat.not_le.mpr F.blt
theorem lz_AA (hw : lz_W X Y) (hS : va_S (lz_A X) (xs X).heap H locs) : ∀ q, fm_A (yN Y) (yad Y) H.size q → lz_A X q := fun q h => by
  rcases h with ⟨i, hi, rfl⟩ | h
  · exact hw.2 i hi
  · exact Nat.le_trans hS.1 h
theorem lz_pre (F : lz_F X (yD Y) (yA Y) b L sc) (hw : lz_W X Y) (hP : fm_P Y M H) (hS : va_S (lz_A X) (xs X).heap H locs) {av : List Value} : ∀ U : State, U.heap = H → (xs X).WarmedH U.vm → fm_Pc Y av M H.size av.toArray U := fun U hU hW => ⟨rfl, by rw [hU], by rw [hU]; exact hP, va_K.moved hW.alike F.kn, F.nw.warm hW, by rw [hU]; exact ((F.stc.kept hS.2.1).narrow (lz_AA hw hS)).warm hW, fm_AO.moved hW.alike F.ao⟩
/-- behind a call: the other world is as before -/
theorem lz_ran {r : Option Value} {P' : Heap → Prop} {rest st0 : List Value} {mc ms : Nat} (hw : lz_W X Y) (hd : lz_D Y Y2) (hP2 : fm_P Y2 M2 H) (hS : va_S (lz_A X) (xs X).heap H locs)
    (hrun : va_Run (xp X) (xl X) (xe X) (xR X) (xs X) (xm X) (xa X) (xb X) (xt X) (xc X) H locs cs.1 cs.2 mc ms (F0 (xm X) pc ls st0) rest (fun st oc t => oc = .returned r ∧ P' t.heap ∧ va_F (fm_A (yN Y) (yad Y) H.size) st t) (fm_A (yN Y) (yad Y) H.size))
    (kk : ∀ (H1 : Heap) (locs1 : List Loc), P' H1 → fm_P Y2 M2 H1 → va_S (lz_A X) (xs X).heap H1 locs1 → W (xp X) (xl X) (xe X) (xR X) (xs X) (xm X) (xa X) (xb X) (xt X) (xc X) H1 locs1 (cs.1 + mc) (cs.2 + ms) (xQ X) (F0 (xm X) (pc + 3) ls (r.toList ++ rest))) : W (xp X) (xl X) (xe X) (xR X) (xs X) (xm X) (xa X) (xb X) (xt X) (xc X) H locs cs.1 cs.2 (xQ X) (F0 (xm X) pc ls st0) := by
  intro T hT Z
  obtain ⟨v, st₀, t, T', Lo, h0, Z', hL, e1, e2, ⟨hv, hP1, hz, hk⟩, st⟩ := hrun T hT Z
  cases hv
  rw [h0] at hz hk
  have hA := lz_AA hw hS
  have hS1 : va_S (lz_A X) (xs X).heap T'.heap (locs ++ Lo) := by
    refine ⟨Nat.le_trans hS.1 (by rw [e1]; exact hz), fun q h1 h2 => ?_, fun q hq => ?_⟩
    · rw [e1, hk q (Nat.lt_of_lt_of_le h1 hS.1) (fun z => h2 (hA q z))]
      exact hS.2.1 q h1 h2
    · rcases List.mem_append.mp hq with h | h
      · exact hS.2.2 q h
      · exact hA _ (hL q h)
  have hP3 : fm_P Y2 M2 T'.heap := by
    rw [e1]
    refine va_P.kept hP2 (fun k q hq => hk q.1 ((hP2 k q hq).lt) (fun z => ?_))
    obtain ⟨hk1, rfl⟩ := fm_ws_inv hq
    rcases z with ⟨i, hi, he⟩ | z
    · exact hd i k hi hk1 he.symm
    · exact absurd ((hP2 k _ hq).lt) (Nat.not_lt.mpr z)
  obtain ⟨t2, a1, b1⟩ := kk T'.heap (locs ++ Lo) (by rw [e1]; exact hP1) hP3 hS1 T' rfl Z'
  exact ⟨t2, st t2 a1, b1⟩
theorem lz_callV (F : lz_F X (yD Y) (yA Y) b L sc) (hw : lz_W X Y) (hd : lz_D Y Y2) {y : MethodName} {bytes : ByteArray} {maxL n index : Nat} {ret : Option FieldType} {rm : Room} {As rest st0 : List Value} {r : Option Value} {M' : fm_M} {C : String} {T : u_T} {ci nf : Nat} (id : Nat) (hid : id < yN Y) {fs : List Value} (he : ymk Y id (M.1 id) M.2 = .inr (ci, fs)) (hc : fm_cl[ci]? = some (C, T, nf))
    (hM : fm_C (xl X) y (ws_ y bytes maxL ret) rm Y (.ref (yad Y id) :: As) M r M') (w1 : Cond.methodLink R_law index y ∈ lw_all) (w2 : Cond.instanceMethod y ∈ lw_all) (w3 : Cond.selects C y y ∈ lw_all) (w4 : Cond.initialized C ∈ lw_all) (w5 : Cond.code y bytes maxL ret ∈ lw_all)
    (hz : rm.cells = 0 ∧ rm.slots = 0) (hd' : y.cls = C ∧ y.cls ≠ "java/lang/invoke/MethodHandle" ∧ y.cls ≠ "java/lang/invoke/VarHandle" ∧ (parseMethodDescriptor y.desc).map (fun d => d.parameters.length) = some n) (hR : rm.frames + 1 ≤ room_1.frames ∧ 8 + (maxL + 11) + rm.locals ≤ room_1.locals) (hcs : cs.1 ≤ 608630 ∧ cs.2 ≤ 7270213)
    (hn : As.length = n) (hst : st0 = As.reverse ++ .ref (yad Y id) :: rest) (hW : (rest.map fun v => v.category).sum ≤ 8) (d : decode code pc = .ok (.invokevirtual index, 3)) (hP : fm_P Y M H) (hP2 : fm_P Y2 M2 H) (hS : va_S (lz_A X) (xs X).heap H locs) (hl : lv_has ls 4 lv)
    (kk : ∀ (H1 : Heap) (locs1 : List Loc), fm_P Y M' H1 → fm_P Y2 M2 H1 → va_S (lz_A X) (xs X).heap H1 locs1 → W (xp X) (xl X) (xe X) (xR X) (xs X) (xm X) (xa X) (xb X) (xt X) (xc X) H1 locs1 cs.1 cs.2 (xQ X) (F0 (xm X) (pc + 3) ls (r.toList ++ rest))) : W (xp X) (xl X) (xe X) (xR X) (xs X) (xm X) (xa X) (xb X) (xt X) (xc X) H locs cs.1 cs.2 (xQ X) (F0 (xm X) pc ls st0) := by
  subst hst
  have hR' := hR
  rw [← F.room] at hR'
  have hrc : (xR X).cells = 608630 := by rw [F.room]; rfl
  have hrs : (xR X).slots = 7270213 := by rw [F.room]; rfl
  refine lz_ran (r := r) (P' := fm_P Y M') (mc := 0) (ms := 0) hw hd hP2 hS (va_runV (As := As) (rest := rest) ⟨F.exec, F.bytes, F.maxL, F.ownC, F.words⟩ (hM H.size) (cwV n F.words (lw_V w1 w2 w3 w4 w5) rfl hz.1 hz.2 hd' ⟨hR'.1, hR'.2⟩) ⟨fm_blind, va_recv F.kn hP hc (q0 := id) (by rw [fm_ws_get hid, he]), lz_pre F hw hP hS⟩ rfl hn hl.1 rfl (fm_sum0 hW rfl) d ⟨by rw [hrc]; exact hcs.1, by rw [hrs]; exact hcs.2⟩) kk
end LZ
