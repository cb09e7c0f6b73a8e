/-! rows over references for the rg_ layer: multianewarray of six by six ints, anewarray, aastore -/
set_option maxRecDepth 100000
/-- row i of the outer array, once k of them are made -/
def rg_oV (h k : Nat) : Nat → Value := fun j => va_rf (if j < k then some (h + 1 + j) else none)
def rg_fi (T : State) (cA cI : ClassId) : Nat → State
  | 0 => T.pushCell (arrV cA 6 (rg_oV T.heap.size 0))
  | i + 1 => ((rg_fi T cA cI i).pushCell (arrV cI 6 (fun _ => .int 0))).setCell T.heap.size (arrV cA 6 (rg_oV T.heap.size (i + 1)))
theorem rg_oV_zero (h : Nat) : rg_oV h 0 = fun _ => Value.null := by
  funext j
  simp [rg_oV, va_rf]
theorem rg_oV_succ (h i : Nat) : updV (rg_oV h i) i (.ref (h + 1 + i)) = rg_oV h (i + 1) := by
  funext j
  by_cases hj : j = i
  · subst hj
    simp [updV, rg_oV, va_rf]
  · by_cases h2 : j < i
    · simp [updV, rg_oV, hj, h2, Nat.lt_succ_of_lt h2]
    · have h3 : ¬ j < i + 1 := by omega
      simp [updV, rg_oV, hj, h2, h3]
theorem rg_fi_facts (T : State) (cA cI : ClassId) (i : Nat) : (rg_fi T cA cI i).heap.size = T.heap.size + 1 + i ∧ (rg_fi T cA cI i).heap[T.heap.size]? = some (arrV cA 6 (rg_oV T.heap.size i)) ∧ (rg_fi T cA cI i).vm = T.vm ∧ (rg_fi T cA cI i).slotsUsed = T.slotsUsed + 6 + i * 6 ∧
    (∀ q, q < T.heap.size → (rg_fi T cA cI i).heap[q]? = T.heap[q]?) ∧ ∀ j, j < i → (rg_fi T cA cI i).heap[T.heap.size + 1 + j]? = some (arrV cI 6 (fun _ => .int 0)) := by
  induction i with
  | zero => exact ⟨by simp [rg_fi], by simp [rg_fi], rfl, by simp [rg_fi, arrV_size], fun q hq => State.heap_pushCell_of_lt _ _ hq, fun j hj => absurd hj (Nat.not_lt_zero _)⟩
  | succ i ih =>
    obtain ⟨a1, a2, a3, a4, a5, a6⟩ := ih
    have hl : T.heap.size < (rg_fi T cA cI i).heap.size := by omega
    have ho : ((rg_fi T cA cI i).pushCell (arrV cI 6 (fun _ => .int 0))).heap[T.heap.size]? = some (arrV cA 6 (rg_oV T.heap.size i)) := by rw [State.heap_pushCell_of_lt (h := hl)]; exact a2
    refine ⟨?_, State.heap_setCell_self ho, by simp [rg_fi, a3], ?_, fun q hq => ?_, fun j hj => ?_⟩
    · simp [rg_fi, State.setCell, a1]
      omega
    · simp [rg_fi, a4, arrV_size]
      omega
    · show (((rg_fi T cA cI i).pushCell _).setCell T.heap.size _).heap[q]? = _
      rw [State.heap_setCell_other (Nat.ne_of_gt hq), State.heap_pushCell_of_lt (h := Nat.lt_trans hq hl)]
      exact a5 q hq
    · show (((rg_fi T cA cI i).pushCell _).setCell T.heap.size _).heap[T.heap.size + 1 + j]? = _
      rw [State.heap_setCell_other (show T.heap.size ≠ T.heap.size + 1 + j by omega)]
      by_cases h : j = i
      · subst h
        rw [← a1]
        exact State.heap_pushCell_size _ _
      · have hj2 : T.heap.size + 1 + j < (rg_fi T cA cI i).heap.size := by omega
        rw [State.heap_pushCell_of_lt (h := hj2)]
        exact a6 j (by omega)
theorem rg_fi_top (T : State) (f : JFrame) (cA cI : ClassId) (i : Nat) : rg_fi (T.setTop f) cA cI i = (rg_fi T cA cI i).setTop f := by
  induction i with
  | zero => rfl
  | succ i ih => simp only [rg_fi, ih, State.heap_setTop, State.pushCell_setTop, State.setCell_setTop]
theorem rg_fi_stand {p : Program} {l : Launch} {e : Env} {R : Room} {s : State} {m : MethodId} {args : Array Value} {below : List Frame} {meth : Method} {c : Code} {T : State} {locs : List Loc} {cells slots : Nat} (X : Stand p l e R s m args below meth c T locs cells slots) (cA cI : ClassId) (i : Nat) :
    Stand p l e R s m args below meth c (rg_fi T cA cI i) (locs ++ (List.range i).map fun j => ⟨T.heap.size, j⟩) (cells + 1 + i) (slots + 6 + i * 6) := by
  induction i with
  | zero =>
    have h := X.pushed (arrV cA 6 (rg_oV T.heap.size 0))
    rw [arrV_size] at h
    simpa [rg_fi] using h
  | succ i ih =>
    obtain ⟨a1, a2, -, -, -, -⟩ := rg_fi_facts T cA cI i
    have hl : T.heap.size < (rg_fi T cA cI i).heap.size := by omega
    have ho : ((rg_fi T cA cI i).pushCell (arrV cI 6 (fun _ => .int 0))).heap[T.heap.size]? = some (arrV cA 6 (rg_oV T.heap.size i)) := by rw [State.heap_pushCell_of_lt (h := hl)]; exact a2
    have h := (ih.pushed (arrV cI 6 (fun _ => .int 0))).stored ho i (.ref (T.heap.size + 1 + i))
    rw [arrV_size, arrV_store, rg_oV_succ] at h
    rw [List.range_succ, List.map_append, ← List.append_assoc]
    have e3 : slots + 6 + (i + 1) * 6 = slots + 6 + i * 6 + 6 := by omega
    rw [e3]
    exact h
section WPS
variable {E : CtlPost} {e : Env} {d : Bool} {acts : List Action} {s : State}
theorem rg_wnew {c comp : ClassId} {k : Class} {ty : FieldType} {v : Value} (hk : s.vm.classes[c]? = some k) (hkind : k.kind = .array comp ty) (hlim : ¬ 6 > e.platform.arrayLengthLimit) (hheap : ¬ 6 * componentBytes ty > e.platform.maxHeapBytes) (hfit : fits ty v = true) (hdef : v.isDefault = true) {Q : Addr → Pre}
    (h1 : s.heap.size < e.platform.maxCells) (h2 : s.slotsUsed + 6 ≤ e.platform.maxSlots) (hq : Q s.heap.size d acts (s.pushCell (arrV c 6 (fun _ => v)))) : wp (Jvm.newArray c 6 v) Q E e d acts s := by
  have f1 : ∀ i x, (Array.replicate 6 v)[i]? = some x → s.fitsSlot c .none i x = true := by
    intro i x hx
    rw [Array.getElem?_replicate] at hx
    split at hx
    · cases hx
      simp [State.fitsSlot, State.slotType?, hk, hkind, hfit]
    · cases hx
  have f2 : allocActs (Array.replicate 6 v) s.heap.size acts = acts := by
    unfold allocActs
    rw [if_pos (by rw [Array.all_replicate]; simp [hdef])]
  simp only [Jvm.newArray, Jvm.arrayFits, wp_bind', W.ask, W.ite, hlim, if_false, wp_pure', W.theClass, hk, hkind, hheap, W.alloc, W.stop, Option.some.injEq, exists_eq_left', Array.size_replicate, f2]
  rw [if_neg (by omega)]
  rw [← arrV_new] at hq
  exact ⟨h1, h2, f1, hq⟩
theorem rg_wrow {cI cc : ClassId} {k : Class} (hk : s.vm.classes[cI]? = some k) (hkind : k.kind = .array cc .int) (hlim : ¬ 6 > e.platform.arrayLengthLimit) (hheap : ¬ 24 > e.platform.maxHeapBytes) {Q : Addr → Pre}
    (h1 : s.heap.size < e.platform.maxCells) (h2 : s.slotsUsed + 6 ≤ e.platform.maxSlots) (hq : Q s.heap.size d acts (s.pushCell (arrV cI 6 (fun _ => .int 0)))) : wp (multianewarray.make cI [(6 : Int32)]) Q E e d acts s := by
  have h6 : ¬ (6 : Int32) < 0 := by decide
  have hN : (6 : Int32).toNatClampNeg = 6 := by decide
  rw [multianewarray.make]
  simp only [wp_bind', W.ite, h6, if_false, wp_pure', W.theClass, hk, hkind, Option.some.injEq, exists_eq_left', hN]
  exact rg_wnew hk hkind hlim (by show ¬ 6 * 4 > _; omega) rfl rfl h1 h2 hq
theorem rg_wgrid {cA cI cc : ClassId} {k kI : Class} (hk : s.vm.classes[cA]? = some k) (hkind : k.kind = .array cI (.array .int)) (hkI : s.vm.classes[cI]? = some kI) (hkindI : kI.kind = .array cc .int) (hlim : ¬ 6 > e.platform.arrayLengthLimit) (hheap : ¬ 24 > e.platform.maxHeapBytes) {Q : Addr → Pre}
    (h1 : s.heap.size + 7 ≤ e.platform.maxCells) (h2 : s.slotsUsed + 42 ≤ e.platform.maxSlots) (hq : ∀ d' acts', Q s.heap.size d' acts' (rg_fi s cA cI 6)) : wp (multianewarray.make cA [(6 : Int32), 6]) Q E e d acts s := by
  have h6 : ¬ (6 : Int32) < 0 := by decide
  have hN : (6 : Int32).toNatClampNeg = 6 := by decide
  rw [multianewarray.make]
  simp only [wp_bind', W.ite, h6, if_false, wp_pure', W.theClass, hk, hkind, Option.some.injEq, exists_eq_left', hN]
  refine rg_wnew hk hkind hlim (by show ¬ 6 * 4 > _; omega) rfl rfl (by omega) (by omega) ?_
  rw [if_neg (by decide)]
  simp only [wp_bind', wp_pure']
  rw [Std.Legacy.Range.forIn_eq_forIn_range']
  show wp (forIn (List.range' 0 6 1) PUnit.unit _) _ E e d acts _
  have hz : s.pushCell (arrV cA 6 fun _ => Value.null) = rg_fi s cA cI 0 := by rw [rg_fi, rg_oV_zero]
  rw [hz]
  refine wp_forIn_inv (fun rest u => ∃ i, i ≤ 6 ∧ rest = List.range' i (6 - i) ∧ u = rg_fi s cA cI i) _ _ ⟨0, Nat.zero_le _, rfl, rfl⟩ ?_ ?_
  · intro x rest u d' acts' Q' hI hnext
    obtain ⟨i, hi, hl, hu⟩ := hI
    subst hu
    have hlt : i < 6 := by
      rcases Nat.lt_or_ge i 6 with h | h
      · exact h
      · rw [show 6 - i = 0 by omega] at hl
        cases hl
    rw [show 6 - i = (6 - (i + 1)) + 1 by omega, List.range'_succ] at hl
    obtain ⟨hx, hr⟩ := List.cons.inj hl
    subst hx
    obtain ⟨a1, a2, a3, a4, -, -⟩ := rg_fi_facts s cA cI x
    have hlo : s.heap.size < (rg_fi s cA cI x).heap.size := by omega
    simp only [wp_bind']
    refine rg_wrow (by rw [a3]; exact hkI) hkindI hlim hheap (by omega) (by omega) ?_
    simp only [wp_bind', W.writeLoc, wp_pure']
    refine ⟨arrV cA 6 (rg_oV s.heap.size x), by rw [State.heap_pushCell_of_lt (h := hlo)]; exact a2, by simp [arrV], by rw [arrV_size]; exact hlt, ?_, hnext _ _ _ ⟨x + 1, hlt, hr, ?_⟩⟩
    · simp [arrV, State.fitsSlot, State.slotType?, a3, hk, hkind, fits]
    · rw [arrV_store, a1, rg_oV_succ]
      rfl
  · intro u d' acts' hI
    obtain ⟨i, hi, hl, hu⟩ := hI
    subst hu
    have h : i = 6 := by
      rcases Nat.lt_or_ge i 6 with h | h
      · rw [show 6 - i = (6 - (i + 1)) + 1 by omega, List.range'_succ] at hl
        cases hl
      · omega
    subst h
    simp only [wp_pure']
    exact hq _ _
end WPS
section RG3
variable {X : fm_X} {Z : rg_Z} {cs : Nat × Nat} {cc : ByteArray} {nL : Nat} {own : String} {R0 : Room} {C : List va_E} {pc : Nat} {lv : List (Nat × Value)} {st : List Value}
/-- seven cells: the outer array, its six rows -/
def rg_grid (dA : Nat → ClassId) (a : Nat) : List va_E := [.inl (dA 5, 6, .inr (.inr (.inr (.inr (fun j => if j < 6 then some (a + 1 + j) else none))))), .inl (dA 0, 6, .inl (fun _ => 0)), .inl (dA 0, 6, .inl (fun _ => 0)), .inl (dA 0, 6, .inl (fun _ => 0)), .inl (dA 0, 6, .inl (fun _ => 0)), .inl (dA 0, 6, .inl (fun _ => 0)), .inl (dA 0, 6, .inl (fun _ => 0))]
theorem rg_grid_inv {dA : Nat → ClassId} {a k : Nat} {e : va_E} (h : (rg_grid dA a)[k]? = some e) : (k = 0 ∧ e = .inl (dA 5, 6, .inr (.inr (.inr (.inr (fun j => if j < 6 then some (a + 1 + j) else none)))))) ∨ ∃ j, j < 6 ∧ k = j + 1 ∧ e = .inl (dA 0, 6, .inl (fun _ => 0)) := by
  match k, h with
  | 0, h => exact Or.inl ⟨rfl, (Option.some.inj h).symm⟩
  | 1, h => exact Or.inr ⟨0, by omega, rfl, (Option.some.inj h).symm⟩
  | 2, h => exact Or.inr ⟨1, by omega, rfl, (Option.some.inj h).symm⟩
  | 3, h => exact Or.inr ⟨2, by omega, rfl, (Option.some.inj h).symm⟩
  | 4, h => exact Or.inr ⟨3, by omega, rfl, (Option.some.inj h).symm⟩
  | 5, h => exact Or.inr ⟨4, by omega, rfl, (Option.some.inj h).symm⟩
  | 6, h => exact Or.inr ⟨5, by omega, rfl, (Option.some.inj h).symm⟩
  | k + 7, h => cases h
theorem rg_pushL {H H1 : Heap} {L : List va_E} (hz : H.size = Z.2.2 + C.length) (hP : va_P Z.1 fm_cl (rg_ws Z.2.2 C) H) (ho : ∀ q, q < H.size → H1[q]? = H[q]?) (he : ∀ k e, L[k]? = some e → va_at Z.1 fm_cl (H.size + k, e) H1) : va_P Z.1 fm_cl (rg_ws Z.2.2 (C ++ L)) H1 := by
  intro k q hk
  rw [rg_ws_get] at hk
  by_cases h : k < C.length
  · rw [List.getElem?_append_left h] at hk
    have h2 : (rg_ws Z.2.2 C)[k]? = some q := by rw [rg_ws_get]; exact hk
    exact (hP k q h2).kept (ho q.1 ((hP k q h2).lt))
  · rw [List.getElem?_append_right (by omega)] at hk
    cases h4 : L[k - C.length]? with
    | none => rw [h4] at hk; cases hk
    | some x =>
      rw [h4] at hk
      cases hk
      have h5 := he _ x h4
      rw [hz, show Z.2.2 + C.length + (k - C.length) = Z.2.2 + k by omega] at h5
      exact h5
theorem rg_multi (F : rg_F X Z cc nL own R0) {index : Nat} (d : decode cc pc = .ok (.multianewarray index 2, 4)) (w1 : Cond.classLink own index "[[I" ∈ lw_all) (w2 : Cond.arrayClass .int ∈ lw_all) (hR : cs.1 + 7 ≤ R0.cells ∧ cs.2 + 42 ≤ R0.slots) {cs' : Nat × Nat} (hcs : cs' = (cs.1 + 7, cs.2 + 42)) {a : Nat} (ha : a = Z.2.2 + C.length)
    (kk : rg_G X Z cs' nL (C ++ rg_grid Z.2.1 a) (pc + 4) lv (.ref a :: st)) : rg_G X Z cs nL C pc lv (.int 6 :: .int 6 :: st) := by
  subst ha
  subst hcs
  intro H locs ls hz hP hS hl T hT Y
  have hR' := hR
  rw [← F.room] at hR'
  have hpl : (xe X).platform.magicAccessors = ({} : Platform).magicAccessors := by rw [Y.admits.platform]
  obtain ⟨cI, cA, kA, hcI, -, hkA, hkindA, hnA⟩ := arrayOverA_spec (t := .int) F.ao.2.2
  obtain ⟨cI', kI, c2, hcI', hkI, hkindI⟩ := Cond.arrayClass_spec (F.words _ w2)
  have e1 : cI' = cI := Option.some.inj (hcI'.symm.trans hcI)
  subst e1
  have hA5 : cA = Z.2.1 5 := Option.some.inj (hnA.symm.trans (rg_cA F.kn).2.2.2)
  have hA0 : cI' = Z.2.1 0 := Option.some.inj (hcI'.symm.trans (rg_cA F.kn).1)
  obtain ⟨c0, hfc0, hcl⟩ := Cond.classLink_spec F.ownC (F.words _ w1) (xe X).platform hpl
  have e2 : c0 = cA := Option.some.inj (hfc0.symm.trans hnA)
  subst e2
  obtain ⟨hg1, hW1, hr1⟩ := State.classEntry (e := xe X) Y.warmed hcl
  generalize T.vm.noted (xm X).cls index (.cls c0) = vm1 at hg1 hW1 hr1
  have hal : (xs X).vm.Alike vm1 := hW1.alike
  obtain ⟨kA1, hkA1, heA⟩ := hal.2.2 _ _ hkA
  obtain ⟨kI1, hkI1, heI⟩ := hal.2.2 _ _ hkI
  have hkindA1 : kA1.kind = .array cI' (.array .int) := by rw [heA]; exact hkindA
  have hkindI1 : kI1.kind = .array c2 .int := by rw [heI]; exact hkindI
  have Y1 := Y.noted hW1
  have Y2 := rg_fi_stand Y1 c0 cI' 6
  have hra := Y.roomAbove hR'.1 hR'.2
  have hTz : (T.setVm vm1).heap.size = H.size := by show T.heap.size = _; rw [hT]
  obtain ⟨a1, a2, a3, a4, a5, a6⟩ := rg_fi_facts (T.setVm vm1) c0 cI' 6
  have hlim : ¬ 6 > (xe X).platform.arrayLengthLimit := by rw [Launch.admits_arrayLengthLimit Y.admits]; omega
  have hheap : ¬ 24 > (xe X).platform.maxHeapBytes := by rw [Launch.admits_maxHeapBytes Y.admits]; omega
  rw [hTz] at a1 a2 a5 a6
  have hold : ∀ q, q < H.size → (rg_fi (T.setVm vm1) c0 cI' 6).heap[q]? = H[q]? := fun q hq => by rw [a5 q hq]; show T.heap[q]? = _; rw [hT]
  have hG := kk (rg_fi (T.setVm vm1) c0 cI' 6).heap _ ls (by rw [a1, hz, List.length_append]; show _ = Z.2.2 + (C.length + 7); omega) (rg_pushL hz hP hold fun k e hk => ?_) ⟨Nat.le_trans hS.1 (by omega), fun x h1 h2 => (hold x (Nat.lt_of_lt_of_le h1 hS.1)).trans (hS.2.1 x h1 h2), fun q hq => ?_⟩ hl _ rfl Y2
  · obtain ⟨t, b1, b2⟩ := hG
    refine ⟨t, ?_, b2⟩
    jvm_step Y.here [F.exec, F.bytes, d]
    simp only [multianewarray.sem, wp_bind', W.resolveClassAt_links (State.method?_setTop (F0 (xm X) pc ls (.int 6 :: .int 6 :: st)) Y.here.top) hg1]
    rw [W.popN, if_neg (by decide)]
    refine ⟨_, State.topJava?_setTop' (s := T.setVm vm1) _ Y.here.top, [.int 6, .int 6], st, rfl, rfl, ?_⟩
    simp only [List.mapM_cons, List.mapM_nil, wp_bind', wp_pure']
    refine rg_wgrid (k := kA1) (kI := kI1) (cI := cI') (cc := c2) hkA1 hkindA1 hkI1 hkindI1 hlim hheap (by show T.heap.size + 7 ≤ _; omega) (by show T.slotsUsed + 42 ≤ _; omega) (fun d' acts' => ?_)
    have eS : ((T.setTop (F0 (xm X) pc ls (.int 6 :: .int 6 :: st))).setVm vm1).setTop (F0 (xm X) pc ls st) = (T.setVm vm1).setTop (F0 (xm X) pc ls st) := by
      show ((T.setVm vm1).setTop _).setTop _ = _
      rw [State.setTop_setTop]
    rw [eS, rg_fi_top]
    simp only [wp_bind', W.mark, W.pushRef, State.topJava?_setTop' _ Y2.here.top, Option.some.injEq, exists_eq_left', State.setTop_setTop, State.heap_setTop]
    intro acts
    simp [jvm, Y2.here.top]
    rw [hT, hz]
    exact b1
  · rcases rg_grid_inv hk with ⟨rfl, rfl⟩ | ⟨j, hj, rfl, rfl⟩
    · rw [hz] at a2
      show (rg_fi (T.setVm vm1) c0 cI' 6).heap[H.size]? = some (arrV (Z.2.1 5) 6 (rg_oV (Z.2.2 + C.length) 6))
      rw [hz, ← hA5]
      exact a2
    · have h9 := a6 j hj
      rw [show H.size + 1 + j = H.size + (j + 1) by omega] at h9
      show (rg_fi (T.setVm vm1) c0 cI' 6).heap[H.size + (j + 1)]? = some (arrV (Z.2.1 0) 6 (fun _ => .int 0))
      rw [← hA0]
      exact h9
  · rcases List.mem_append.mp hq with h | h
    · exact hS.2.2 q h
    · obtain ⟨j, -, rfl⟩ := List.mem_map.mp h
      show Z.2.2 ≤ (T.setVm vm1).heap.size
      omega
theorem rg_cB {dA : Nat → ClassId} {D : va_G} {s : State} (hK : va_K D fm_cl (fm_ty dA) s) : s.vm.findClass ("[" ++ (FieldType.object "BellLots$Plain").toString) = some (dA 3) ∧ s.vm.findClass ("[" ++ (FieldType.object "BellLots$Bell").toString) = some (dA 4) := by
  obtain ⟨_, _, _, _, _, k4⟩ := (hK.2 3 _ rfl).2
  obtain ⟨_, _, _, _, _, k5⟩ := (hK.2 4 _ rfl).2
  exact ⟨k4, k5⟩
/-- anewarray -/
theorem rg_anew (F : rg_F X Z cc nL own R0) {index : Nat} {E : String} {cA0 : ClassId} (d : decode cc pc = .ok (.anewarray index, 3)) (w : Cond.classLink own index E ∈ lw_all) (hO : va_AO E (xs X)) (hA : (xs X).vm.findClass ("[" ++ (FieldType.object E).toString) = some cA0) {n : Int32} (N : Nat) (hn : ¬ n < 0) (hN : n.toNatClampNeg = N) (hb : N ≤ 1000) (hR : cs.1 + 1 ≤ R0.cells ∧ cs.2 + N ≤ R0.slots) {cs' : Nat × Nat} (hcs : cs' = (cs.1 + 1, cs.2 + N)) {a : Nat} (ha : a = Z.2.2 + C.length)
    (kk : rg_G X Z cs' nL (C ++ [.inl (cA0, N, .inr (.inr (.inr (.inr (fun _ => none)))))]) (pc + 3) lv (.ref a :: st)) : rg_G X Z cs nL C pc lv (.int n :: st) := by
  subst ha
  subst hcs
  subst hN
  intro H locs ls hz hP hS hl
  have hR' := hR
  rw [← F.room] at hR'
  refine W.anew F.exec F.bytes F.ownC (F.words _ w) (va_AO.use hO) rfl d rfl hn (by omega) hR'.1 hR'.2 fun cA kA comp f1 f2 f3 f4 => ?_
  have hcA : cA = cA0 := Option.some.inj (f1.symm.trans hA)
  subst hcA
  rw [← hz] at kk
  refine kk _ locs ls (by rw [Array.size_push, hz, List.length_append]; rfl) (rg_push hz hP (fun q hq => ?_) ?_) (rg_sz hS (by rw [Array.size_push]) (fun q hq => ?_)) hl
  · rw [Array.getElem?_push, if_neg (Nat.ne_of_lt hq)]
  · rw [arrV_new]
    show _ = some (arrV cA n.toNatClampNeg (fun _ => .null))
    simp
  · rw [Array.getElem?_push, if_neg (Nat.ne_of_lt hq)]
/-- aastore of an object -/
theorem rg_aast (F : rg_F X Z cc nL own R0) (t0 : Nat) {E : String} {cA : ClassId} (ht : (fm_ty Z.2.1)[t0]? = some (cA, .object E)) {ci : Nat} {r : vw_C} (hc : fm_cl[ci]? = some r) (hca : r.1 = E ∨ Cond.castable r.1 E ∈ lw_tbl) (d : decode cc pc = .ok (.aastore, 1)) (j : Nat) {n : Nat} {f : Nat → Option Nat} (he : C[j]? = some (.inl (cA, n, .inr (.inr (.inr (.inr f))))))
    (k : Nat) {fs : List Value} (hv : C[k]? = some (.inr (ci, fs))) {i : Int32} (hin : vp_in i n) {a v : Nat} (ha : a = Z.2.2 + j) (hb : v = Z.2.2 + k) (kk : rg_G X Z cs nL (C.set j (.inl (cA, n, .inr (.inr (.inr (.inr (va_up f i.toNatClampNeg (some v)))))))) (pc + 1) lv st) : rg_G X Z cs nL C pc lv (.ref v :: .int i :: .ref a :: st) := by
  subst ha
  subst hb
  intro H locs ls hz hP hS hl
  have he' := rg_ws_at (b := Z.2.2) he
  have hlt : i.toNatClampNeg < n := Nat.not_le.mp fun q => hin (Or.inr q)
  have h0 : ¬ i < 0 := fun q => hin (Or.inl q)
  obtain ⟨r', hr', cellV, g1, g2, g3, -⟩ := hP k _ (rg_ws_at hv)
  have hcls := (F.kn.1 ci r hc).2
  obtain ⟨kA, comp, k1, k2, k3, -⟩ := (F.kn.2 t0 _ ht).2
  obtain ⟨kE, hkE, -⟩ := Vm.findClass_spec k3
  obtain ⟨kC, hkC, -⟩ := hcls.2
  have has : (xs X).vm.assignable (Z.1.1 ci) comp = true := by
    rcases hca with h | h
    · subst h
      have hcomp : comp = Z.1.1 ci := Option.some.inj (k3.symm.trans hcls.1)
      rw [hcomp]
      exact va_assign hcls
    · obtain ⟨c0, t1, f1, f2, f3⟩ := Cond.castable_spec (va_Nw.use (A := xa X) rfl (F.nest h rfl))
      have e1 : c0 = Z.1.1 ci := Option.some.inj (f1.symm.trans hcls.1)
      have e2 : t1 = comp := Option.some.inj (f2.symm.trans k3)
      rw [← e1, ← e2]
      exact f3
  refine W.aast F.exec F.bytes (hP j _ he') (fun q h => by cases h) (fun h => by cases h) k1 k2 rfl hkE ⟨h0, by show _ < (arrV _ _ _).slots.size; rw [arrV_size]; exact hlt⟩ g1 (fun q h => by rw [g3] at h; cases h) (by rw [g2]; exact hkC) (by rw [g2]; exact has) rfl rfl d fun H1 e z oq => ?_
  refine kk H1 _ ls (by rw [z, hz, List.length_set]) ?_ (hS.put z oq (Nat.le_add_right _ _)) hl
  rw [← rg_ws_set]
  refine hP.set rg_D he' ?_ oq
  show H1[Z.2.2 + j]? = some (vp_cell _ _)
  rw [e, vp_cell_q, vp_cell_q, arrV_store]
  congr 2
  funext q
  by_cases hq : q = i.toNatClampNeg
  · subst hq
    simp [updV, va_up, va_rf]
  · simp [updV, va_up, hq]
end RG3
/-- final fields of other owners lie apart, whatever their names -/
theorem rg_apartO {args : Array Value} {s : State} {C O f d O' f' d' : String} (h : (Cond.laysFinal C O f d).before args s = true) (h' : (Cond.laysFinal C O' f' d').before args s = true) {cf fi cf' fi' : Nat} {kf kf' : Class} {fd fd' : Field} (hi : s.fieldFound? O f d = some (cf, kf, fi, fd)) (hi' : s.fieldFound? O' f' d' = some (cf', kf', fi', fd')) (hne : O ≠ O') : fd.slot ≠ fd'.slot := by
  obtain ⟨c, k, c1, k1, i1, f1, a1, a2, a3, a4, a5, a6, a7, a8, e, a9, a10, -⟩ := Cond.laysFinal_spec h
  obtain ⟨c', k', c1', k1', i1', f1', b1, b2, b3, b4, b5, b6, b7, b8, e', b9, b10, -⟩ := Cond.laysFinal_spec h'
  have q1 : (c1, k1, i1, f1) = (cf, kf, fi, fd) := Option.some.inj (a3.symm.trans hi)
  have q2 : (c1', k1', i1', f1') = (cf', kf', fi', fd') := Option.some.inj (b3.symm.trans hi')
  cases q1
  cases q2
  have q3 : c = c' := Option.some.inj (a1.symm.trans b1)
  subst q3
  intro hs
  rw [hs] at a9
  have q4 : e = e' := Option.some.inj (a9.symm.trans b9)
  subst q4
  obtain ⟨kk, g1, g2⟩ := Vm.findClass_spec a7
  obtain ⟨kk', g1', g2'⟩ := Vm.findClass_spec b7
  have w1 := (State.fieldFound?_spec hi).1
  have w2 := (State.fieldFound?_spec hi').1
  have v1 : kk = kf := Option.some.inj (g1.symm.trans w1)
  have v2 : kk' = kf' := Option.some.inj (g1'.symm.trans w2)
  subst v1
  subst v2
  exact hne (g2.symm.trans (a10.symm.trans (b10.trans g2')))
theorem rg_F.apO {X : fm_X} {Z : rg_Z} {cc : ByteArray} {nL : Nat} {own : String} {R0 : Room} (F : rg_F X Z cc nL own R0) {ci n : Nat} {c0 : String} {T : u_T} (hc : fm_cl[ci]? = some (c0, T, n)) (hin : ∀ w ∈ u_ws c0 T n, w ∈ lw_all) (hfin : ∀ k, k < n → (T k).2.2.2 = true) (hno : ∀ a, a < n → ∀ b, b < n → a ≠ b → (T a).1 ≠ (T b).1) : ∀ x y, x < n → y < n → x ≠ y → (Z.1.2 ci) x ≠ (Z.1.2 ci) y := by
  intro x y hx hy hne
  obtain ⟨hS, -⟩ := F.kn.1 ci _ hc
  obtain ⟨_, _, _, fa, hia, ea⟩ := hS x hx
  obtain ⟨_, _, _, fb, hib, eb⟩ := hS y hy
  have h1 := F.words _ (hin _ (u_in_lay hx))
  have h2 := F.words _ (hin _ (u_in_lay hy))
  unfold u_lay at h1 h2
  rw [if_pos (hfin x hx)] at h1
  rw [if_pos (hfin y hy)] at h2
  rw [← ea, ← eb]
  exact rg_apartO h1 h2 hia hib (hno x hx y hy hne)
section RG4
variable {X : fm_X} {Z : rg_Z} {cs : Nat × Nat} {cc : ByteArray} {nL : Nat} {own : String} {R0 : Room} {C : List va_E} {pc : Nat} {lv : List (Nat × Value)} {st : List Value}
/-- invokevirtual of a method that makes cells behind all that is there -/
theorem rg_callV (F : rg_F X Z cc nL own R0) {C2 : List va_E} (j : Nat) {ci nf : Nat} {fs : List Value} {c0 : String} {T : u_T} (he : C[j]? = some (.inr (ci, fs))) (hc : fm_cl[ci]? = some (c0, T, nf)) {y : MethodName} {bytes : ByteArray} {maxL n index mc ms : Nat} {rm : Room} {ret : Option FieldType} {r : Option Value} {As rest st0 : List Value} {a : Nat} (ha : a = Z.2.2 + j)
    (hM : rg_C (xl X) y (ws_ y bytes maxL ret) rm (Z.1, Z.2.1, Z.2.2 + C.length) (.ref a :: As) [] r C2 mc ms) (w1 : Cond.methodLink own index y ∈ lw_all) (w2 : Cond.instanceMethod y ∈ lw_all) (w3 : Cond.selects c0 y y ∈ lw_all) (w4 : Cond.initialized c0 ∈ lw_all) (w5 : Cond.code y bytes maxL ret ∈ lw_all)
    (hz : rm.cells = mc ∧ rm.slots = ms) (hd : y.cls = c0 ∧ y.cls ≠ "java/lang/invoke/MethodHandle" ∧ y.cls ≠ "java/lang/invoke/VarHandle" ∧ (parseMethodDescriptor y.desc).map (fun d => d.parameters.length) = some n) (hR : rm.frames + 1 ≤ R0.frames ∧ 8 + (maxL + 11) + rm.locals ≤ R0.locals ∧ cs.1 + mc ≤ R0.cells ∧ cs.2 + ms ≤ R0.slots)
    (hn : As.length = n) (hst : st0 = As.reverse ++ .ref a :: rest) (hW : (rest.map fun v => v.category).sum ≤ 8) (d : decode cc pc = .ok (.invokevirtual index, 3)) {cs' : Nat × Nat} (hcs : cs' = (cs.1 + mc, cs.2 + ms)) (kk : rg_G X Z cs' nL (C ++ C2) (pc + 3) lv (r.toList ++ rest)) : rg_G X Z cs nL C pc lv st0 := by
  subst hst
  subst hcs
  subst ha
  have hR' := hR
  rw [← F.room] at hR'
  exact rg_ran (C0 := C) (C1 := []) (List.append_nil C).symm (fun H locs ls hz1 hP hS hl => va_runV ⟨F.exec, F.bytes, F.maxL, F.ownC, F.words⟩ hM (cwV n F.words (lw_V w1 w2 w3 w4 w5) rfl hz.1 hz.2 hd ⟨hR'.1, hR'.2.1⟩) ⟨rg_blind, va_recv F.kn hP hc (rg_ws_at (by rw [List.append_nil]; exact he)), rg_pre F hz1 hP hS⟩ rfl hn hl.1 rfl (fm_sum0 hW rfl) d ⟨hR'.2.2.1, hR'.2.2.2⟩) kk
theorem rg_callIB (F : rg_F X Z cc nL own R0) (C0 : List va_E) {C1 C2 : List va_E} (hC : C = C0 ++ C1) {b1 : Nat} (hb1 : Z.2.2 + C0.length = b1) {y : MethodName} {host : String} {bytes : ByteArray} {maxL n index mc ms : Nat} {rm : Room} {As rest st0 : List Value} {a : Nat}
    (hM : rg_C (xl X) y (ws_ y bytes maxL none) rm (Z.1, Z.2.1, b1) (.ref a :: As) C1 none C2 mc ms) (w1 : Cond.methodLinkNest own index y host ∈ lw_tbl) (w2 : Cond.instanceMethod y ∈ lw_all) (w3 : Cond.initialized y.cls ∈ lw_all) (w5 : Cond.code y bytes maxL none ∈ lw_all) (hi : y.name = "<init>")
    (hz : rm.cells = mc ∧ rm.slots = ms) (hd : y.cls ≠ "java/lang/invoke/MethodHandle" ∧ y.cls ≠ "java/lang/invoke/VarHandle" ∧ (parseMethodDescriptor y.desc).map (fun d => d.parameters.length) = some n) (hR : rm.frames + 1 ≤ R0.frames ∧ 8 + (maxL + 11) + rm.locals ≤ R0.locals ∧ cs.1 + mc ≤ R0.cells ∧ cs.2 + ms ≤ R0.slots)
    (hn : As.length = n) (hst : st0 = As.reverse ++ .ref a :: rest) (hW : (rest.map fun v => v.category).sum ≤ 8) (d : decode cc pc = .ok (.invokespecial index, 3)) {cs' : Nat × Nat} (hcs : cs' = (cs.1 + mc, cs.2 + ms)) (kk : rg_G X Z cs' nL (C0 ++ C2) (pc + 3) lv rest) : rg_G X Z cs nL C pc lv st0 := by
  subst hb1
  exact rg_callIN F C0 hC hM w1 w2 w3 w5 hi hz hd hR hn hst hW d hcs kk
theorem rg_callVB (F : rg_F X Z cc nL own R0) {C2 : List va_E} (j : Nat) {ci nf : Nat} {fs : List Value} {c0 : String} {T : u_T} (he : C[j]? = some (.inr (ci, fs))) (hc : fm_cl[ci]? = some (c0, T, nf)) {y : MethodName} {bytes : ByteArray} {maxL n index mc ms : Nat} {rm : Room} {ret : Option FieldType} {r : Option Value} {As rest st0 : List Value} {a : Nat} (ha : a = Z.2.2 + j) {b1 : Nat} (hb1 : Z.2.2 + C.length = b1)
    (hM : rg_C (xl X) y (ws_ y bytes maxL ret) rm (Z.1, Z.2.1, b1) (.ref a :: As) [] r C2 mc ms) (w1 : Cond.methodLink own index y ∈ lw_all) (w2 : Cond.instanceMethod y ∈ lw_all) (w3 : Cond.selects c0 y y ∈ lw_all) (w4 : Cond.initialized c0 ∈ lw_all) (w5 : Cond.code y bytes maxL ret ∈ lw_all)
    (hz : rm.cells = mc ∧ rm.slots = ms) (hd : y.cls = c0 ∧ y.cls ≠ "java/lang/invoke/MethodHandle" ∧ y.cls ≠ "java/lang/invoke/VarHandle" ∧ (parseMethodDescriptor y.desc).map (fun d => d.parameters.length) = some n) (hR : rm.frames + 1 ≤ R0.frames ∧ 8 + (maxL + 11) + rm.locals ≤ R0.locals ∧ cs.1 + mc ≤ R0.cells ∧ cs.2 + ms ≤ R0.slots)
    (hn : As.length = n) (hst : st0 = As.reverse ++ .ref a :: rest) (hW : (rest.map fun v => v.category).sum ≤ 8) (d : decode cc pc = .ok (.invokevirtual index, 3)) {cs' : Nat × Nat} (hcs : cs' = (cs.1 + mc, cs.2 + ms)) (kk : rg_G X Z cs' nL (C ++ C2) (pc + 3) lv (r.toList ++ rest)) : rg_G X Z cs nL C pc lv st0 := by
  subst hb1
  exact rg_callV F j he hc ha hM w1 w2 w3 w4 w5 hz hd hR hn hst hW d hcs kk
theorem rg_spA {x e : va_E} {L K : List va_E} {n : Nat} (h : L.length = n) : (x :: (L ++ e :: K))[n + 1]? = some e := by
  subst h
  simp
theorem rg_spB {x e : va_E} {L K : List va_E} {n : Nat} (h : L.length = n) (i : Nat) {e' : va_E} (hi : K[i]? = some e') : (x :: (L ++ e :: K))[n + 1 + i + 1]? = some e' := by
  subst h
  rw [List.getElem?_cons_succ, List.getElem?_append_right (by omega), show L.length + 1 + i - L.length = i + 1 by omega, List.getElem?_cons_succ]
  exact hi
theorem rg_spC {x e e' : va_E} {L K : List va_E} {n : Nat} (h : L.length = n) : (x :: (L ++ e :: K)).set (n + 1) e' = x :: (L ++ e' :: K) := by
  subst h
  rw [List.set_cons_succ, List.set_append_right _ _ (Nat.le_refl _), Nat.sub_self, List.set_cons_zero]
end RG4
