/-! an exception caught in the method's own table (its class cold or warm); a call of a method with handlers -/
set_option maxRecDepth 100000
theorem pw_goCold {e : Env} {d : Bool} {acts : List Action} {s : State} {f : JFrame} {a : Addr} {Q : Handler → Pre} {E : CtlPost} {x : ExceptionTableEntry} {t : List ExceptionTableEntry} {c : ClassId} {cell : Cell} {vm' : Vm} (hx : covers x f.pc = true) (h0 : x.catchType ≠ 0)
    (hg : (Jvm.resolveClass f.method.cls x.catchType).Gives e.toSetting s.vm (.ok c) vm') (hsz : vm'.classes.size ≤ s.vm.classes.size) (hcell : s.heap[a]? = some cell) (hobj : ∀ k, cell.vm ≠ .statics k) (hk : ∃ k, vm'.classes[cell.cls]? = some k) (hc : ∃ k, vm'.classes[c]? = some k) (hfit : vm'.assignable cell.cls c = true) :
    wp (findHandler.go f a (x :: t)) Q E e d acts s ↔ Q (.found x.handlerPc) d acts (s.setVm vm') := by
  simp only [covers] at hx
  obtain ⟨ha, ht⟩ := hg.op (op := VmOp.resolveClass f.method.cls x.catchType) rfl
  have hcell' : (s.setVm vm').heap[a]? = some cell := hcell
  simp [findHandler.go, hx, h0, ha, ht, hsz, hcell, hobj, hk, hc, hfit, VmOp.dirties, VmOp.acts]
theorem pw_stepCatch {e : Env} {s : State} {a : Addr} {f : JFrame} {r : List Frame} {pc : Nat} {vm' : Vm} (hfind : ∀ (Q : Handler → Pre) (E : CtlPost) (d : Bool) (acts : List Action), wp (findHandler f a) Q E e d acts s ↔ Q (.found pc) d acts (s.setVm vm')) :
    (stepThrowing e s a (.java f :: r)).Is ((s.setVm vm').setFrames (.java { f with pc := pc, stack := [.ref a] } :: r)) [] := by
  simp only [stepThrowing, searchFrame, vmDo]
  generalize hr : Sem.go _ e false [] s = res
  obtain ⟨as, rfl, ha⟩ := Sem.eq_ok_of hr (a := Handler.found pc) (s' := s.setVm vm') (acts' := []) (by simp [hfind _ _ _ _])
  exact ⟨rfl, ha⟩
section PWC
variable {p : Program} {l : Launch} {e : Env} {R : Room} {s : State} {m : MethodId} {args : Array Value} {below : List Frame} {meth : Method} {c : Code} {T : State} {locs : List Loc} {cells slots : Nat}
theorem pw_caught (X : Stand p l e R s m args below meth c T locs cells slots) {own name : String} {index hpc : Nat} (hown : s.vm.findClass own = some m.cls) (hlink : (Cond.classLink own index name).before args s = true) {x : ExceptionTableEntry} (htab : c.exceptionTable.toList = [x]) (hct : x.catchType = index) (hix : index ≠ 0) (hhp : x.handlerPc = hpc)
    {a : Addr} {cell : Cell} {cT : ClassId} {ks : Class} (hcell : T.heap[a]? = some cell) (hobj : ∀ k, cell.vm ≠ .statics k) (hks : s.vm.classes[cell.cls]? = some ks) (hcT : s.vm.findClass name = some cT) (hasg : s.vm.assignable cell.cls cT = true)
    {g : JFrame} (hg : g.method = m) (hcov : covers x g.pc = true) :
    ∃ vm', Stand p l e R s m args below meth c (T.setVm vm') locs cells slots ∧ ∀ target, Steps p.tables e below ((T.setVm vm').setTop { g with pc := hpc, stack := [.ref a] }) target → Steps p.tables e below ((T.setTop g).pushFrame (.throwing a)) target := by
  have hpl : e.platform.magicAccessors = ({} : Platform).magicAccessors := by rw [X.admits.platform]
  obtain ⟨c', hc', hcl⟩ := Cond.classLink_spec hown hlink e.platform hpl
  cases hcT.symm.trans hc'
  obtain ⟨dk, _, _, kt, hd, _, _, _, _, hkt, _, hopen⟩ := hcl.here
  have hcl₀ := X.warmed.classLinks hcl
  have hW' : s.WarmedH (T.vm.noted m.cls index (.cls cT)) := X.warmed.noted hd hopen (State.rightAt_cls hcl)
  obtain ⟨ks', hks', -⟩ := hW'.alike.2.2 _ _ hks
  obtain ⟨kt', hkt', -⟩ := hW'.alike.2.2 _ _ hkt
  refine ⟨_, X.noted hW', fun target hrest => ?_⟩
  subst hg
  have hAt : At T g.method c below := X.here
  obtain ⟨hgo, hw⟩ := hAt.throwing a
  have hm : ((T.setTop g).pushFrame (.throwing a)).vm.method? g.method = some meth := by rw [Stand.throwing_vm]; exact X.method'
  have hfind : ∀ (Q : Handler → Pre) (E : CtlPost) (d : Bool) (acts : List Action), wp (findHandler g a) Q E e d acts ((T.setTop g).pushFrame (.throwing a)) ↔ Q (.found hpc) d acts (((T.setTop g).pushFrame (.throwing a)).setVm (T.vm.noted g.method.cls index (.cls cT))) := by
    intro Q E d acts
    rw [W.findHandler_eq hm X.code, htab, ← hhp]
    refine pw_goCold hcov (by rw [hct]; exact hix) ?_ ?_ ?_ hobj ⟨ks', hks'⟩ ⟨kt', hkt'⟩ ?_
    · rw [Stand.throwing_vm, hct]
      exact resolveClass_links e.toSetting hcl₀
    · rw [Stand.throwing_vm, Vm.size_noted]
      exact Nat.le_refl _
    · rw [Stand.throwing_heap]; exact hcell
    · rw [hW'.alike.assignable]; exact hasg
  refine Steps.head hgo hw ?_
  rw [stepThread_throwing (frames_entered hAt.top _), (pw_stepCatch (s := (T.setTop g).pushFrame (.throwing a)) hfind).1]
  obtain ⟨g₀, hg0⟩ := Option.isSome_iff_exists.mp hAt.top
  obtain ⟨r, hr⟩ := State.topJava?_eq_some.mp hg0
  have hr' : (T.setVm (T.vm.noted g.method.cls index (.cls cT))).frames = .java g₀ :: r := hr
  rw [State.setTop_of_frames _ hr'] at hrest
  have e1 : (((T.setTop g).pushFrame (.throwing a)).setVm (T.vm.noted g.method.cls index (.cls cT))).setFrames (.java { g with pc := hpc, stack := [.ref a] } :: T.frames.tail) = (T.setVm (T.vm.noted g.method.cls index (.cls cT))).setFrames (.java { g with pc := hpc, stack := [.ref a] } :: r) := by
    rw [hr, State.pushFrame, State.setTop_of_frames _ hr, State.setFrames_setFrames]
    show ((T.setVm _).setFrames _).setFrames _ = _
    rw [State.setFrames_setFrames]
    rfl
  rw [e1]
  exact hrest
/-- invokevirtual of a method with handlers -/
theorem pw_callVW (X : Stand p l e R s m args below meth c T locs cells slots) (hexec : p.tables.exec = Jvm.exec) {own C : String} {index : Nat} {y : MethodName} {bytes : ByteArray} {maxL : Nat} {ret : Option FieldType} {hh : List (Nat × Nat × Nat × Nat)}
    (hown : s.vm.findClass own = some m.cls) (hlink : (Cond.methodLink own index y).before args s = true) (hinst : (Cond.instanceMethod y).before args s = true) (hsel : (Cond.selects C y y).before args s = true) (hcode : (Cond.codeWith y bytes maxL ret hh).before args s = true) (hy : y.cls ≠ "java/lang/invoke/MethodHandle" ∧ y.cls ≠ "java/lang/invoke/VarHandle")
    {W : Nat} {Pre : Pt → Array Value → Prop} {Post : Pt → Array Value → Option Value → Pt → Prop} (hK : Back l R p e below s args y 3 W Pre Post) {b : Addr} {cellB : Cell} (hcell : T.heap[b]? = some cellB) (hobj : cellB.vm.isStatics = false) (hcls : s.vm.findClass C = some cellB.cls)
    {g : JFrame} (hg : g.method = m) (hsize : g.locals.size = c.maxLocals) {argsL rest : List Value} (hlen : ∀ sig, parseMethodDescriptor y.desc = some sig → argsL.length = sig.parameters.length) (hstack : g.stack = argsL.reverse ++ .ref b :: rest) (hW : 2 * g.monitorRoom + (rest.map fun v => v.category).sum ≤ W) (hdg : decode c.code g.pc = .ok (.invokevirtual index, 3))
    (hpre : ∀ vm₁, s.WarmedH vm₁ → Pre ⟨T.setVm vm₁, locs, cells, slots⟩ (Value.ref b :: argsL).toArray) :
    ∃ (v : Option Value) (vm₁ : Vm) (B : Pt), s.WarmedH vm₁ ∧ Stand p l e R s m args below meth c B.U B.locs B.cells B.slots ∧ Post ⟨T.setVm vm₁, locs, cells, slots⟩ (Value.ref b :: argsL).toArray v B ∧ ∀ target, Steps p.tables e below (B.U.setTop { g with pc := g.pc + 3, stack := v.toList ++ rest }) target → Steps p.tables e below (T.setTop g) target := by
  obtain ⟨mk, methM, hnamed, hmethM, hstM, habM⟩ := Cond.instanceMethod_spec hinst
  obtain ⟨m9, methM', cM, hn9, hmethM', -, -, -, -, -, -, hsigM⟩ := Cond.codeWith_spec hcode
  cases hnamed.symm.trans hn9
  cases hmethM.symm.trans hmethM'
  obtain ⟨c2, r2, m2, q1, q2, q3, q4, kP, hkP, hkPi⟩ := Cond.selects_spec hsel
  cases hcls.symm.trans q1
  cases (State.methodFound?_of_named hnamed hy).symm.trans q2
  cases hnamed.symm.trans q3
  have hselP : selectMethod e.platform s.vm cellB.cls mk = .method mk := by rw [Launch.admits_selectMethod X.admits]; exact q4
  obtain ⟨vm₁, X₁, hstep₁⟩ := X.invokevirtual hexec hown hlink hnamed hmethM hstM hkP hkPi hy (a := b) (cell := cellB) hcell (fun z h => by rw [h] at hobj; cases hobj) hselP hmethM habM hkP hkPi (g := g) hg (argsL := argsL) (rest := rest) (hlen _ hsigM) hstack hdg
  obtain ⟨v, B, X', hpost, hsteps⟩ := hK m meth c ⟨T.setVm vm₁, locs, cells, slots⟩ { g with stack := rest } (.invokevirtual index) mk (Value.ref b :: argsL).toArray X₁ hg hsize hdg hW (X₁.named hnamed) (hpre vm₁ X₁.warmed)
  exact ⟨v, vm₁, B, X₁.warmed, X', hpost, fun target h => hstep₁ _ fun acts => by rw [doInvoke_state]; exact hsteps.trans h⟩
end PWC
