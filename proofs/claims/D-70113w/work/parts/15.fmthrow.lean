/-! methods that end in a throw -/
set_option maxRecDepth 100000
def fm_FT (s t : State) (L : List Loc) (mc ms : Nat) : Prop := s.WarmedH t.vm ∧ s.sameButNew ({ t with vm := s.vm } : State) L mc ms
def fm_MQT (below : List Frame) (Qc : Array Value → State → Addr → State → Prop) (a : Array Value) (s : State) (mc ms : Nat) (free : Addr → Prop) : State → Prop := fun t =>
  ∃ x : Addr, t.status = .running ∧ Ended t below (.threw x) ∧ Qc a s x t ∧ ∃ L, fm_FT s t L mc ms ∧ ∀ q ∈ L, free q.base
def fm_MetT (l : Launch) (y : MethodName) (ws : List Cond) (rm : Room) (Pc : Array Value → State → Prop) (Qc : Array Value → State → Addr → State → Prop) (mc ms : Nat) (free : Addr → Prop) : Prop :=
  MetFree l y (headSpec ws rm) Pc (fun _ _ _ _ _ => True) (fun a st o t => ∃ x, o = .threw x ∧ Qc a st x t ∧ ∃ L, fm_FT st t L mc ms ∧ ∀ q ∈ L, free q.base)
section FT1
variable {p : Program} {l : Launch} {e : Env} {R : Room} {s : State} {m : MethodId} {args : Array Value} {below : List Frame} {meth : Method} {c : Code} {H : Heap} {locs : List Loc} {cells slots : Nat}
theorem fm_MetT.ofW {y : MethodName} {ws ws' : List Cond} {rm : Room} {Pc : Array Value → State → Prop} {Qc : Array Value → State → Addr → State → Prop} {mc ms : Nat} {free : Addr → Prop} {cc : ByteArray} {maxL : Nat} {ret : Option FieldType}
    (hy : plainName y.cls = true) (hw : ws = Cond.code y cc maxL ret :: ws')
    (body : ∀ p e s m args below meth c s₁, BodyLoose p l y (headSpec ws rm) cc maxL ret e s m args below meth c s₁ → c.maxLocals = maxL → Pc args s →
      W p l e (headSpec ws rm).room s m args below meth c s.heap [] 0 0 (fm_MQT below Qc args s mc ms free) (entryFrame m args maxL)) : fm_MetT l y ws rm Pc Qc mc ms free := by
  refine MetFree.of_bodyS (code := cc) (maxLocals := maxL) (ret := ret) hy ?_ ?_
  · intro args s m h hn
    obtain ⟨meth, c, h1, h2, h3, h4, h5, h6, -, -⟩ := Cond.code_spec hn (atoms_spec (ws := ws) h _ (by rw [hw]; exact List.mem_cons_self))
    exact ⟨meth, c, h1, h2, h3, h4, h5, h6⟩
  · intro p e s m args below meth c s₁ B hml hP _
    have hh0 : s₁.heap = s.heap := by rw [B.state]; rfl
    obtain ⟨t, a1, x, b1, b2, b3, b4⟩ := body p e s m args below meth c s₁ B hml hP s₁ hh0 (Stand.of_body B)
    exact ⟨t, .threw x, a1, b1, b2, ⟨x, rfl, b3, b4⟩⟩
theorem fm_noH {c : Code} (h : c.exceptionTable.isEmpty = true) {pc : Nat} : ∀ x ∈ c.exceptionTable.toList, covers x pc = false := by
  intro x hx
  rw [Array.isEmpty_iff.mp h] at hx
  cases hx
theorem fm_Wathrow {cc : ByteArray} {Qc : Array Value → State → Addr → State → Prop} {free : Addr → Prop} {a : Addr} {rest : List Value} (hexec : p.tables.exec = Jvm.exec) (hb : c.code = cc) (hno : c.exceptionTable.isEmpty = true) (hlocks : meth.locks = false)
    (hq : ∀ t : State, t.heap = H → s.WarmedH t.vm → Qc args s a t) (hf : ∀ q ∈ locs, free q.base) {pc : Nat} {ls : Array Slot} (hdg : decode cc pc = .ok (.athrow, 1)) : W p l e R s m args below meth c H locs cells slots (fm_MQT below Qc args s cells slots free) (F0 m pc ls (.ref a :: rest)) := by
  intro T hT X
  obtain ⟨h1, h2, h3, h4, h5⟩ := X.athrowLeaves hexec (g := F0 m pc ls (.ref a :: rest)) rfl rfl rfl (fm_noH hno) rfl (by rw [hb]; exact hdg) hlocks
  exact ⟨_, h1, a, h2, h3, hq _ hT h4, locs, ⟨h4, h5⟩, hf⟩
/-- an invokevirtual whose callee throws: the note lies over the caller's frame -/
theorem fm_thrV {T : State} (X : Stand p l e R s m args below meth c T locs cells slots) (hexec : p.tables.exec = Jvm.exec) {own C : String} {index : Nat} {y : MethodName} {bytes : ByteArray} {maxL : Nat} {ret : Option FieldType} {ws : List Cond} {rm : Room} {Pc : Array Value → State → Prop} {Qc : Array Value → State → Addr → State → Prop} {mc ms : Nat} {free : Addr → Prop}
    (hown : s.vm.findClass own = some m.cls) (hlink : (Cond.methodLink own index y).before args s = true) (hinst : (Cond.instanceMethod y).before args s = true) (hsel : (Cond.selects C y y).before args s = true)
    (hcode : (Cond.code y bytes maxL ret).before args s = true) (hini : (Cond.initialized y.cls).before args s = true) (hy : y.cls ≠ "java/lang/invoke/MethodHandle" ∧ y.cls ≠ "java/lang/invoke/VarHandle")
    (hM : fm_MetT l y ws rm Pc Qc mc ms free) (hbl : FrameBlind Pc) (hrc : rm.cells = mc) (hrs : rm.slots = ms) (hfr : rm.frames + 1 ≤ R.frames) (hlo : 8 + (maxL + 11) + rm.locals ≤ R.locals)
    (hws : ∀ w ∈ ws, ∀ (a' : Array Value) (U : State), s.WarmedH U.vm → w.before a' U = true)
    {b : Addr} {cellB : Cell} (hcell : T.heap[b]? = some cellB) (hobj : cellB.vm.isStatics = false) (hcls : s.vm.findClass C = some cellB.cls)
    {g : JFrame} (hg : g.method = m) (hsize : g.locals.size = c.maxLocals) {argsL rest : List Value} (hlen : ∀ sig, parseMethodDescriptor y.desc = some sig → argsL.length = sig.parameters.length)
    (hstack : g.stack = argsL.reverse ++ .ref b :: rest) (hW : 2 * g.monitorRoom + (rest.map fun v => v.category).sum ≤ 8) (hdg : decode c.code g.pc = .ok (.invokevirtual index, 3)) (hcs : cells + mc ≤ R.cells ∧ slots + ms ≤ R.slots)
    (hpre : ∀ U : State, U.heap = T.heap → s.WarmedH U.vm → Pc (Value.ref b :: argsL).toArray U) :
    ∃ (x : Addr) (st₀ t T' : State) (L : List Loc), st₀.heap = T.heap ∧ Stand p l e R s m args below meth c T' (locs ++ L) (cells + mc) (slots + ms) ∧ (∀ q ∈ L, free q.base) ∧ T'.heap = t.heap ∧ T'.vm = t.vm ∧ Qc (Value.ref b :: argsL).toArray st₀ x t ∧
      ∀ tg, Steps p.tables e below ((T'.setTop { g with stack := rest }).pushFrame (.throwing x)) tg → Steps p.tables e below (T.setTop g) tg := by
  obtain ⟨mk, methM, hnamed, hmethM, hstM, habM⟩ := Cond.instanceMethod_spec hinst
  obtain ⟨methM', cM, hmethM', hcM, -, hlM, -, -, -, hsigM⟩ := Cond.code_spec hnamed hcode
  cases hmethM.symm.trans hmethM'
  obtain ⟨c2, r2, m2, q1, q2, q3, q4, kP, hkP, hkPi⟩ := Cond.selects_spec hsel
  cases hcls.symm.trans q1
  cases (State.methodFound?_of_named hnamed hy).symm.trans q2
  cases hnamed.symm.trans q3
  have hselP : selectMethod e.platform s.vm cellB.cls mk = .method mk := by rw [Launch.admits_selectMethod X.admits]; exact q4
  obtain ⟨vm₁, X₁, hstep₁⟩ := X.invokevirtual hexec hown hlink hnamed hmethM hstM hkP hkPi hy (a := b) (cell := cellB) hcell
    (fun z h => by rw [h] at hobj; cases hobj) hselP hmethM habM hkP hkPi (g := g) hg (argsL := argsL) (rest := rest) (hlen _ hsigM) hstack hdg
  subst hg
  have hW₁ := X₁.warmed
  have hn₁ : (T.setVm vm₁).methodNamed? y = some mk := X₁.named hnamed
  have hcode₁ : (Cond.code y bytes maxL ret).before (Value.ref b :: argsL).toArray (T.setVm vm₁) = true := word_at (U := T.setVm vm₁) hW₁ (Or.inl (by first | rfl | simp [Cond.onTables, Cond.keeps, Cond.steady])) hcode
  have hini₁ : (Cond.initialized y.cls).before (Value.ref b :: argsL).toArray (T.setVm vm₁) = true := word_at (U := T.setVm vm₁) hW₁ (Or.inl (by first | rfl | simp [Cond.onTables, Cond.keeps, Cond.steady])) hini
  obtain ⟨methY, cY, hmY, hcY, -, hlY, -, -, -, -⟩ := Cond.code_spec hn₁ hcode₁
  obtain ⟨kY, hkY, -⟩ := className_of_methodNamed hn₁
  have hinitY : kY.init = .initialized := Cond.initialized_spec (findClass_of_methodNamed hn₁) hkY hini₁
  have hAt : At (T.setVm vm₁) g.method c below := X₁.here
  have hpre₁ : (headSpec ws rm).pre.before (Value.ref b :: argsL).toArray (T.setVm vm₁) = true := atoms_intro fun w hw => hws w hw _ _ hW₁
  have happ : (headSpec ws rm).appliesLoose y e.platform ((T.setVm vm₁).calling { g with stack := rest } mk (Value.ref b :: argsL).toArray) = true :=
    Spec.appliesLoose_calling (g := { g with stack := rest }) hAt hdg hn₁ hkY hinitY
      (X₁.room_calling (g := { g with stack := rest }) (R' := (headSpec ws rm).room) hsize hmY hcY hfr (by rw [hlY]; have h1 : (headSpec ws rm).room.locals = rm.locals := rfl; have h2 : (({ g with stack := rest } : JFrame).stack.map fun v => v.category).sum = (rest.map fun v => v.category).sum := rfl; have h3 : ({ g with stack := rest } : JFrame).monitorRoom = g.monitorRoom := rfl; rw [h1, h2, h3]; omega) (by show cells + rm.cells ≤ _; omega) (by show slots + rm.slots ≤ _; omega)) hpre₁
  obtain ⟨mid, hmid⟩ := hAt.above
  have hfrs : ((T.setVm vm₁).setTop { g with stack := rest }).frames = (.java { g with stack := rest } :: mid) ++ below := by rw [State.frames_setTop' _ hAt.top, hmid]; rfl
  obtain ⟨o, s₂, hsteps, -, hend, hQ0⟩ := Steps.callFree hM p X₁.admits X₁.cas X₁.clock (acts := []) hfrs happ (hbl _ _ _ _ (hpre _ rfl hW₁)) trivial
  have hQ1 : ∃ x, o = .threw x ∧ Qc (Value.ref b :: argsL).toArray ((T.setVm vm₁).calling { g with stack := rest } mk (Value.ref b :: argsL).toArray) x s₂ ∧ ∃ L, fm_FT ((T.setVm vm₁).calling { g with stack := rest } mk (Value.ref b :: argsL).toArray) s₂ L mc ms ∧ ∀ q ∈ L, free q.base := hQ0
  obtain ⟨x, rfl, hq, L, ⟨hW₂, e2, q2', q3', q4', q5', q6'⟩, hL⟩ := hQ1
  have hW' : (T.setVm vm₁).WarmedH s₂.vm := hW₂
  have hfs : s₂.frames = .throwing x :: ((T.setVm vm₁).setTop { g with stack := rest }).frames := hend
  have e3 : s₂ = ({ ((T.setVm vm₁).calling { g with stack := rest } mk (Value.ref b :: argsL).toArray).setFrames s₂.frames with heap := s₂.heap, slotsUsed := s₂.slotsUsed } : State).setVm s₂.vm := by
    have h : s₂ = ({ s₂ with vm := ((T.setVm vm₁).calling { g with stack := rest } mk (Value.ref b :: argsL).toArray).vm } : State).setVm s₂.vm := rfl
    rw [e2] at h
    exact h
  obtain ⟨g₀, hg0⟩ := Option.isSome_iff_exists.mp hAt.top
  obtain ⟨r, hr⟩ := State.topJava?_eq_some.mp hg0
  have hs₂ : s₂ = ((({ (T.setVm vm₁) with heap := s₂.heap, slotsUsed := s₂.slotsUsed } : State).setVm s₂.vm).setTop { g with stack := rest }).pushFrame (.throwing x) := by
    have hr' : (({ (T.setVm vm₁) with heap := s₂.heap, slotsUsed := s₂.slotsUsed } : State).setVm s₂.vm).frames = .java g₀ :: r := hr
    refine e3.trans ?_
    rw [hfs, State.calling_eq hAt.top, State.setFrames_setFrames, State.pushFrame, State.setTop_of_frames _ hr', State.frames_setFrames _ (State.cur_lt_of_frames hr'), State.setFrames_setFrames, State.frames_setTop' _ hAt.top, hr]
    rfl
  have hsame : (T.setVm vm₁).sameButNew ({ (T.setVm vm₁) with heap := s₂.heap, slotsUsed := s₂.slotsUsed } : State) L mc ms := by
    refine ⟨?_, q2', q3', q4', q5', q6'⟩
    obtain ⟨t, ht, -⟩ := State.frames_cons hr
    show ({ (T.setVm vm₁) with heap := s₂.heap, slotsUsed := s₂.slotsUsed } : State) = { (T.setVm vm₁).setFrames (T.setVm vm₁).frames with heap := s₂.heap, slotsUsed := s₂.slotsUsed }
    rw [State.setFrames_self ht]
  refine ⟨x, (T.setVm vm₁).calling { g with stack := rest } mk (Value.ref b :: argsL).toArray, s₂, (({ (T.setVm vm₁) with heap := s₂.heap, slotsUsed := s₂.slotsUsed } : State).setVm s₂.vm), L, rfl,
    ⟨X₁.admits, X₁.cas, X₁.clock, X₁.frames, X₁.room, X₁.hears, X₁.method, X₁.code, (X₁.here.setHeapUsed s₂.heap s₂.slotsUsed).setVm hW'.alike, X₁.tail, State.WarmedH.trans X₁.warmed hW', X₁.limits, X₁.bytes, X₁.same.trans (hsame.setVm s.vm)⟩, hL, rfl, rfl, hq, fun tg h => hstep₁ _ fun acts => ?_⟩
  rw [doInvoke_state]
  rw [← hs₂] at h
  exact hsteps.trans h
end FT1
