/-! contracts of methods that may throw a Wrong -/
set_option maxRecDepth 100000
abbrev fm_wrong (v : Int32) : va_E := .inr (11, [.null, .null, .null, .null, .null, .int 0, .int v])
def fm_QT (Y : fm_Y) (v : Int32) (M' : fm_M) (sz : Nat) : Array Value → State → Addr → State → Prop := fun _ st x t => sz ≤ x ∧ va_at (yD Y) fm_cl (x, fm_wrong v) t.heap ∧ fm_P Y M' t.heap ∧ va_F (fm_A (yN Y) (yad Y) sz) st t
def fm_CT (l : Launch) (y : MethodName) (ws : List Cond) (rm : Room) (Y : fm_Y) (av : List Value) (M : fm_M) (v : Int32) (M' : fm_M) : Prop := ∀ sz : Nat, fm_MetT l y ws rm (fm_Pc Y av M sz) (fm_QT Y v M' sz) 1 7 (fm_A (yN Y) (yad Y) sz)
/-- returned (with what) or threw (where) -/
abbrev fm_res : Type := Option Value ⊕ Int32
def fm_rI : Int32 ⊕ Int32 → fm_res
  | .inl r => .inl (some (.int r))
  | .inr v => .inr v
def fm_rU : Unit ⊕ Int32 → fm_res
  | .inl _ => .inl none
  | .inr v => .inr v
def fm_rR (a : Nat) : Unit ⊕ Int32 → fm_res
  | .inl _ => .inl (some (.ref a))
  | .inr v => .inr v
def fm_xc : fm_res → Nat
  | .inl _ => 0
  | .inr _ => 1
def fm_xn : fm_res → Nat
  | .inl _ => 0
  | .inr _ => 7
def fm_CX (l : Launch) (y : MethodName) (ws : List Cond) (rm : Nat → Nat → Room) (Y : fm_Y) (av : List Value) (M : fm_M) (res : fm_res) (M' : fm_M) : Prop := match res with
  | .inl r => fm_C l y ws (rm 0 0) Y av M r M'
  | .inr v => fm_CT l y ws (rm 1 7) Y av M v M'
def fm_EX (X : fm_X) (Y : fm_Y) (res : fm_res) (M' : fm_M) (ret : Option FieldType) : Prop := (xt X).sig.returnType = ret ∧ (xc X).exceptionTable.isEmpty = true ∧ xQ X = (match res with
  | .inl r => MQ (xb X) (fm_Q Y r M' (xs X).heap.size) (xa X) (xs X) 0 0 (fm_A (yN Y) (yad Y) (xs X).heap.size)
  | .inr v => fm_MQT (xb X) (fm_QT Y v M' (xs X).heap.size) (xa X) (xs X) 1 7 (fm_A (yN Y) (yad Y) (xs X).heap.size))
theorem fm_enterX {l : Launch} {y : MethodName} {cc : ByteArray} {maxL : Nat} {ret : Option FieldType} {rm : Nat → Nat → Room} {Y : fm_Y} {av : List Value} {M M' : fm_M} {res : fm_res} {own : String} (hy : plainName y.cls = true) (ho : y.cls = own) (hlen : (lg_sl av).length ≤ maxL)
    (inj : ∀ i j, i < yN Y → j < yN Y → yad Y i = yad Y j → i = j)
    (body : ∀ X : fm_X, xl X = l → fm_F X Y cc maxL own (rm (fm_xc res) (fm_xn res)) → fm_EX X Y res M' ret → fm_G X Y (0, 0) maxL M 0 (lv_args 0 av) []) : fm_CX l y (ws_ y cc maxL ret) rm Y av M res M' := by
  cases res with
  | inl r =>
    intro sz
    refine Met.ofW (cc := cc) (maxL := maxL) (ret := ret) hy rfl ?_
    intro p e s m args below meth c s₁ B hml hv
    obtain ⟨rfl, hsz, hP, hK, hN, hT, hO⟩ := hv
    subst hsz
    have hts := atoms_spec (ws := ws_ y cc maxL ret) B.pre
    have hno := B.noHandlers (hts _ List.mem_cons_self)
    have hts : ∀ w ∈ lw_all, w.before _ s = true := fun w h => hts w (List.mem_cons_of_mem _ h)
    have hown : s.vm.findClass y.cls = some m.cls := findClass_of_methodNamed B.named
    have hl := lv_entry av (n := maxL) hlen
    rw [lg_entry_eq]
    have hG := body (p, l, e, rm 0 0, s, m, av.toArray, below, meth, c, MQ below (fm_Q Y r M' s.heap.size) av.toArray s 0 0 (fm_A (yN Y) (yad Y) s.heap.size)) rfl ⟨B.exec, B.bytes, hml, by rw [← ho]; exact hown, hts, hK, inj, hN, B.notSynchronized, rfl, hT, hO⟩ ⟨B.returns, hno, rfl⟩
    exact hG s.heap [] _ hP va_S.rf hl
  | inr v =>
    intro sz
    refine fm_MetT.ofW (cc := cc) (maxL := maxL) (ret := ret) hy rfl ?_
    intro p e s m args below meth c s₁ B hml hv
    obtain ⟨rfl, hsz, hP, hK, hN, hT, hO⟩ := hv
    subst hsz
    have hts := atoms_spec (ws := ws_ y cc maxL ret) B.pre
    have hno := B.noHandlers (hts _ List.mem_cons_self)
    have hts : ∀ w ∈ lw_all, w.before _ s = true := fun w h => hts w (List.mem_cons_of_mem _ h)
    have hown : s.vm.findClass y.cls = some m.cls := findClass_of_methodNamed B.named
    have hl := lv_entry av (n := maxL) hlen
    rw [lg_entry_eq]
    have hG := body (p, l, e, rm 1 7, s, m, av.toArray, below, meth, c, fm_MQT below (fm_QT Y v M' s.heap.size) av.toArray s 1 7 (fm_A (yN Y) (yad Y) s.heap.size)) rfl ⟨B.exec, B.bytes, hml, by rw [← ho]; exact hown, hts, hK, inj, hN, B.notSynchronized, rfl, hT, hO⟩ ⟨B.returns, hno, rfl⟩
    exact hG s.heap [] _ hP va_S.rf hl
section FX2
variable {X : fm_X} {Y : fm_Y} {cc : ByteArray} {nL : Nat} {own : String} {R0 : Room} {M : fm_M} {pc : Nat} {lv : List (Nat × Value)} {st : List Value}
theorem fm_iretX (F : fm_F X Y cc nL own R0) {v : Int32} {res : Int32 ⊕ Int32} {M' : fm_M} (E : fm_EX X Y (fm_rI res) M' (some .int)) (hf : some (Sum.inl v, M) = some (res, M')) (d : decode cc pc = .ok (.ireturn, 1)) : fm_G X Y (0, 0) nL M pc lv [.int v] := by
  obtain ⟨rfl, rfl⟩ := Prod.mk.inj (Option.some.inj hf)
  exact fm_iret F ⟨E.1, E.2.2⟩ rfl d
theorem fm_vretX (F : fm_F X Y cc nL own R0) {res : Unit ⊕ Int32} {M' : fm_M} (E : fm_EX X Y (fm_rU res) M' none) (hf : some (Sum.inl (), M) = some (res, M')) (d : decode cc pc = .ok (.return_, 1)) : fm_G X Y (0, 0) nL M pc lv [] := by
  obtain ⟨rfl, rfl⟩ := Prod.mk.inj (Option.some.inj hf)
  exact fm_vret F ⟨E.1, E.2.2⟩ rfl d
theorem fm_aretX (F : fm_F X Y cc nL own R0) {a : Nat} {rt : FieldType} (hrt : (∃ n, rt = .object n) ∨ ∃ t, rt = .array t) {res : Unit ⊕ Int32} {M' : fm_M} (E : fm_EX X Y (fm_rR a res) M' (some rt)) (hf : some (Sum.inl (), M) = some (res, M')) (d : decode cc pc = .ok (.areturn, 1)) : fm_G X Y (0, 0) nL M pc lv [.ref a] := by
  obtain ⟨rfl, rfl⟩ := Prod.mk.inj (Option.some.inj hf)
  intro H locs ls hP hS hl
  have hlocks := F.locks
  show W _ _ _ _ _ _ _ _ _ _ H locs 0 0 (xQ X) _
  rw [E.2.2]
  exact W.aret F.exec F.bytes E.1 hrt (Or.inr ⟨a, rfl⟩) (fun t ht hW => ⟨rfl, by rw [ht]; exact hP, hS.F ht⟩) hS.2.2 d
/-- a call whose callee throws, in a method without handlers -/
theorem fm_callVT (F : fm_F X Y cc nL own R0) {y : MethodName} {bytes : ByteArray} {maxL n index : Nat} {ret ret0 : Option FieldType} {rm : Room} {As rest st0 : List Value} {v : Int32} {M' : fm_M} {C : String} {T : u_T} {ci nf : Nat} (E : fm_EX X Y (.inr v) M' ret0) (id : Nat) (hid : id < yN Y) {fs : List Value} (he : ymk Y id (M.1 id) M.2 = .inr (ci, fs)) (hc : fm_cl[ci]? = some (C, T, nf))
    (hM : fm_CT (xl X) y (ws_ y bytes maxL ret) rm Y (.ref (yad Y id) :: As) M v M') (w1 : Cond.methodLink own index y ∈ lw_all) (w2 : Cond.instanceMethod y ∈ lw_all) (w3 : Cond.selects C y y ∈ lw_all) (w4 : Cond.initialized C ∈ lw_all) (w5 : Cond.code y bytes maxL ret ∈ lw_all)
    (hz : rm.cells = 1 ∧ rm.slots = 7) (hd : y.cls = C ∧ y.cls ≠ "java/lang/invoke/MethodHandle" ∧ y.cls ≠ "java/lang/invoke/VarHandle" ∧ (parseMethodDescriptor y.desc).map (fun d => d.parameters.length) = some n) (hR : rm.frames + 1 ≤ R0.frames ∧ 8 + (maxL + 11) + rm.locals ≤ R0.locals ∧ 1 ≤ R0.cells ∧ 7 ≤ R0.slots)
    (hn : As.length = n) (hst : st0 = As.reverse ++ .ref (yad Y id) :: rest) (hW : (rest.map fun v => v.category).sum ≤ 8) (d : decode cc pc = .ok (.invokevirtual index, 3)) : fm_G X Y (0, 0) nL M pc lv st0 := by
  subst hst
  intro H locs ls hP hS hl T1 hT1 Z
  have hR' := hR
  rw [← F.room] at hR'
  obtain ⟨cellB, q1, q2, q3⟩ := fm_recv F hP hid he hc
  have hlen : ∀ sig, parseMethodDescriptor y.desc = some sig → As.length = sig.parameters.length := fun sig h => by
    have h2 := hd.2.2.2
    rw [h] at h2
    exact hn.trans (Option.some.inj h2).symm
  obtain ⟨x, st₀, t, T', L, h0, Z', hL, e1, e2, ⟨hx, hat, hP1, hzz, hk⟩, hst⟩ := fm_thrV Z F.exec (C := C) F.ownC (F.words _ w1) (F.words _ w2) (F.words _ w3) (F.words _ w5) (by rw [hd.1]; exact F.words _ w4) ⟨hd.2.1, hd.2.2.1⟩ (hM H.size) fm_blind hz.1 hz.2 hR'.1 hR'.2.1 (pay_in F.words (lw_meth w5)) (by rw [hT1]; exact q1) q2 q3 (g := F0 (xm X) pc ls (As.reverse ++ .ref (yad Y id) :: rest)) rfl (hl.1.trans F.maxL.symm) (argsL := As) (rest := rest) hlen rfl (fm_sum0 hW rfl) (by rw [F.bytes]; exact d) ⟨by omega, by omega⟩ (fun U hU hWU => fm_pre F hP hS U (hU.trans hT1) hWU)
  rw [h0, hT1] at hzz hk
  have hlocks := F.locks
  obtain ⟨g1, g2, g3, g4, g5⟩ := Z'.leaveThrown x (g := { (F0 (xm X) pc ls (As.reverse ++ .ref (yad Y id) :: rest)) with stack := rest }) rfl rfl rfl (fm_noH E.2.1) hlocks
  have hA : ∀ q, fm_A (yN Y) (yad Y) H.size q → fm_A (yN Y) (yad Y) (xs X).heap.size q := fm_A_mono hS.1
  refine ⟨_, hst _ g1, ?_⟩
  rw [E.2.2]
  refine ⟨x, g2, g3, ⟨Nat.le_trans hS.1 hx, ?_, ?_, ?_⟩, locs ++ L, ⟨g4, g5⟩, ?_⟩
  · show va_at _ _ _ T'.heap
    rw [e1]; exact hat
  · show fm_P Y M' T'.heap
    rw [e1]; exact hP1
  · refine ⟨?_, fun q h1 h2 => ?_⟩
    · show _ ≤ T'.heap.size
      rw [e1]; exact Nat.le_trans hS.1 hzz
    · show T'.heap[q]? = _
      rw [e1, hk q (Nat.lt_of_lt_of_le h1 hS.1) (fun z => h2 (hA q z))]
      exact hS.2.1 q h1 h2
  · intro q hq
    rcases List.mem_append.mp hq with h | h
    · exact hS.2.2 q h
    · exact hA _ (hL q h)
/-- throw new Wrong(start), in the reader's 'due' -/
theorem fm_throwW (F : fm_F X Y cc nL RX10 R0) {v : Int32} {ret0 : Option FieldType} (E : fm_EX X Y (.inr v) M ret0) (id : Nat) (hid : id < yN Y) {fs : List Value} (he : ymk Y id (M.1 id) M.2 = .inr (10, fs)) (hv : fs[1]? = some (.int v)) (j : Nat) (hj : lv[j]? = some (0, .ref (yad Y id))) (hR : 3 ≤ R0.frames ∧ 150 ≤ R0.locals ∧ 1 ≤ R0.cells ∧ 7 ≤ R0.slots)
    (d0 : decode cc pc = .ok (.new 64, 3)) (d1 : decode cc (pc + 3) = .ok (.dup, 1)) (d2 : decode cc (pc + 4) = .ok (.aload_n 0, 1)) (d3 : decode cc (pc + 5) = .ok (.getfield 37, 3)) (d4 : decode cc (pc + 8) = .ok (.invokespecial 66, 3)) (d5 : decode cc (pc + 11) = .ok (.athrow, 1)) (hfr : rmX11_init.frames + 1 ≤ R0.frames) (hlo : 8 + (2 + 11) + rmX11_init.locals ≤ R0.locals) : fm_G X Y (0, 0) nL M pc lv [] := by
  intro H locs ls hP hS hl
  have hR' := hR
  rw [← F.room] at hR' hfr hlo
  have hKn := F.kn.1 11 (RX11, TX11, 7) rfl
  refine W.newcK F.exec F.bytes F.ownC (F.words _ q485) (F.words _ q486) (F.words _ q60) rfl d0 (by show 0 + 1 ≤ _; omega) (by show 0 + 7 ≤ _; omega) hKn.2.1 rfl fun H1 kC hkC e1 z1 o1 => ?_
  have hat0 : va_at (yD Y) fm_cl (H.size, .inr (11, [.null, .null, .null, .null, .null, .int 0, .int 0])) H1 := ⟨_, rfl, (u_born tyX11 F.words in_X11 hKn hkC e1 tyX11_ok).to (rg_all7 rfl rfl rfl rfl rfl rfl rfl)⟩
  have hP1 : fm_P Y M H1 := va_P.kept hP (fun k q hq => o1 q.1 ((hP k q hq).lt))
  have hS1 := rg_sz hS z1 o1
  refine lv_dup F.exec F.bytes d1 rfl ?_
  refine lv_aload_n F.exec F.bytes d2 rfl (lv_at hl j hj) ?_
  refine va_get (C := RX10) (T := TX10) (N := 6) F.exec F.bytes F.words in_X10 F.ownC F.kn hP1 id (by rw [fm_ws_get hid, he]) rfl 1 (by decide) (F.words _ q360) (fun _ h9 => h9) hv d3 ?_
  have hrun := va_runI (p := xp X) (l := xl X) (e := xe X) (R := xR X) (s := xs X) (m := xm X) (args := xa X) (below := xb X) (meth := xt X) (c := xc X) (H := H1) (locs := locs) (cells := 1) (slots := 7) (As := [.int v]) (rest := [.ref H.size]) (g := F0 (xm X) (pc + 8) ls (.int v :: .ref H.size :: .ref H.size :: [])) ⟨F.exec, F.bytes, F.maxL, F.ownC, F.words⟩ (mX11_init (l := xl X) (D := yD Y) (dA := yA Y) (b := H.size) (z := v)) (cwI 1 F.words (lw_meth q526) rfl rfl rfl (F.words _ q60) (F.words _ q524) (F.words _ q525) rfl (by decide +kernel) ⟨hfr, hlo⟩) ⟨rg_blind, fun U hU hW => ⟨rfl, by rw [hU]; exact z1, ?_, va_K.moved hW.alike F.kn, F.nw.warm hW, ?_, fm_AO.moved hW.alike F.ao⟩⟩ rfl rfl hl.1 rfl (by show 2 * 0 + 1 ≤ 8; omega) d4 ⟨by show 1 + 0 ≤ _; omega, by show 7 + 0 ≤ _; omega⟩
  rotate_left
  · rw [hU]
    intro k q hk
    match k, hk with
    | 0, hk => cases hk; exact hat0
  · rw [hU]
    exact ((F.stc.kept hS1.2.1).narrow (B := fun q => H.size ≤ q) (fun q h => Or.inr (Nat.le_trans hS.1 h))).warm hW
  intro T2 hT2 Z2
  obtain ⟨v2, st₀, t, T', L, h0, Z', hL, g1, g2, ⟨hv2, hz2, hP2, hzz, hk⟩, hst⟩ := hrun T2 hT2 Z2
  cases hv2
  rw [h0] at hzz hk
  have hPM : fm_P Y M T'.heap := by
    rw [g1]
    exact va_P.kept hP1 (fun k q hq => hk q.1 ((hP1 k q hq).lt) (fun z => by have z' : H.size ≤ q.1 := z; have := (hP k q hq).lt; omega))
  have hlocks := F.locks
  have hW := fm_Wathrow (p := xp X) (l := xl X) (e := xe X) (R := xR X) (s := xs X) (m := xm X) (args := xa X) (below := xb X) (meth := xt X) (c := xc X) (H := T'.heap) (locs := locs ++ L) (cells := 1) (slots := 7) (Qc := fm_QT Y v M (xs X).heap.size) (free := fm_A (yN Y) (yad Y) (xs X).heap.size) (a := H.size) (rest := []) F.exec F.bytes E.2.1 hlocks (fun t' ht' hW' => ⟨hS.1, ?_, by rw [ht']; exact hPM, ?_⟩) ?_ (pc := pc + 11) (ls := ls) d5
  rotate_left
  · show va_at _ _ _ t'.heap
    rw [ht', g1]
    exact hP2 0 _ rfl
  · refine ⟨?_, fun q h1 h2 => ?_⟩
    · rw [ht', g1]
      exact Nat.le_trans hS1.1 hzz
    · rw [ht', g1, hk q (Nat.lt_of_lt_of_le h1 hS1.1) (fun z => h2 (Or.inr (Nat.le_trans hS.1 z)))]
      exact hS1.2.1 q h1 h2
  · intro q hq
    rcases List.mem_append.mp hq with h | h
    · exact hS.2.2 q h
    · exact Or.inr (Nat.le_trans hS.1 (hL q h))
  obtain ⟨t3, a1, b1⟩ := hW T' rfl Z'
  refine ⟨t3, hst _ a1, ?_⟩
  rw [E.2.2]
  exact b1
end FX2
/-! eliminations -/
def fm_bx {α β : Type} (o : Option ((α ⊕ Int32) × fm_M)) (k : α → fm_M → Option ((β ⊕ Int32) × fm_M)) : Option ((β ⊕ Int32) × fm_M) := match o with
  | some (.inl r, M) => k r M
  | some (.inr v, M) => some (.inr v, M)
  | none => none
theorem fm_bx_inv {α β : Type} {o : Option ((α ⊕ Int32) × fm_M)} {k : α → fm_M → Option ((β ⊕ Int32) × fm_M)} {res : β ⊕ Int32} {M' : fm_M} (h : fm_bx o k = some (res, M')) : (∃ r M, o = some (.inl r, M) ∧ k r M = some (res, M')) ∨ ∃ v, o = some (.inr v, M') ∧ res = .inr v := by
  match o, h with
  | some (.inl r, M), h => exact Or.inl ⟨r, M, rfl, h⟩
  | some (.inr v, M), h =>
    obtain ⟨rfl, rfl⟩ := Prod.mk.inj (Option.some.inj h)
    exact Or.inr ⟨v, rfl, rfl⟩
