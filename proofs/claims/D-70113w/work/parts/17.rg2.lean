/-! the rg_ layer: contracts, calls of constructors, arrays of references -/
set_option maxRecDepth 100000
def rg_Pc (Z : rg_Z) (av : List Value) (C : List va_E) : Array Value → State → Prop := va_Pc av (fun U => U.heap.size = Z.2.2 + C.length ∧ va_P Z.1 fm_cl (rg_ws Z.2.2 C) U.heap ∧ va_K Z.1 fm_cl (fm_ty Z.2.1) U ∧ fm_NW U ∧ fm_ST Z.2.1 (fun q => Z.2.2 ≤ q) U U.heap ∧ fm_AO U)
def rg_Q (Z : rg_Z) (r : Option Value) (C : List va_E) : Array Value → State → Outcome → State → Prop := fun _ st oc t => oc = .returned r ∧ t.heap.size = Z.2.2 + C.length ∧ va_P Z.1 fm_cl (rg_ws Z.2.2 C) t.heap ∧ va_F (fun q => Z.2.2 ≤ q) st t
def rg_C (l : Launch) (y : MethodName) (ws : List Cond) (rm : Room) (Z : rg_Z) (av : List Value) (C : List va_E) (r : Option Value) (C' : List va_E) (mc ms : Nat) : Prop := Met l y ws rm (rg_Pc Z av C) (rg_Q Z r C') mc ms (fun q => Z.2.2 ≤ q)
def rg_E (X : fm_X) (Z : rg_Z) (r : Option Value) (C : List va_E) (ret : Option FieldType) (mc ms : Nat) : Prop := (xt X).sig.returnType = ret ∧ xQ X = MQ (xb X) (rg_Q Z r C) (xa X) (xs X) mc ms (fun q => Z.2.2 ≤ q)
theorem rg_enter {l : Launch} {y : MethodName} {cc : ByteArray} {maxL mc ms : Nat} {ret : Option FieldType} {rm : Room} {Z : rg_Z} {av : List Value} {C C' : List va_E} {r : Option Value} {own : String} (hy : plainName y.cls = true) (ho : y.cls = own) (hlen : (lg_sl av).length ≤ maxL)
    (body : ∀ X : fm_X, xl X = l → rg_F X Z cc maxL own rm → rg_E X Z r C' ret mc ms → (xt X).name = y.name → rg_G X Z (0, 0) maxL C 0 (lv_args 0 av) []) : rg_C l y (ws_ y cc maxL ret) rm Z av C r C' mc ms := by
  refine Met.ofW (cc := cc) (maxL := maxL) (ret := ret) hy rfl ?_
  intro p e s m args below meth c s₁ B hml hv
  obtain ⟨rfl, hsz, hP, hK, hN, hT, hO⟩ := hv
  have hts := atoms_spec (ws := ws_ y cc maxL ret) B.pre
  have hts : ∀ w ∈ lw_all, w.before _ s = true := fun w h => hts w (List.mem_cons_of_mem _ h)
  have hown : s.vm.findClass y.cls = some m.cls := findClass_of_methodNamed B.named
  have hl := lv_entry av (n := maxL) hlen
  rw [lg_entry_eq]
  have hG := body (p, l, e, rm, s, m, av.toArray, below, meth, c, MQ below (rg_Q Z r C') av.toArray s mc ms (fun q => Z.2.2 ≤ q)) rfl ⟨B.exec, B.bytes, hml, by rw [← ho]; exact hown, hts, hK, hN, B.notSynchronized, rfl, hT, by show Z.2.2 ≤ s.heap.size; omega, hO⟩ ⟨B.returns, rfl⟩ (name_of_methodNamed B.named B.method).1
  exact hG s.heap [] _ hsz hP va_S.rf hl
section RG2
variable {X : fm_X} {Z : rg_Z} {cs : Nat × Nat} {cc : ByteArray} {nL : Nat} {own : String} {R0 : Room} {C : List va_E} {pc : Nat} {lv : List (Nat × Value)} {st : List Value}
theorem rg_vret (F : rg_F X Z cc nL own R0) {C' : List va_E} {mc ms : Nat} (E : rg_E X Z none C' none mc ms) (hf : C = C') (hcs : cs.1 ≤ mc ∧ cs.2 ≤ ms) (d : decode cc pc = .ok (.return_, 1)) : rg_G X Z cs nL C pc lv [] := fun H locs ls hz hP hS hl => by
  subst hf
  have hlocks := F.locks
  refine W.widen (k := mc) (n := ms) hcs.1 hcs.2 ?_
  rw [E.2]
  exact W.vret F.exec F.bytes E.1 (fun t ht hW => ⟨rfl, by rw [ht]; exact hz, by rw [ht]; exact hP, hS.F ht⟩) hS.2.2 d
theorem rg_aret (F : rg_F X Z cc nL own R0) {C' : List va_E} {mc ms a : Nat} {rt : FieldType} (E : rg_E X Z (some (.ref a)) C' (some rt) mc ms) (hrt : (∃ n, rt = .object n) ∨ ∃ t, rt = .array t) (hf : C = C') (hcs : cs.1 ≤ mc ∧ cs.2 ≤ ms) (d : decode cc pc = .ok (.areturn, 1)) : rg_G X Z cs nL C pc lv [.ref a] := fun H locs ls hz hP hS hl => by
  subst hf
  have hlocks := F.locks
  refine W.widen (k := mc) (n := ms) hcs.1 hcs.2 ?_
  rw [E.2]
  exact W.aret F.exec F.bytes E.1 hrt (Or.inr ⟨a, rfl⟩) (fun t ht hW => ⟨rfl, by rw [ht]; exact hz, by rw [ht]; exact hP, hS.F ht⟩) hS.2.2 d
theorem rg_blind {Z : rg_Z} {av : List Value} {C : List va_E} : FrameBlind (rg_Pc Z av C) := fun a U g mk q => by
  obtain ⟨q0, q1, qP, qK, qN, qT, qO⟩ := q
  exact ⟨q0, q1, qP, va_K.moved (u := U) (U := U.calling g mk a) (Vm.Alike.refl U.vm) qK, fm_NW.same (s := U) (U := U.calling g mk a) rfl qN, fm_ST.same (s := U) (U := U.calling g mk a) rfl qT, fm_AO.moved (u := U) (U := U.calling g mk a) (Vm.Alike.refl U.vm) qO⟩
theorem rg_ws_app : ∀ (A B : List va_E) (b : Nat), rg_ws b (A ++ B) = rg_ws b A ++ rg_ws (b + A.length) B
  | [], B, b => rfl
  | e :: A, B, b => by
    show (b, e) :: rg_ws (b + 1) (A ++ B) = (b, e) :: (rg_ws (b + 1) A ++ rg_ws (b + (A.length + 1)) B)
    rw [rg_ws_app A B (b + 1), show b + 1 + A.length = b + (A.length + 1) by omega]
theorem va_P.left {D : va_G} {w1 w2 : va_W} {H : Heap} (h : va_P D fm_cl (w1 ++ w2) H) : va_P D fm_cl w1 H := fun k q hk => h k q (by rw [List.getElem?_append_left (List.getElem?_eq_some_iff.mp hk).1]; exact hk)
theorem va_P.right {D : va_G} {w1 w2 : va_W} {H : Heap} (h : va_P D fm_cl (w1 ++ w2) H) : va_P D fm_cl w2 H := fun k q hk => h (w1.length + k) q (by rw [List.getElem?_append_right (by omega), Nat.add_sub_cancel_left]; exact hk)
/-- what a callee with its own base gets -/
theorem rg_pre (F : rg_F X Z cc nL own R0) {C0 C1 : List va_E} {H : Heap} {locs : List Loc} {av : List Value} (hz : H.size = Z.2.2 + (C0 ++ C1).length) (hP : va_P Z.1 fm_cl (rg_ws Z.2.2 (C0 ++ C1)) H) (hS : va_S (fun q => Z.2.2 ≤ q) (xs X).heap H locs) : ∀ U : State, U.heap = H → (xs X).WarmedH U.vm → rg_Pc (Z.1, Z.2.1, Z.2.2 + C0.length) av C1 av.toArray U := fun U hU hW => by
  refine ⟨rfl, ?_, ?_, va_K.moved hW.alike F.kn, F.nw.warm hW, ?_, fm_AO.moved hW.alike F.ao⟩
  · show U.heap.size = Z.2.2 + C0.length + C1.length
    rw [hU, hz, List.length_append]
    omega
  · rw [hU]
    rw [rg_ws_app] at hP
    exact va_P.right hP
  · rw [hU]
    refine ((F.stc.kept hS.2.1).narrow (B := fun q => Z.2.2 + C0.length ≤ q) (fun q h => ?_)).warm hW
    show Z.2.2 ≤ q
    have h' : Z.2.2 + C0.length ≤ q := h
    omega
/-- behind a call that had its own base -/
theorem rg_ran {C0 C1 C2 : List va_E} {r : Option Value} {a : Array Value} {rest st0 : List Value} {mc ms : Nat} (hC : C = C0 ++ C1)
    (hrun : ∀ (H : Heap) (locs : List Loc) (ls : Array Slot), H.size = Z.2.2 + (C0 ++ C1).length → va_P Z.1 fm_cl (rg_ws Z.2.2 (C0 ++ C1)) H → va_S (fun q => Z.2.2 ≤ q) (xs X).heap H locs → lv_has ls nL lv → va_Run (xp X) (xl X) (xe X) (xR X) (xs X) (xm X) (xa X) (xb X) (xt X) (xc X) H locs cs.1 cs.2 mc ms (F0 (xm X) pc ls st0) rest (rg_Q (Z.1, Z.2.1, Z.2.2 + C0.length) r C2 a) (fun q => Z.2.2 + C0.length ≤ q))
    (kk : rg_G X Z (cs.1 + mc, cs.2 + ms) nL (C0 ++ C2) (pc + 3) lv (r.toList ++ rest)) : rg_G X Z cs nL C pc lv st0 := by
  subst hC
  intro H locs ls hz hP hS hl T hT Y
  obtain ⟨v, st₀, t, T', L, h0, Y', hL, e1, e2, ⟨hv, hz1, hP1, hzz, hk⟩, st⟩ := hrun H locs ls hz hP hS hl T hT Y
  cases hv
  rw [h0] at hzz hk
  have hlen : (C0 ++ C1).length = C0.length + C1.length := List.length_append
  have hS1 : va_S (fun q => Z.2.2 ≤ q) (xs X).heap T'.heap (locs ++ L) := by
    refine ⟨Nat.le_trans hS.1 (by rw [e1]; exact hzz), fun q h1 h2 => ?_, fun q hq => ?_⟩
    · rw [e1, hk q (Nat.lt_of_lt_of_le h1 hS.1) (fun z => h2 (by have z' : Z.2.2 + C0.length ≤ q := z; show Z.2.2 ≤ q; omega))]
      exact hS.2.1 q h1 h2
    · rcases List.mem_append.mp hq with h | h
      · exact hS.2.2 q h
      · have z' : Z.2.2 + C0.length ≤ q.base := hL q h
        show Z.2.2 ≤ q.base
        omega
  have hP2 : va_P Z.1 fm_cl (rg_ws Z.2.2 (C0 ++ C2)) T'.heap := by
    rw [rg_ws_app]
    rw [rg_ws_app] at hP
    refine va_P.app ((va_P.left hP).kept fun k q hq => ?_) (by rw [e1]; exact hP1)
    have hq1 := hq
    rw [rg_ws_get] at hq1
    cases hc : C0[k]? with
    | none => rw [hc] at hq1; cases hq1
    | some x =>
      rw [hc] at hq1
      cases hq1
      have hkl := (List.getElem?_eq_some_iff.mp hc).1
      rw [e1]
      exact hk _ (by show Z.2.2 + k < H.size; omega) (fun z => by have z' : Z.2.2 + C0.length ≤ Z.2.2 + k := z; omega)
  obtain ⟨t2, a1, b1⟩ := kk T'.heap (locs ++ L) ls (by rw [e1, hz1, List.length_append]; show Z.2.2 + C0.length + _ = _; omega) hP2 hS1 hl T' rfl Y'
  exact ⟨t2, st t2 a1, b1⟩
theorem rg_callI (F : rg_F X Z cc nL own R0) (C0 : List va_E) {C1 C2 : List va_E} (hC : C = C0 ++ C1) {y : MethodName} {bytes : ByteArray} {maxL n index mc ms : Nat} {rm : Room} {As rest st0 : List Value} {a : Nat}
    (hM : rg_C (xl X) y (ws_ y bytes maxL none) rm (Z.1, Z.2.1, Z.2.2 + C0.length) (.ref a :: As) C1 none C2 mc ms) (w1 : Cond.methodLink own index y ∈ lw_all) (w2 : Cond.instanceMethod y ∈ lw_all) (w3 : Cond.initialized y.cls ∈ lw_all) (w5 : Cond.code y bytes maxL none ∈ lw_all) (hi : y.name = "<init>")
    (hz : rm.cells = mc ∧ rm.slots = ms) (hd : y.cls ≠ "java/lang/invoke/MethodHandle" ∧ y.cls ≠ "java/lang/invoke/VarHandle" ∧ (parseMethodDescriptor y.desc).map (fun d => d.parameters.length) = some n) (hR : rm.frames + 1 ≤ R0.frames ∧ 8 + (maxL + 11) + rm.locals ≤ R0.locals ∧ cs.1 + mc ≤ R0.cells ∧ cs.2 + ms ≤ R0.slots)
    (hn : As.length = n) (hst : st0 = As.reverse ++ .ref a :: rest) (hW : (rest.map fun v => v.category).sum ≤ 8) (d : decode cc pc = .ok (.invokespecial index, 3)) {cs' : Nat × Nat} (hcs : cs' = (cs.1 + mc, cs.2 + ms)) (kk : rg_G X Z cs' nL (C0 ++ C2) (pc + 3) lv rest) : rg_G X Z cs nL C pc lv st0 := by
  subst hst
  subst hcs
  have hR' := hR
  rw [← F.room] at hR'
  exact rg_ran (r := none) hC (fun H locs ls hz1 hP hS hl => va_runI ⟨F.exec, F.bytes, F.maxL, F.ownC, F.words⟩ hM (cwI n F.words (lw_meth w5) rfl hz.1 hz.2 (F.words _ w3) (F.words _ w1) (F.words _ w2) hi hd ⟨hR'.1, hR'.2.1⟩) ⟨rg_blind, rg_pre F hz1 hP hS⟩ rfl hn hl.1 rfl (fm_sum0 hW rfl) d ⟨hR'.2.2.1, hR'.2.2.2⟩) kk
theorem rg_callIN (F : rg_F X Z cc nL own R0) (C0 : List va_E) {C1 C2 : List va_E} (hC : C = C0 ++ C1) {y : MethodName} {host : String} {bytes : ByteArray} {maxL n index mc ms : Nat} {rm : Room} {As rest st0 : List Value} {a : Nat}
    (hM : rg_C (xl X) y (ws_ y bytes maxL none) rm (Z.1, Z.2.1, Z.2.2 + C0.length) (.ref a :: As) C1 none C2 mc ms) (w1 : Cond.methodLinkNest own index y host ∈ lw_tbl) (w2 : Cond.instanceMethod y ∈ lw_all) (w3 : Cond.initialized y.cls ∈ lw_all) (w5 : Cond.code y bytes maxL none ∈ lw_all) (hi : y.name = "<init>")
    (hz : rm.cells = mc ∧ rm.slots = ms) (hd : y.cls ≠ "java/lang/invoke/MethodHandle" ∧ y.cls ≠ "java/lang/invoke/VarHandle" ∧ (parseMethodDescriptor y.desc).map (fun d => d.parameters.length) = some n) (hR : rm.frames + 1 ≤ R0.frames ∧ 8 + (maxL + 11) + rm.locals ≤ R0.locals ∧ cs.1 + mc ≤ R0.cells ∧ cs.2 + ms ≤ R0.slots)
    (hn : As.length = n) (hst : st0 = As.reverse ++ .ref a :: rest) (hW : (rest.map fun v => v.category).sum ≤ 8) (d : decode cc pc = .ok (.invokespecial index, 3)) {cs' : Nat × Nat} (hcs : cs' = (cs.1 + mc, cs.2 + ms)) (kk : rg_G X Z cs' nL (C0 ++ C2) (pc + 3) lv rest) : rg_G X Z cs nL C pc lv st0 := by
  subst hst
  subst hcs
  have hR' := hR
  rw [← F.room] at hR'
  exact rg_ran (r := none) hC (fun H locs ls hz1 hP hS hl => va_runIN ⟨F.exec, F.bytes, F.maxL, F.ownC, F.words⟩ hM ⟨va_cnB n F.words (lw_meth w5) rfl hz.1 hz.2 (F.nest w1 rfl) (F.words _ w3) hd ⟨hR'.1, hR'.2.1⟩, hi, F.words _ w2⟩ ⟨rg_blind, rg_pre F hz1 hP hS⟩ rfl hn hl.1 rfl (fm_sum0 hW rfl) d ⟨hR'.2.2.1, hR'.2.2.2⟩) kk
/-- a static of Throwable: null or some reference -/
theorem rg_getsq (F : rg_F X Z cc nL own R0) {c0 n0 d0 : String} (hq : va_Zq c0 n0 d0 (fun q => Z.2.2 ≤ q) (xs X) (xs X).heap) {index : Nat} (d : decode cc pc = .ok (.getstatic index, 3)) (h : Cond.fieldLink own index c0 n0 d0 ∈ lw_all) (kk : ∀ v : Value, (v = .null ∨ ∃ t, v = .ref t) → rg_G X Z cs nL C (pc + 3) lv (v :: st)) : rg_G X Z cs nL C pc lv st := fun H locs ls hz hP hS hl => by
  rcases hq with hq | ⟨t, hq⟩
  · exact va_gets F.exec F.bytes hq hS F.ownC (F.words _ h) (fun _ h9 => h9) d (kk .null (Or.inl rfl) H locs ls hz hP hS hl)
  · exact va_gets F.exec F.bytes hq hS F.ownC (F.words _ h) (fun _ h9 => h9) d (kk (.ref t) (Or.inr ⟨t, rfl⟩) H locs ls hz hP hS hl)
end RG2
