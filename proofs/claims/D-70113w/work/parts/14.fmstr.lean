/-! rows for the reader's literal "tdo" (the String at dA 6, its bytes at dA 7) -/
set_option maxRecDepth 100000
def fm_tdb (j : Nat) : Int32 := ([116, 100, 111] : List Int32).getD j 0
section FMS
variable {X : fm_X} {Y : fm_Y} {cs : Nat × Nat} {cc : ByteArray} {nL : Nat} {own : String} {R0 : Room} {M : fm_M} {pc : Nat} {lv : List (Nat × Value)} {st : List Value}
theorem fm_ldcS (F : fm_F X Y cc nL "BellLots$Reader" R0) (d : decode cc pc = .ok (.ldc 56, 2)) (kk : fm_G X Y cs nL M (pc + 2) lv (.ref (yA Y 6) :: st)) : fm_G X Y cs nL M pc lv st := fun H locs ls hP hS hl =>
  va_ldcS F.exec F.bytes F.ownC F.stc.1.1 d (kk H locs ls hP hS hl)
theorem fm_getsC (F : fm_F X Y cc nL own R0) {index : Nat} (d : decode cc pc = .ok (.getstatic index, 3)) (h : Cond.fieldLink own index "java/lang/String" "COMPACT_STRINGS" "Z" ∈ lw_all) (kk : fm_G X Y cs nL M (pc + 3) lv (.int 1 :: st)) : fm_G X Y cs nL M pc lv st := fun H locs ls hP hS hl =>
  va_gets F.exec F.bytes F.stc.2.1 hS F.ownC (F.words _ h) (fun _ h9 => h9) d (kk H locs ls hP hS hl)
theorem fm_getSV (F : fm_F X Y cc nL own R0) {index : Nat} (d : decode cc pc = .ok (.getfield index, 3)) (h : Cond.fieldLink own index "java/lang/String" "value" "[B" ∈ lw_all) (kk : fm_G X Y cs nL M (pc + 3) lv (.ref (yA Y 7) :: st)) : fm_G X Y cs nL M pc lv (.ref (yA Y 6) :: st) := fun H locs ls hP hS hl =>
  vk_getf F.exec F.bytes (F.stc.1.2.1 0 (by decide)).2.2.1 hS F.ownC (F.words _ h) (fun _ h9 => h9) d (kk H locs ls hP hS hl)
theorem fm_getSC (F : fm_F X Y cc nL own R0) {index : Nat} (d : decode cc pc = .ok (.getfield index, 3)) (h : Cond.fieldLink own index "java/lang/String" "coder" "B" ∈ lw_all) (kk : fm_G X Y cs nL M (pc + 3) lv (.int 0 :: st)) : fm_G X Y cs nL M pc lv (.ref (yA Y 6) :: st) := fun H locs ls hP hS hl =>
  vk_getf F.exec F.bytes (F.stc.1.2.1 0 (by decide)).2.1 hS F.ownC (F.words _ h) (fun _ h9 => h9) d (kk H locs ls hP hS hl)
theorem fm_tlen (F : fm_F X Y cc nL own R0) (d : decode cc pc = .ok (.arraylength, 1)) (kk : fm_G X Y cs nL M (pc + 1) lv (.int 3 :: st)) : fm_G X Y cs nL M pc lv (.ref (yA Y 7) :: st) := fun H locs ls hP hS hl =>
  va_tlen F.exec F.bytes (F.stc.1.2.1 0 (by decide)).2.2.2 hS (v := 3) rfl d (kk H locs ls hP hS hl)
theorem fm_tb (F : fm_F X Y cc nL own R0) (d : decode cc pc = .ok (.baload, 1)) {i : Int32} (hi : vp_in i 3) (kk : fm_G X Y cs nL M (pc + 1) lv (.int (fm_tdb i.toNatClampNeg) :: st)) : fm_G X Y cs nL M pc lv (.int i :: .ref (yA Y 7) :: st) := fun H locs ls hP hS hl =>
  va_tb F.exec F.bytes (F.stc.1.2.1 0 (by decide)).2.2.2 hS hi rfl d (kk H locs ls hP hS hl)
theorem fm_callQ (F : fm_F X Y cc nL own R0) {y : MethodName} {bytes : ByteArray} {maxL n index : Nat} {ret : Option FieldType} {rm : Room} {As rest st0 : List Value} {r : Option Value} {M' : fm_M}
    (hM : fm_C (xl X) y (ws_ y bytes maxL ret) rm Y (.ref (yA Y 6) :: As) M r M') (w1 : Cond.methodLink own index y ∈ lw_all) (w2 : Cond.instanceMethod y ∈ lw_all) (w3 : Cond.selects "java/lang/String" y y ∈ lw_all) (w4 : Cond.initialized "java/lang/String" ∈ lw_all) (w5 : Cond.code y bytes maxL ret ∈ lw_all)
    (hz : rm.cells = 0 ∧ rm.slots = 0) (hd : y.cls = "java/lang/String" ∧ y.cls ≠ "java/lang/invoke/MethodHandle" ∧ y.cls ≠ "java/lang/invoke/VarHandle" ∧ (parseMethodDescriptor y.desc).map (fun d => d.parameters.length) = some n) (hR : rm.frames + 1 ≤ R0.frames ∧ 8 + (maxL + 11) + rm.locals ≤ R0.locals ∧ cs.1 ≤ R0.cells ∧ cs.2 ≤ R0.slots)
    (hn : As.length = n) (hst : st0 = As.reverse ++ .ref (yA Y 6) :: rest) (hW : (rest.map fun v => v.category).sum ≤ 8) (d : decode cc pc = .ok (.invokevirtual index, 3)) (kk : fm_G X Y cs nL M' (pc + 3) lv (r.toList ++ rest)) : fm_G X Y cs nL M pc lv st0 := by
  subst hst
  have hR' := hR
  rw [← F.room] at hR'
  exact fm_ran (fun H locs ls hP hS hl => va_runV ⟨F.exec, F.bytes, F.maxL, F.ownC, F.words⟩ (hM H.size) (cwV n F.words (lw_V w1 w2 w3 w4 w5) rfl hz.1 hz.2 hd ⟨hR'.1, hR'.2.1⟩) ⟨fm_blind, vk_recv (i := 0) F.stc.1.2 (by decide) hS, fm_pre F hP hS⟩ rfl hn hl.1 rfl (fm_sum0 hW rfl) d ⟨by omega, by omega⟩) kk
theorem fm_zretB (F : fm_F X Y cc nL own R0) {r : Int32} {M' : fm_M} (E : fm_E X Y (some (.int r)) M' (some .byte)) (hf : some ((0 : Int32), M) = some (r, M')) (d : decode cc pc = .ok (.ireturn, 1)) : fm_G X Y (0, 0) nL M pc lv [.int 0] := fun H locs ls hP hS hl => by
  obtain ⟨rfl, rfl⟩ := Prod.mk.inj (Option.some.inj hf)
  have hlocks := F.locks
  show W _ _ _ _ _ _ _ _ _ _ H locs 0 0 (xQ X) _
  rw [E.2]
  exact W.zret F.exec F.bytes E.1 rfl (fun t ht hW => ⟨rfl, by rw [ht]; exact hP, hS.F ht⟩) hS.2.2 d
end FMS
theorem fm_eq5 {x : Int32} (h : vp_in x 6) (h0 : x.toInt ≠ 0) (h1 : x.toInt ≠ 1) (h2 : x.toInt ≠ 2) (h3 : x.toInt ≠ 3) (h4 : x.toInt ≠ 4) : x = 5 := by
  have h6 := vp_in_iff.mp h
  have h7 : x.toInt = (5 : Int32).toInt := by
    show x.toInt = 5
    omega
  exact Int32.toInt_inj.mp h7
