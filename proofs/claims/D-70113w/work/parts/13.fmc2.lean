/-! rows for the array of plains, and a call of an overriding method -/
set_option maxRecDepth 100000
def fm_bfok (M : fm_M) : Bool := (List.range 10).all fun j => Nat.blt (M.1 3 j).toNatClampNeg 14
theorem fm_bfok.at {M : fm_M} (h : fm_bfok M = true) {j : Nat} (hj : j < 10) : Nat.blt (M.1 3 j).toNatClampNeg 14 = true := List.all_eq_true.mp h j (List.mem_range.mpr hj)
section FMB
variable {X : fm_X} {D : va_G} {dA : Nat → ClassId} {N : Nat} {ad : Nat → Nat} {bk : Nat} {cs : Nat × Nat} {cc : ByteArray} {nL : Nat} {own : String} {R0 : Room} {M : fm_M} {pc : Nat} {lv : List (Nat × Value)} {st : List Value}
theorem fm_copyB (F : fm_F X (YC D dA N ad bk) cc nL own R0) (hN : 193 ≤ N) {index : Nat} (d : decode cc pc = .ok (.invokestatic index, 3)) (w1 : Cond.methodLink own index arraycopyName ∈ lw_all) (w2 : Cond.native arraycopyName ∈ lw_all) (w3 : Cond.static arraycopyName ∈ lw_all) (w4 : Cond.initialized "java/lang/System" ∈ lw_all) (hg : fm_bfok M = true)
    (hR : 1 ≤ R0.frames ∧ (st.map fun v => v.category).sum + (nativeFrameWords "java/lang/System" "arraycopy" 5 + 11) ≤ R0.locals) (kk : fm_G X (YC D dA N ad bk) cs nL (fm_row M 3 (va_cpy (M.1 3) (M.1 3) 1 0 9)) (pc + 3) lv st) : fm_G X (YC D dA N ad bk) cs nL M pc lv (.int 9 :: .int 0 :: .ref (ad 3) :: .int 1 :: .ref (ad 3) :: st) := fun H locs ls hP hS hl => by
  have hR' := hR
  rw [← F.room] at hR'
  have h3 : 3 < N := by omega
  have ha : (fm_ws N ad (mkC ad dA bk) M)[3]? = some (ad 3, .inl (dA 3, 10, .inr (.inr (.inr (.inr (fun j => some (ad (39 + 11 * (M.1 3 j).toNatClampNeg)))))))) := by rw [fm_ws_get h3]; rfl
  refine va_copyq (C := RX2) (E0 := "BellLots$Plain") (E1 := "BellLots$Plain") F.exec F.bytes (F.maxL.trans hl.1.symm) F.ownC (F.words _ w1) (F.words _ w2) (F.words _ w3) (F.words _ w4) F.kn hP F.apart hS 3 3 3 3 ha ha rfl rfl (by decide) (by decide) (by decide) (by decide) (by decide) ?_ ?_ hR'.1 hR'.2 d (fun H1 locs1 hP1 _ hS1 => kk H1 locs1 ls ?_ hS1 hl)
  · intro i hi y hy
    have e : (1 : Int32).toNatClampNeg + i = 1 + i := rfl
    have hi9 : i < 9 := hi
    rw [e] at hy
    have hp : fm_isPl (39 + 11 * (M.1 3 (1 + i)).toNatClampNeg) := fm_isPl.of (fm_bfok.at hg (by omega))
    obtain ⟨cell, q1, q2, q3⟩ := fm_recv (Y := YC D dA N ad bk) F hP (id := 39 + 11 * (M.1 3 (1 + i)).toNatClampNeg) (ci := 2) (q := (RX2, TX2, 7)) (hp.lt hN 0 (by decide)) (hp.mk0 _ _) rfl
    cases hy
    exact ⟨cell, q1, q2, q3⟩
  · intro comp c0 h1 h2
    have hk := (F.kn.1 2 (RX2, TX2, 7) rfl).2
    have e1 : (yD (YC D dA N ad bk)).1 2 = comp := Option.some.inj (hk.1.symm.trans h1)
    have e2 : (yD (YC D dA N ad bk)).1 2 = c0 := Option.some.inj (hk.1.symm.trans h2)
    rw [← e1, ← e2]
    exact va_assign hk
  · have e : (va_cpy (fun j => some (ad (39 + 11 * (M.1 3 j).toNatClampNeg))) (fun j => some (ad (39 + 11 * (M.1 3 j).toNatClampNeg))) (1 : Int32).toNatClampNeg (0 : Int32).toNatClampNeg (9 : Int32).toNatClampNeg) = (fun j => some (ad (39 + 11 * (va_cpy (M.1 3) (M.1 3) 1 0 9 j).toNatClampNeg))) := by
      funext j
      show va_cpy _ _ 1 0 9 j = _
      unfold va_cpy
      by_cases hc : 0 ≤ j ∧ j < 0 + 9
      · rw [if_pos hc, if_pos hc]
      · rw [if_neg hc, if_neg hc]
    rw [e] at hP1
    have e2 := fm_ws_row (N := N) (ad := ad) (mk := mkC ad dA bk) (M := M) 3 (va_cpy (M.1 3) (M.1 3) 1 0 9)
    show va_P D fm_cl (fm_ws N ad (mkC ad dA bk) (fm_row M 3 (va_cpy (M.1 3) (M.1 3) 1 0 9))) H1
    rw [← e2]
    exact hP1
theorem fm_aastB (F : fm_F X (YC D dA N ad bk) cc nL own R0) (hN : 193 ≤ N) (d : decode cc pc = .ok (.aastore, 1)) (x : Int32) (hx : Nat.blt x.toNatClampNeg 14 = true) (j : Nat) {i : Int32} (hi : vp_in i 10) (hj : i.toNatClampNeg = j) (kk : fm_G X (YC D dA N ad bk) cs nL (fm_wr M 3 j x) (pc + 1) lv st) : fm_G X (YC D dA N ad bk) cs nL M pc lv (.ref (ad (39 + 11 * x.toNatClampNeg)) :: .int i :: .ref (ad 3) :: st) := fun H locs ls hP hS hl => by
  have h3 : 3 < N := by omega
  have ha : (fm_ws N ad (mkC ad dA bk) M)[3]? = some (ad 3, .inl (dA 3, 10, .inr (.inr (.inr (.inr (fun j => some (ad (39 + 11 * (M.1 3 j).toNatClampNeg)))))))) := by rw [fm_ws_get h3]; rfl
  have hp : fm_isPl (39 + 11 * x.toNatClampNeg) := fm_isPl.of hx
  have hv : (fm_ws N ad (mkC ad dA bk) M)[39 + 11 * x.toNatClampNeg]? = some (ad (39 + 11 * x.toNatClampNeg), .inr (2, [.int (M.1 (39 + 11 * x.toNatClampNeg) 0), .int (M.1 (39 + 11 * x.toNatClampNeg) 1), .ref (ad (39 + 11 * x.toNatClampNeg + 1)), .ref (ad (39 + 11 * x.toNatClampNeg + 2)), .ref (ad (39 + 11 * x.toNatClampNeg + 3)), .ref (ad (39 + 11 * x.toNatClampNeg + 4)), .ref (ad 0)])) := by rw [fm_ws_get (i := 39 + 11 * x.toNatClampNeg) (hp.lt hN 0 (by decide)), hp.mk0]
  refine va_astq F.exec F.bytes F.kn hP F.apart hS 3 3 (39 + 11 * x.toNatClampNeg) 2 (r := (RX2, TX2, 7)) ha rfl hv rfl hi d (fun H1 locs1 hP1 _ hS1 => kk H1 locs1 ls ?_ hS1 hl)
  subst hj
  have e : (va_up (fun j => some (ad (39 + 11 * (M.1 3 j).toNatClampNeg))) i.toNatClampNeg (some (ad (39 + 11 * x.toNatClampNeg)))) = (fun j => some (ad (39 + 11 * (upd (M.1 3) i.toNatClampNeg x j).toNatClampNeg))) := by
    funext j
    unfold va_up upd
    by_cases hc : j = i.toNatClampNeg
    · rw [if_pos hc, if_pos hc]
    · rw [if_neg hc, if_neg hc]
  rw [e] at hP1
  have e2 := fm_ws_row (N := N) (ad := ad) (mk := mkC ad dA bk) (M := M) 3 (upd (M.1 3) i.toNatClampNeg x)
  show va_P D fm_cl (fm_ws N ad (mkC ad dA bk) (fm_row M 3 (upd (M.1 3) i.toNatClampNeg x))) H1
  rw [← e2]
  exact hP1
end FMB
section FMO
variable {X : fm_X} {Y : fm_Y} {cs : Nat × Nat} {cc : ByteArray} {nL : Nat} {own : String} {R0 : Room} {M : fm_M} {pc : Nat} {lv : List (Nat × Value)} {st : List Value}
theorem fm_callO (F : fm_F X Y cc nL own R0) {x y : MethodName} {bytes : ByteArray} {maxL n index : Nat} {ret : Option FieldType} {rm : Room} {As rest st0 : List Value} {r : Option Value} {M' : fm_M} {C : String} {T : u_T} {ci nf : Nat} (id : Nat) (hid : id < yN Y) {fs : List Value} (he : ymk Y id (M.1 id) M.2 = .inr (ci, fs)) (hc : fm_cl[ci]? = some (C, T, nf))
    (hM : fm_C (xl X) y (ws_ y bytes maxL ret) rm Y (.ref (yad Y id) :: As) M r M') (w1 : Cond.methodLink own index x ∈ lw_all) (w2 : Cond.sameMethod x.cls x.cls x.name x.desc ∈ lw_all) (w3 : Cond.instanceMethod x ∈ lw_all) (w4 : Cond.selects C x y ∈ lw_all) (w5 : Cond.instanceMethod y ∈ lw_all) (w6 : Cond.initialized y.cls ∈ lw_all) (w7 : Cond.code y bytes maxL ret ∈ lw_all) {b0 : ByteArray} {m0 : Nat} {r0 : Option FieldType} (w8 : Cond.code x b0 m0 r0 ∈ lw_all)
    (hz : rm.cells = 0 ∧ rm.slots = 0) (hd : x.cls ≠ "java/lang/invoke/MethodHandle" ∧ x.cls ≠ "java/lang/invoke/VarHandle" ∧ (parseMethodDescriptor x.desc).map (fun d => d.parameters.length) = some n) (hR : rm.frames + 1 ≤ R0.frames ∧ 8 + (maxL + 11) + rm.locals ≤ R0.locals ∧ cs.1 ≤ R0.cells ∧ cs.2 ≤ R0.slots)
    (hn : As.length = n) (hst : st0 = As.reverse ++ .ref (yad Y id) :: rest) (hW : (rest.map fun v => v.category).sum ≤ 8) (d : decode cc pc = .ok (.invokevirtual index, 3)) (kk : fm_G X Y cs nL M' (pc + 3) lv (r.toList ++ rest)) : fm_G X Y cs nL M pc lv st0 := by
  subst hst
  have hR' := hR
  rw [← F.room] at hR'
  have hG : GoodIn lw_all (va_wsO own index C x.cls x y (ws_ y bytes maxL ret)) := by
    refine lw_app ?_ (lw_meth w7)
    intro w hw
    simp only [List.mem_cons, List.not_mem_nil, or_false] at hw
    rcases hw with e | e | e | e | e | e
    · rw [e]; exact w1
    · rw [e]; exact w2
    · rw [e]; exact w3
    · rw [e]; exact w4
    · rw [e]; exact w5
    · rw [e]; exact w6
  exact fm_ran (fun H locs ls hP hS hl => va_runU ⟨F.exec, F.bytes, F.maxL, F.ownC, F.words⟩ (hM H.size) (va_cwO n F.words hG rfl hz.1 hz.2 w8 hd ⟨hR'.1, hR'.2.1⟩) ⟨fm_blind, fm_recv F hP hid he hc, fm_pre F hP hS⟩ rfl hn hl.1 rfl (fm_sum0 hW rfl) d ⟨by omega, by omega⟩) kk
end FMO
