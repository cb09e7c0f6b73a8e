/-! BellLots.plain: a reader and its book are made, the text is read, a Wrong is caught -/
set_option maxRecDepth 100000
abbrev rmX0_plain (c n : Nat) : Room := { frames := 12, cells := c, slots := n, locals := 340 }
theorem pw_A {N sz : Nat} {ad : Nat → Nat} {q : Nat} : fm_A (N + 22) (pw_ad N sz ad) sz q ↔ fm_A N ad sz q := by
  constructor
  · intro h
    rcases h with ⟨i, hi, rfl⟩ | h
    · by_cases h1 : i < N
      · exact Or.inl ⟨i, h1, if_pos h1⟩
      · refine Or.inr ?_
        unfold pw_ad
        rw [if_neg h1]
        omega
    · exact Or.inr h
  · intro h
    rcases h with ⟨i, hi, rfl⟩ | h
    · exact Or.inl ⟨i, by omega, (if_pos hi).symm⟩
    · exact Or.inr h
theorem pw_inj {N sz : Nat} {ad : Nat → Nat} (inj : ∀ i j, i < N → j < N → ad i = ad j → i = j) (hlt : ∀ i, i < N → ad i < sz) : ∀ i j, i < N + 22 → j < N + 22 → pw_ad N sz ad i = pw_ad N sz ad j → i = j := by
  intro i j hi hj h
  unfold pw_ad at h
  by_cases h1 : i < N
  · by_cases h2 : j < N
    · rw [if_pos h1, if_pos h2] at h
      exact inj i j h1 h2 h
    · rw [if_pos h1, if_neg h2] at h
      have := hlt i h1
      omega
  · by_cases h2 : j < N
    · rw [if_neg h1, if_pos h2] at h
      have := hlt j h2
      omega
    · rw [if_neg h1, if_neg h2] at h
      omega
theorem pw_lt {Y : fm_Y} {M : fm_M} {H : Heap} (hP : fm_P Y M H) {i : Nat} (hi : i < yN Y) : yad Y i < H.size := (hP i _ (fm_ws_get hi)).lt
theorem pw_Fof {A B : Nat → Prop} {st t : State} (h : ∀ q, A q → B q) (hF : va_F A st t) : va_F B st t := ⟨hF.1, fun q h1 h2 => hF.2 q h1 (fun z => h2 (h q z))⟩
section PWP
variable {X : fm_X} {D : va_G} {dA : Nat → ClassId} {N : Nat} {ad : Nat → Nat} {bk : Nat} {cs : Nat × Nat} {cc : ByteArray} {nL : Nat} {own : String} {R0 : Room} {M : fm_M} {pc : Nat} {lv : List (Nat × Value)} {st : List Value}
theorem pw_F {bk' : Nat} (F : fm_F X (YC D dA N ad bk) cc nL own R0) (hlt : ∀ i, i < N → ad i < (xs X).heap.size) : fm_F X (YC D dA (N + 22) (pw_ad N (xs X).heap.size ad) bk') cc nL own R0 :=
  ⟨F.exec, F.bytes, F.maxL, F.ownC, F.words, F.kn, pw_inj F.inj hlt, F.nw, F.locks, F.room, F.stc.narrow (fun q h => pw_A.mp h), F.ao⟩
theorem pw_FB {bk' : Nat} (F : fm_F X (YC D dA N ad bk) cc nL own R0) : fm_F X (YC D dA N ad bk') cc nL own R0 :=
  ⟨F.exec, F.bytes, F.maxL, F.ownC, F.words, F.kn, F.inj, F.nw, F.locks, F.room, F.stc, F.ao⟩
theorem pw_head {C : fm_M} {q : Nat} (F : fm_F X (YC D dA N ad bk) cX0_plain 3 RX0 R0) (hN : N = 193 + 22 * q) (hbk : bk < N) (hb : ∀ j, j < 10 → (C.1 3 j).toNatClampNeg < 14) (hR : 3 ≤ R0.frames ∧ 71 ≤ R0.locals ∧ 22 ≤ R0.cells ∧ 137 ≤ R0.slots)
    (kk : fm_G X (YC D dA (N + 22) (pw_ad N (xs X).heap.size ad) bk) (22, 137) 3 (pw_M N C) 8 [(0, .ref (ad 0))] [.ref (xs X).heap.size]) {ls : Array Slot} (hl : lv_has ls 3 [(0, .ref (ad 0))]) (hP : fm_P (YC D dA N ad bk) C (xs X).heap) : W (xp X) (xl X) (xe X) (xR X) (xs X) (xm X) (xa X) (xb X) (xt X) (xc X) (xs X).heap [] 0 0 (xQ X) (F0 (xm X) 0 ls []) := by
  have hR' := hR
  rw [← F.room] at hR'
  have hS : va_S (fm_A N ad (xs X).heap.size) (xs X).heap (xs X).heap [] := va_S.rf
  have hKn := F.kn.1 10 (RX10, TX10, 6) rfl
  refine W.newcK F.exec F.bytes F.ownC (F.words _ q351) (F.words _ q352) (F.words _ q51) rfl dX0_plain_0 (by show 0 + 1 ≤ _; omega) (by show 0 + 6 ≤ _; omega) hKn.2.1 rfl fun H1 kC hkC e1 z1 o1 => ?_
  have hat0 : va_at D fm_cl ((xs X).heap.size, .inr (10, [.int 0, .int 0, .int 0, .int 0, .null, .null])) H1 := ⟨_, rfl, (u_born tyX10 F.words in_X10 hKn hkC e1 tyX10_ok).to (rg_all6 rfl rfl rfl rfl rfl rfl)⟩
  have hP1 : fm_P (YC D dA N ad bk) C H1 := va_P.kept hP (fun k q hq => o1 q.1 ((hP k q hq).lt))
  have hS1 := rg_sz hS z1 o1
  refine lv_dup F.exec F.bytes dX0_plain_3 rfl ?_
  refine lv_aload_n F.exec F.bytes dX0_plain_4 rfl (lv_at hl 0 rfl) ?_
  have hrun := va_runIN (p := xp X) (l := xl X) (e := xe X) (R := xR X) (s := xs X) (m := xm X) (args := xa X) (below := xb X) (meth := xt X) (c := xc X) (H := H1) (locs := []) (cells := 1) (slots := 6) (As := [.ref (ad 0)]) (rest := [.ref (xs X).heap.size]) (g := F0 (xm X) 5 ls (.ref (ad 0) :: .ref (xs X).heap.size :: .ref (xs X).heap.size :: [])) ⟨F.exec, F.bytes, F.maxL, F.ownC, F.words⟩ (mX10_init (l := xl X) (D := D) (dA := dA) (b := (xs X).heap.size) (o := ad 0)) ⟨va_cnB 1 F.words (lw_meth q355) rfl rfl rfl (F.nest q353 rfl) (F.words _ q51) (by decide +kernel) ⟨hR'.1, hR'.2.1⟩, rfl, F.words _ q354⟩ ⟨rg_blind, fun U hU hW => ⟨rfl, by rw [hU]; exact z1, ?_, va_K.moved hW.alike F.kn, F.nw.warm hW, ?_, fm_AO.moved hW.alike F.ao⟩⟩ rfl rfl hl.1 rfl (by show 2 * 0 + 1 ≤ 8; omega) dX0_plain_5 ⟨by show 1 + 21 ≤ _; omega, by show 6 + 131 ≤ _; omega⟩
  rotate_left
  · rw [hU]
    intro k q hk
    match k, hk with
    | 0, hk => cases hk; exact hat0
  · rw [hU]
    exact ((F.stc.kept hS1.2.1).narrow (B := fun q => (xs X).heap.size ≤ q) (fun q h => Or.inr h)).warm hW
  intro T2 hT2 Z2
  obtain ⟨v2, st₀, t, T', L, h0, Z', hL, g1, g2, ⟨hv2, hz2, hP2, hzz, hk⟩, hst⟩ := hrun T2 hT2 Z2
  cases hv2
  rw [h0] at hzz hk
  have hPM : fm_P (YC D dA N ad bk) C T'.heap := by
    rw [g1]
    exact va_P.kept hP1 (fun k q hq => hk q.1 ((hP1 k q hq).lt) (fun z => by have z' : (xs X).heap.size ≤ q.1 := z; have := (hP k q hq).lt; omega))
  have hPW : fm_P (YC D dA (N + 22) (pw_ad N (xs X).heap.size ad) bk) (pw_M N C) T'.heap := pw_world hN hbk hb hPM (by rw [g1]; exact hP2)
  have hS2 : va_S (fm_A (N + 22) (pw_ad N (xs X).heap.size ad) (xs X).heap.size) (xs X).heap T'.heap ([] ++ L) := by
    refine ⟨?_, fun q h1 h2 => ?_, fun q hq => ?_⟩
    · rw [g1]; exact Nat.le_trans hS1.1 hzz
    · rw [g1, hk q (Nat.lt_of_lt_of_le h1 hS1.1) (fun z => h2 (Or.inr z))]
      exact hS1.2.1 q h1 (fun z => h2 (pw_A.mpr z))
    · exact Or.inr (hL q hq)
  obtain ⟨t3, a1, b1⟩ := kk T'.heap ([] ++ L) ls hPW hS2 hl T' rfl Z'
  exact ⟨t3, hst _ a1, b1⟩
theorem mkC_bk0 {ad : Nat → Nat} {dA : Nat → ClassId} {bk bk' i : Nat} (hi : i ≠ 0) (r : Nat → Int32) (t : Int64) : mkC ad dA bk i r t = mkC ad dA bk' i r t := by
  have h : mkH ad dA bk i r t = mkH ad dA bk' i r t := by
    unfold mkH
    split <;> first | rfl | exact absurd rfl hi
  unfold mkC
  rw [h]
theorem pw_book {bk' : Nat} (F : fm_F X (YC D dA N ad bk) cc nL RX0 R0) (hN : 193 ≤ N) (d : decode cc pc = .ok (.putfield 1, 3)) (kk : fm_G X (YC D dA N ad bk') cs nL M (pc + 3) lv st) : fm_G X (YC D dA N ad bk) cs nL M pc lv (.ref (ad bk') :: .ref (ad 0) :: st) := fun H locs ls hP hS hl => by
  have h0 : (fm_ws N ad (mkC ad dA bk) M)[0]? = some (ad 0, mkC ad dA bk 0 (M.1 0) M.2) := fm_ws_get (by omega)
  have hs : (fm_ws N ad (mkC ad dA bk) M).set 0 (ad 0, mkC ad dA bk' 0 (M.1 0) M.2) = fm_ws N ad (mkC ad dA bk') M := by
    apply List.ext_getElem?
    intro j
    by_cases hj : j < N
    · by_cases hc : 0 = j
      · subst hc
        rw [List.getElem?_set_self (by rw [fm_ws_len]; exact hj), fm_ws_get hj]
      · rw [List.getElem?_set_ne hc, fm_ws_get hj, fm_ws_get hj, mkC_bk0 (Ne.symm hc)]
    · rw [List.getElem?_eq_none (by rw [List.length_set, fm_ws_len]; omega), List.getElem?_eq_none (by rw [fm_ws_len]; omega)]
  refine va_put (C := RX0) (T := TX0) (N := 19) (ty := .object "BellLots$Book") F.exec F.bytes F.words clX0.2.1 tyX0 clX0.2.2.1 clX0.2.2.2 F.ownC F.kn hP F.apart hS 0 h0 clX0.1 0 (by decide) (F.words _ q262) (fun _ h9 => h9) rfl (by decide +kernel) rfl rfl (fm_lt rfl) d (fun H1 locs1 hP1 _ hS1 => kk H1 locs1 ls ?_ hS1 hl)
  show va_P D fm_cl (fm_ws N ad (mkC ad dA bk') M) H1
  rw [← hs]
  exact hP1
/-- the text is read: the new book stands -/
theorem pw_good {n sz : Nat} {C1 C2 C3 : fm_M} {q : Nat} {ad0 : Nat → Nat} (F : fm_F X (YC D dA (N + 22) ad bk) cX0_plain 3 RX0 (rmX0_plain 22 137)) (hN : N = 193 + 22 * q) (hb : fm_isBk (N + 22) bk) (hr : fX10_read n bk N M = some (Sum.inl (), C1)) (hg : fX2_begin n (N + 1) 39 C1 = some C2) (hfl : fJ1_fill_2 n (N + 1) (fm_wr (fm_wr C2 0 6 0) 0 16 0) 0 = some C3) {v : Int32} (hv : C3.1 (N + 1) 10 = v)
    (hret : (xt X).sig.returnType = some .int) (hA : ∀ q, fm_A (N + 22) ad (xs X).heap.size q → fm_A N ad0 sz q) (hQ : xQ X = MQ (xb X) (fun _ st oc t => oc = .returned (some (.int v)) ∧ fm_P (YC D dA (N + 22) ad (N + 1)) (fm_wr C3 0 10 0) t.heap ∧ va_F (fm_A N ad0 sz) st t) (xa X) (xs X) 22 137 (fm_A N ad0 sz)) {a : Nat} (ha : a = ad N) {b : Nat} (hb0 : b = ad 0) : fm_G X (YC D dA (N + 22) ad bk) (22, 137) 3 M 8 [(0, .ref b)] [.ref a] := by
  subst ha
  subst hb0
  have hN1 : 193 ≤ N + 22 := by omega
  have hrd : fm_isRd (N + 22) N := ⟨q, hN, Nat.le_refl _⟩
  have hbk : fm_isBk (N + 22) (N + 1) := hrd.bk
  refine fm_callV (As := []) (rest := []) (pc := 8) F (ci := 10) N (by show N < N + 22; omega) (hrd.mk0 (ad := ad) (dA := dA) (bk := bk) _ M.2) rfl (mX10_read hrd hN1 hb F.inj hr) q378 q379 q380 q51 q381 ⟨rfl, rfl⟩ (n := 0) (by decide +kernel) ⟨fm_le rfl, fm_le rfl, fm_le rfl, fm_le rfl⟩ rfl rfl (fm_le rfl) dX0_plain_8 ?_
  refine fm_astore_n (pc := 11) F dX0_plain_11 (i := 1) rfl (fm_lt rfl) rfl ?_
  refine fm_goto (pc := 12) (tgt := 24) F dX0_plain_12 (by decide) ?_
  refine fm_aload_n (pc := 24) F dX0_plain_24 1 rfl ?_
  refine fm_aload_n (pc := 25) F dX0_plain_25 0 rfl ?_
  refine pw_book (pc := 26) F hN1 dX0_plain_26 ?_
  have F := pw_FB (bk' := N + 1) F
  refine fm_aload_n (pc := 29) F dX0_plain_29 1 rfl ?_
  refine fm_get (v := .ref (ad 39)) (pc := 30) F (ci := 0) rfl in_X0 3 (fm_lt rfl) dX0_plain_30 q272 0 (fm_ltN hN1 rfl) rfl rfl ?_
  refine fm_callV (As := []) (rest := []) (pc := 33) F (ci := 2) 39 (fm_ltN hN1 rfl) (fm_isPl.now.mk0 (ad := ad) (dA := dA) (bk := N + 1) _ C1.2) rfl (mX2_begin fm_isPl.now hN1 hbk F.inj hg) q252 q253 q254 q41 q255 ⟨rfl, rfl⟩ (n := 0) (by decide +kernel) ⟨fm_le rfl, fm_le rfl, fm_le rfl, fm_le rfl⟩ rfl rfl (fm_le rfl) dX0_plain_33 ?_
  refine fm_aload_n (pc := 36) F dX0_plain_36 1 rfl ?_
  refine fm_iconst (v := 0) (pc := 37) F dX0_plain_37 (by decide) ?_
  refine fm_putI (v := 0) (pc := 38) F clX0 6 (fm_lt rfl) dX0_plain_38 q275 rfl rfl 0 (fm_ltN hN1 rfl) rfl (fm_lt rfl) rfl ?_
  refine fm_aload_n (pc := 41) F dX0_plain_41 1 rfl ?_
  refine fm_iconst (v := 0) (pc := 42) F dX0_plain_42 (by decide) ?_
  refine fm_putI (v := 0) (pc := 43) F clX0 16 (fm_lt rfl) dX0_plain_43 q287 rfl rfl 0 (fm_ltN hN1 rfl) rfl (fm_lt rfl) rfl ?_
  refine fm_aload_n (pc := 46) F dX0_plain_46 1 rfl ?_
  refine fm_get (v := .ref (ad 5)) (pc := 47) F (ci := 0) rfl in_X0 8 (fm_lt rfl) dX0_plain_47 q277 0 (fm_ltN hN1 rfl) rfl rfl ?_
  refine fm_iconst (v := 0) (pc := 50) F dX0_plain_50 (by decide) ?_
  refine fm_callS (As := [.ref (ad 5), .int 0]) (rest := []) (pc := 51) F (mJ1_fill_2 hN1 hbk F.inj hfl) q571 q572 q49 q573 ⟨rfl, rfl⟩ (n := 2) (by decide +kernel) ⟨fm_le rfl, fm_le rfl, fm_le rfl, fm_le rfl⟩ rfl rfl (fm_le rfl) dX0_plain_51 ?_
  refine fm_aload_n (pc := 54) F dX0_plain_54 1 rfl ?_
  refine fm_iconst (v := 0) (pc := 55) F dX0_plain_55 (by decide) ?_
  refine fm_putI (v := 0) (pc := 56) F clX0 10 (fm_lt rfl) dX0_plain_56 q281 rfl rfl 0 (fm_ltN hN1 rfl) rfl (fm_lt rfl) rfl ?_
  refine fm_aload_n (pc := 59) F dX0_plain_59 0 rfl ?_
  refine fm_getN (v := .int v) (pc := 60) F (ci := 1) (T := TX1) (n := 11) rfl in_X1 10 (fm_lt rfl) dX0_plain_60 q114 (N + 1) (hbk.lt 0 (fm_lt rfl)) (hbk.mk0 (ad := ad) (dA := dA) (bk := N + 1) _ C3.2) ?_ ?_
  · show some (Value.int ((fm_wr C3 0 10 0).1 (N + 1) 10)) = some (.int v)
    rw [← hv]
    have e : (fm_wr C3 0 10 0).1 (N + 1) 10 = C3.1 (N + 1) 10 := by
      show va_up C3.1 0 (upd (C3.1 0) 10 0) (N + 1) 10 = _
      unfold va_up
      rw [if_neg (by omega)]
    rw [e]
  intro H locs ls hP hS hl
  have hlocks := F.locks
  show W _ _ _ _ _ _ _ _ _ _ H locs 22 137 (xQ X) _
  rw [hQ]
  exact W.iret F.exec F.bytes hret (fun t ht hW => ⟨rfl, by rw [ht]; exact hP, pw_Fof hA (hS.F ht)⟩) (fun q hq => hA _ (hS.2.2 q hq)) dX0_plain_63
/-- the text is wrong: the exception is caught -/
theorem pw_bad {n sz : Nat} {v : Int32} {C1 : fm_M} {q : Nat} {ad0 : Nat → Nat} (F : fm_F X (YC D dA (N + 22) ad bk) cX0_plain 3 RX0 (rmX0_plain 23 144)) (hN : N = 193 + 22 * q) (hb : fm_isBk (N + 22) bk) (hbN : bk < N) (hr : fX10_read n bk N M = some (Sum.inr v, C1)) (hbf : ∀ j, j < 10 → (C1.1 3 j).toNatClampNeg < 14) (hag : ∀ i, i < N → ad0 i = ad i)
    (htab : (xc X).exceptionTable.toList.map (fun h => (h.startPc, h.endPc, h.handlerPc, h.catchType)) = [(0, 12, 15, 115)])
    (hret : (xt X).sig.returnType = some .int) (hA : ∀ q, fm_A (N + 22) ad (xs X).heap.size q → fm_A N ad0 sz q) (hQ : xQ X = MQ (xb X) (fun _ st oc t => oc = .returned (some (.int (-10 - v))) ∧ fm_P (YC D dA N ad0 bk) C1 t.heap ∧ va_F (fm_A N ad0 sz) st t) (xa X) (xs X) 23 144 (fm_A N ad0 sz)) {a : Nat} (ha : a = ad N) {b : Nat} : fm_G X (YC D dA (N + 22) ad bk) (22, 137) 3 M 8 [(0, .ref b)] [.ref a] := by
  subst ha
  have hN1 : 193 ≤ N + 22 := by omega
  have hrd : fm_isRd (N + 22) N := ⟨q, hN, Nat.le_refl _⟩
  have hM : fm_CT (xl X) yX10_read (ws_ yX10_read cX10_read 2 (some (.object "BellLots$Book"))) (rmX10_read 1 7) (YC D dA (N + 22) ad bk) [.ref (ad N)] M v C1 := mX10_read hrd hN1 hb F.inj hr
  intro H locs ls hP hS hl T1 hT1 Z
  have hroom := F.room
  obtain ⟨cellB, q1, q2, q3⟩ := fm_recv (Y := YC D dA (N + 22) ad bk) F hP (id := N) (ci := 10) (q := (RX10, TX10, 6)) (by show N < N + 22; omega) (hrd.mk0 (ad := ad) (dA := dA) (bk := bk) _ M.2) rfl
  have hlen : ∀ sig, parseMethodDescriptor yX10_read.desc = some sig → ([] : List Value).length = sig.parameters.length := fun sig h => by
    have h2 : (parseMethodDescriptor yX10_read.desc).map (fun d => d.parameters.length) = some 0 := by decide +kernel
    rw [h] at h2
    exact (Option.some.inj h2).symm
  obtain ⟨x, st₀, t, T', L, h0, Z', hL, e1, e2, ⟨hx, hat, hP1, hzz, hk⟩, hst⟩ := fm_thrV Z F.exec (C := RX10) F.ownC (F.words _ q378) (F.words _ q379) (F.words _ q380) (F.words _ q381) (F.words _ q51) (by decide +kernel) (hM H.size) fm_blind rfl rfl (by rw [hroom]; exact fm_le rfl) (by rw [hroom]; exact fm_le rfl) (pay_in F.words (lw_meth q381)) (by rw [hT1]; exact q1) q2 q3 (g := F0 (xm X) 8 ls (([] : List Value).reverse ++ .ref (ad N) :: [])) rfl (hl.1.trans F.maxL.symm) (argsL := []) (rest := []) hlen rfl (by show 2 * 0 + 0 ≤ 8; omega) (by rw [F.bytes]; exact dX0_plain_8) ⟨by rw [hroom]; exact fm_le rfl, by rw [hroom]; exact fm_le rfl⟩ (fun U hU hWU => fm_pre F hP hS U (hU.trans hT1) hWU)
  rw [h0, hT1] at hzz hk
  obtain ⟨r, hr1, cell, c1, c2, c3, c4⟩ := hat
  cases hr1
  have hKn := F.kn.1 11 (RX11, TX11, 7) rfl
  obtain ⟨-, hfc, kC, hkC, -⟩ := hKn
  obtain ⟨y0, ht0⟩ : ∃ y0, (xc X).exceptionTable.toList = [y0] := by
    cases h1 : (xc X).exceptionTable.toList with
    | nil => rw [h1] at htab; cases htab
    | cons y0 r =>
      cases r with
      | nil => exact ⟨y0, rfl⟩
      | cons y1 r => rw [h1] at htab; exact absurd (congrArg List.length htab) (by simp)
  rw [ht0] at htab
  have hy := List.head_eq_of_cons_eq htab
  have hy1 : y0.startPc = 0 := congrArg (fun z => z.1) hy
  have hy2 : y0.endPc = 12 := congrArg (fun z => z.2.1) hy
  have hy3 : y0.handlerPc = 15 := congrArg (fun z => z.2.2.1) hy
  have hy4 : y0.catchType = 115 := congrArg (fun z => z.2.2.2) hy
  obtain ⟨vm', Z2, hst2⟩ := pw_caught Z' (own := RX0) (name := RX11) (index := 115) (hpc := 15) F.ownC (F.words _ q350) ht0 hy4 (by decide) hy3 (a := x) (cell := cell) (cT := D.1 11) (ks := kC) (by rw [e1]; exact c1) (fun k h => by rw [h] at c3; cases c3) (by rw [c2]; exact hkC) hfc (by rw [c2]; exact va_assign (F.kn.1 11 (RX11, TX11, 7) rfl).2) (g := { (F0 (xm X) 8 ls (([] : List Value).reverse ++ .ref (ad N) :: [])) with stack := [] }) rfl (by unfold covers; rw [hy1, hy2]; rfl)
  have hS1 : va_S (fm_A (N + 22) ad (xs X).heap.size) (xs X).heap T'.heap (locs ++ L) := by
    refine ⟨Nat.le_trans hS.1 (by rw [e1]; exact hzz), fun q h1 h2 => ?_, fun q hq => ?_⟩
    · rw [e1, hk q (Nat.lt_of_lt_of_le h1 hS.1) (fun z => h2 (fm_A_mono hS.1 q z))]
      exact hS.2.1 q h1 h2
    · rcases List.mem_append.mp hq with h | h
      · exact hS.2.2 q h
      · exact fm_A_mono hS.1 _ (hL q h)
  have hWr : va_P D fm_cl [(x, fm_wrong v)] T'.heap := by
    intro k q hk
    match k, hk with
    | 0, hk =>
      cases hk
      rw [e1]
      exact ⟨_, rfl, cell, c1, c2, c3, c4⟩
  have hP2 : fm_P (YC D dA N ad0 bk) C1 T'.heap := by
    have h3 : fm_P (YC D dA N ad bk) C1 T'.heap := by
      intro k q hk
      obtain ⟨hi, rfl⟩ := fm_ws_inv hk
      have hi : k < N := hi
      rw [e1]
      exact hP1 k _ (fm_ws_get (by show k < N + 22; omega))
    intro k q hk
    obtain ⟨hi, rfl⟩ := fm_ws_inv hk
    exact pw_ext hN hbN hag hbf h3 hi
  have hlocks := F.locks
  have hW : W (xp X) (xl X) (xe X) (xR X) (xs X) (xm X) (xa X) (xb X) (xt X) (xc X) T'.heap (locs ++ L) 23 144 (xQ X) (F0 (xm X) 15 ls [.ref x]) := by
    refine lv_astore_n F.exec F.bytes dX0_plain_15 (i := 2) rfl hl (fm_lt rfl) rfl (fun ls' hl' => ?_)
    refine lv_bipush F.exec F.bytes dX0_plain_16 (v := -10) (by decide) ?_
    refine lv_aload_n F.exec F.bytes dX0_plain_18 rfl (lv_at hl' 0 rfl) ?_
    refine va_getN (C := RX11) (T := TX11) (N := 7) F.exec F.bytes F.words in_X11 F.ownC F.kn hWr 0 rfl rfl 6 (by decide) (va_Nw.use rfl (F.nest q537 rfl)) (fun _ h9 => h9) (v := .int v) rfl dX0_plain_19 ?_
    refine lv_isub F.exec F.bytes dX0_plain_22 ?_
    rw [hQ]
    exact W.iret F.exec F.bytes hret (fun t ht hW => ⟨rfl, by rw [ht]; exact hP2, pw_Fof hA (hS1.F ht)⟩) (fun q hq => hA _ (hS1.2.2 q hq)) dX0_plain_23
  obtain ⟨t3, a1, b1⟩ := hW (T'.setVm vm') rfl Z2
  exact ⟨t3, hst _ (hst2 _ a1), b1⟩
end PWP
def pw_QG (D : va_G) (dA : Nat → ClassId) (N : Nat) (ad : Nat → Nat) (v : Int32) (M' : fm_M) (sz : Nat) : Array Value → State → Outcome → State → Prop := fun _ st oc t => oc = .returned (some (.int v)) ∧ fm_P (YC D dA (N + 22) (pw_ad N sz ad) (N + 1)) M' t.heap ∧ va_F (fm_A N ad sz) st t
def pw_QB (D : va_G) (dA : Nat → ClassId) (N : Nat) (ad : Nat → Nat) (bk : Nat) (v : Int32) (M' : fm_M) (sz : Nat) : Array Value → State → Outcome → State → Prop := fun _ st oc t => oc = .returned (some (.int (-10 - v))) ∧ fm_P (YC D dA N ad bk) M' t.heap ∧ va_F (fm_A N ad sz) st t
abbrev wsX0_plain : List Cond := wsW_ yX0_plain cX0_plain 3 (some .int) [(0, 12, 15, 115)]
theorem mX0_plainG {l : Launch} {D : va_G} {dA : Nat → ClassId} {ad : Nat → Nat} {N bk n q : Nat} {C C1 C2 C3 : fm_M} {v : Int32} (hN : N = 193 + 22 * q) (hb : fm_isBk N bk) (hbf : ∀ j, j < 10 → (C.1 3 j).toNatClampNeg < 14) (inj : ∀ i j, i < N → j < N → ad i = ad j → i = j)
    (hr : fX10_read n bk N (pw_M N C) = some (Sum.inl (), C1)) (hg : fX2_begin n (N + 1) 39 C1 = some C2) (hfl : fJ1_fill_2 n (N + 1) (fm_wr (fm_wr C2 0 6 0) 0 16 0) 0 = some C3) (hv : C3.1 (N + 1) 10 = v) (sz : Nat) : Met l yX0_plain wsX0_plain (rmX0_plain 22 137) (fm_Pc (YC D dA N ad bk) [.ref (ad 0)] C sz) (pw_QG D dA N ad v (fm_wr C3 0 10 0) sz) 22 137 (fm_A N ad sz) := by
  refine va_MetW (cc := cX0_plain) (maxL := 3) (ret := some .int) (by decide) rfl ?_
  intro p e s m args below meth c s₁ B hml hv'
  obtain ⟨rfl, hsz, hP, hK, hN', hT, hO⟩ := hv'
  have hts := atoms_spec (ws := wsX0_plain) B.pre
  have hts : ∀ w ∈ lw_all, w.before _ s = true := fun w h => hts w (List.mem_cons_of_mem _ h)
  have hown : s.vm.findClass yX0_plain.cls = some m.cls := findClass_of_methodNamed B.named
  have hl := lv_entry [Value.ref (ad 0)] (n := 3) (fm_le rfl)
  rw [lg_entry_eq]
  generalize hX : ((p, l, e, rmX0_plain 22 137, s, m, [Value.ref (ad 0)].toArray, below, meth, c, MQ below (pw_QG D dA N ad v (fm_wr C3 0 10 0) sz) [Value.ref (ad 0)].toArray s 22 137 (fm_A N ad sz)) : fm_X) = X
  have F : fm_F X (YC D dA N ad bk) cX0_plain 3 RX0 (rmX0_plain 22 137) := by
    subst hX
    subst hsz
    exact ⟨B.exec, B.bytes, hml, hown, hts, hK, inj, hN', B.notSynchronized, rfl, hT, hO⟩
  have hsz1 : (xs X).heap.size = sz := by subst hX; exact hsz
  have hP' : fm_P (YC D dA N ad bk) C (xs X).heap := by subst hX; exact hP
  have hret : (xt X).sig.returnType = some .int := by subst hX; exact B.returns
  have hQ : xQ X = MQ (xb X) (pw_QG D dA N ad v (fm_wr C3 0 10 0) sz) (xa X) (xs X) 22 137 (fm_A N ad sz) := by subst hX; rfl
  have hbN : bk < N := hb.lt 0 (by decide)
  have hb' : fm_isBk (N + 22) bk := by
    rcases hb with ⟨h1, h2⟩ | ⟨q, h1, h2⟩
    · exact Or.inl ⟨h1, by omega⟩
    · exact Or.inr ⟨q, h1, by omega⟩
  have hlt : ∀ i, i < N → ad i < (xs X).heap.size := fun i hi => pw_lt hP' hi
  have hG := pw_head F hN hbN hbf ⟨fm_le rfl, fm_le rfl, fm_le rfl, fm_le rfl⟩ (pw_good (ad := pw_ad N (xs X).heap.size ad) (ad0 := ad) (sz := sz) (pw_F F hlt) hN hb' hr hg hfl hv hret (fun q h => by rw [← hsz1]; exact pw_A.mp h) (by rw [hQ, hsz1]; rfl) (by unfold pw_ad; rw [if_neg (Nat.lt_irrefl N), Nat.sub_self]; rfl) (by unfold pw_ad; rw [if_pos (by omega)])) hl hP'
  subst hX
  exact hG
theorem mX0_plainB {l : Launch} {D : va_G} {dA : Nat → ClassId} {ad : Nat → Nat} {N bk n q : Nat} {C C1 : fm_M} {v : Int32} (hN : N = 193 + 22 * q) (hb : fm_isBk N bk) (hbf : ∀ j, j < 10 → (C.1 3 j).toNatClampNeg < 14) (hbf1 : ∀ j, j < 10 → (C1.1 3 j).toNatClampNeg < 14) (inj : ∀ i j, i < N → j < N → ad i = ad j → i = j)
    (hr : fX10_read n bk N (pw_M N C) = some (Sum.inr v, C1)) (sz : Nat) : Met l yX0_plain wsX0_plain (rmX0_plain 23 144) (fm_Pc (YC D dA N ad bk) [.ref (ad 0)] C sz) (pw_QB D dA N ad bk v C1 sz) 23 144 (fm_A N ad sz) := by
  refine va_MetW (cc := cX0_plain) (maxL := 3) (ret := some .int) (by decide) rfl ?_
  intro p e s m args below meth c s₁ B hml hv'
  obtain ⟨rfl, hsz, hP, hK, hN', hT, hO⟩ := hv'
  have hts0 := atoms_spec (ws := wsX0_plain) B.pre
  have hts : ∀ w ∈ lw_all, w.before _ s = true := fun w h => hts0 w (List.mem_cons_of_mem _ h)
  have htab : c.exceptionTable.toList.map (fun h => (h.startPc, h.endPc, h.handlerPc, h.catchType)) = [(0, 12, 15, 115)] := by
    obtain ⟨m9, meth9, c9, hn9, h1, h2, -, -, h3, -⟩ := Cond.codeWith_spec (hts0 _ List.mem_cons_self)
    cases B.named.symm.trans hn9
    cases B.method.symm.trans h1
    cases (Stand.of_body B).code.symm.trans h2
    exact h3
  have hown : s.vm.findClass yX0_plain.cls = some m.cls := findClass_of_methodNamed B.named
  have hl := lv_entry [Value.ref (ad 0)] (n := 3) (fm_le rfl)
  rw [lg_entry_eq]
  generalize hX : ((p, l, e, rmX0_plain 23 144, s, m, [Value.ref (ad 0)].toArray, below, meth, c, MQ below (pw_QB D dA N ad bk v C1 sz) [Value.ref (ad 0)].toArray s 23 144 (fm_A N ad sz)) : fm_X) = X
  have F : fm_F X (YC D dA N ad bk) cX0_plain 3 RX0 (rmX0_plain 23 144) := by
    subst hX
    subst hsz
    exact ⟨B.exec, B.bytes, hml, hown, hts, hK, inj, hN', B.notSynchronized, rfl, hT, hO⟩
  have hsz1 : (xs X).heap.size = sz := by subst hX; exact hsz
  have hP' : fm_P (YC D dA N ad bk) C (xs X).heap := by subst hX; exact hP
  have hret : (xt X).sig.returnType = some .int := by subst hX; exact B.returns
  have htab' : (xc X).exceptionTable.toList.map (fun h => (h.startPc, h.endPc, h.handlerPc, h.catchType)) = [(0, 12, 15, 115)] := by subst hX; exact htab
  have hQ : xQ X = MQ (xb X) (pw_QB D dA N ad bk v C1 sz) (xa X) (xs X) 23 144 (fm_A N ad sz) := by subst hX; rfl
  have hbN : bk < N := hb.lt 0 (by decide)
  have hb' : fm_isBk (N + 22) bk := by
    rcases hb with ⟨h1, h2⟩ | ⟨q, h1, h2⟩
    · exact Or.inl ⟨h1, by omega⟩
    · exact Or.inr ⟨q, h1, by omega⟩
  have hlt : ∀ i, i < N → ad i < (xs X).heap.size := fun i hi => pw_lt hP' hi
  have hG := pw_head F hN hbN hbf ⟨fm_le rfl, fm_le rfl, fm_le rfl, fm_le rfl⟩ (pw_bad (ad := pw_ad N (xs X).heap.size ad) (ad0 := ad) (sz := sz) (pw_F F hlt) hN hb' hbN hr hbf1 (fun i hi => (if_pos hi).symm) htab' hret (fun q h => by rw [← hsz1]; exact pw_A.mp h) hQ (by unfold pw_ad; rw [if_neg (Nat.lt_irrefl N), Nat.sub_self]; rfl)) hl hP'
  subst hX
  exact hG
