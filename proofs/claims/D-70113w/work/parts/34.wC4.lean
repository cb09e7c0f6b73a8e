/-! the component: its methods as functions, and their walks (printed by gen/genC.py) -/
set_option maxRecDepth 100000
abbrev rmX10_due (c n : Nat) : Room := { frames := 7, cells := c, slots := n, locals := 220 }
def fX10_due (n bk : Nat) (rd0 : Nat) (M : fm_M) (l1 : Int32) : Option ((Int32 ⊕ Int32) × fm_M) :=
  if l1 = 0 then
    some (Sum.inr (M.1 rd0 1), M)
  else
    fm_bv (fX10_step n bk rd0 M) fun M3 =>
    some (Sum.inl (M.1 rd0 3), M3)
theorem hdX10_due : yX10_due.cls = RX10 ∧ yX10_due.cls ≠ "java/lang/invoke/MethodHandle" ∧ yX10_due.cls ≠ "java/lang/invoke/VarHandle" ∧ (parseMethodDescriptor yX10_due.desc).map (fun d => d.parameters.length) = some 1 := by decide +kernel
set_option maxHeartbeats 4000000 in
theorem mX10_due {l : Launch} {D : va_G} {dA : Nat → ClassId} {ad : Nat → Nat} {N bk : Nat} {n : Nat} {rd0 : Nat} (hrd0 : fm_isRd N rd0) (hN : 193 ≤ N) (hb : fm_isBk N bk) (inj : ∀ i j, i < N → j < N → ad i = ad j → i = j) {M M' : fm_M} {l1 : Int32} {res : Int32 ⊕ Int32} (hf : fX10_due n bk rd0 M l1 = some (res, M')) : fm_CX l yX10_due (ws_ yX10_due cX10_due 3 (some .int)) rmX10_due (YC D dA N ad bk) [.ref (ad rd0), .int l1] M (fm_rI res) M' := by
  refine fm_enterX (by decide) rfl (fm_le rfl) inj ?_
  intro X hXl F E
  subst hXl
  unfold fX10_due at hf
  show fm_G X (YC D dA N ad bk) (0, 0) 3 M 0 [(0, .ref (ad rd0)), (1, .int l1)] []
  refine fm_iload_n (pc := 0) F dX10_due_0 1 rfl ?_
  refine fm_if_ne (tgt := 16) (pc := 1) F dX10_due_1 (by decide) (fun c1 => ?_) (fun c1 => ?_)
  · replace hf := fm_in c1 hf
    refine fm_aload_n (pc := 16) F dX10_due_16 0 rfl ?_
    refine fm_get (v := .int (M.1 rd0 3)) (pc := 17) F (ci := 10) (T := TX10) (n := 6) rfl in_X10 3 (fm_lt rfl) dX10_due_17 q362 rd0 (hrd0.lt 0 (fm_lt rfl)) (hrd0.mk0 (ad := ad) (dA := dA) (bk := bk) _ M.2) rfl ?_
    refine fm_istore_n (lv' := [(2, .int (M.1 rd0 3)), (0, .ref (ad rd0)), (1, .int l1)]) (pc := 20) F dX10_due_20 rfl (fm_lt rfl) rfl ?_
    refine fm_aload_n (pc := 21) F dX10_due_21 1 rfl ?_
    obtain ⟨M3, h4, hf⟩ := fm_bv_inv hf
    refine fm_callV (As := []) (rest := []) (pc := 22) F (ci := 10) rd0 (hrd0.lt 0 (fm_lt rfl)) (hrd0.mk0 (ad := ad) (dA := dA) (bk := bk) _ M.2) rfl (mX10_step hrd0 hN hb F.inj h4) q382 q384 qs1 q51 q385 ⟨rfl, rfl⟩ hdX10_step ⟨fm_le rfl, fm_le rfl, Nat.zero_le _, Nat.zero_le _⟩ rfl rfl (fm_le rfl) dX10_due_22 ?_
    refine fm_iload_n (pc := 25) F dX10_due_25 0 rfl ?_
    exact fm_iretX (pc := 26) F E hf dX10_due_26
  · replace hf := fm_ip c1 hf
    obtain ⟨rfl, rfl⟩ := Prod.mk.inj (Option.some.inj hf)
    exact fm_throwW (pc := 4) F E rd0 (hrd0.lt 0 (fm_lt rfl)) (hrd0.mk0 (ad := ad) (dA := dA) (bk := bk) _ M.2) rfl 0 rfl ⟨fm_le rfl, fm_le rfl, fm_le rfl, fm_le rfl⟩ dX10_due_4 dX10_due_7 dX10_due_8 dX10_due_9 dX10_due_12 dX10_due_15 (fm_le rfl) (fm_le rfl)
abbrev rmX10_number (c n : Nat) : Room := { frames := 8, cells := c, slots := n, locals := 242 }
def fX10_number_26 (n bk : Nat) (rd0 : Nat) (M : fm_M) (s0 : Int32) : Option ((Int32 ⊕ Int32) × fm_M) :=
  fm_bx (fX10_due n bk rd0 M s0) fun r1 M2 =>
  some (Sum.inl r1, M2)
def fX10_number_25 (n bk : Nat) (rd0 : Nat) (M : fm_M) : Option ((Int32 ⊕ Int32) × fm_M) :=
  fX10_number_26 n bk rd0 M 0
def fX10_number (n bk : Nat) (rd0 : Nat) (M : fm_M) (l1 : Int32) (l2 : Int32) : Option ((Int32 ⊕ Int32) × fm_M) :=
  if (M.1 rd0 2) = 3 then
    fm_bi (fX0_in n bk M (M.1 rd0 3) l1 l2) fun r2 M3 =>
    if r2 = 0 then
      fX10_number_25 n bk rd0 M3
    else
      fX10_number_26 n bk rd0 M3 1
  else
    fX10_number_25 n bk rd0 M
theorem hdX10_number : yX10_number.cls = RX10 ∧ yX10_number.cls ≠ "java/lang/invoke/MethodHandle" ∧ yX10_number.cls ≠ "java/lang/invoke/VarHandle" ∧ (parseMethodDescriptor yX10_number.desc).map (fun d => d.parameters.length) = some 2 := by decide +kernel
set_option maxHeartbeats 4000000 in
theorem wX10_number_26 {X : fm_X} {D : va_G} {dA : Nat → ClassId} {ad : Nat → Nat} {N bk : Nat} {n : Nat} {rd0 : Nat} (hrd0 : fm_isRd N rd0) (hN : 193 ≤ N) (hb : fm_isBk N bk) {res : Int32 ⊕ Int32} (F : fm_F X (YC D dA N ad bk) cX10_number 3 RX10 (rmX10_number (fm_xc (fm_rI res)) (fm_xn (fm_rI res)))) {M' : fm_M} (E : fm_EX X (YC D dA N ad bk) (fm_rI res) M' (some .int)) : ∀ (M : fm_M) (s0 : Int32), fX10_number_26 n bk rd0 M s0 = some (res, M') → fm_G X (YC D dA N ad bk) (0, 0) 3 M 26 [] [.int s0, .ref (ad rd0)] := by
  intro M s0 hf
  unfold fX10_number_26 at hf
  rcases (fm_bx_inv hf).symm with ⟨v4, h3, hv⟩ | ⟨r1, M2, h3, hf⟩
  · subst hv
    exact fm_callVT (As := [.int s0]) (rest := []) (pc := 26) F E (ci := 10) rd0 (hrd0.lt 0 (fm_lt rfl)) (hrd0.mk0 (ad := ad) (dA := dA) (bk := bk) _ M.2) rfl (mX10_due hrd0 hN hb F.inj h3) q481 q483 qs4 q51 q484 ⟨rfl, rfl⟩ hdX10_due ⟨fm_le rfl, fm_le rfl, fm_le rfl, fm_le rfl⟩ rfl rfl (fm_le rfl) dX10_number_26
  refine fm_callV (As := [.int s0]) (rest := []) (pc := 26) F (ci := 10) rd0 (hrd0.lt 0 (fm_lt rfl)) (hrd0.mk0 (ad := ad) (dA := dA) (bk := bk) _ M.2) rfl (mX10_due hrd0 hN hb F.inj h3) q481 q483 qs4 q51 q484 ⟨rfl, rfl⟩ hdX10_due ⟨fm_le rfl, fm_le rfl, Nat.zero_le _, Nat.zero_le _⟩ rfl rfl (fm_le rfl) dX10_number_26 ?_
  exact fm_iretX (pc := 29) F E hf dX10_number_29
set_option maxHeartbeats 4000000 in
theorem wX10_number_25 {X : fm_X} {D : va_G} {dA : Nat → ClassId} {ad : Nat → Nat} {N bk : Nat} {n : Nat} {rd0 : Nat} (hrd0 : fm_isRd N rd0) (hN : 193 ≤ N) (hb : fm_isBk N bk) {res : Int32 ⊕ Int32} (F : fm_F X (YC D dA N ad bk) cX10_number 3 RX10 (rmX10_number (fm_xc (fm_rI res)) (fm_xn (fm_rI res)))) {M' : fm_M} (E : fm_EX X (YC D dA N ad bk) (fm_rI res) M' (some .int)) : ∀ (M : fm_M), fX10_number_25 n bk rd0 M = some (res, M') → fm_G X (YC D dA N ad bk) (0, 0) 3 M 25 [] [.ref (ad rd0)] := by
  intro M hf
  unfold fX10_number_25 at hf
  refine fm_iconst (v := 0) (pc := 25) F dX10_number_25 (by decide) ?_
  exact wX10_number_26 hrd0 hN hb F E _ _ hf
set_option maxHeartbeats 4000000 in
theorem mX10_number {l : Launch} {D : va_G} {dA : Nat → ClassId} {ad : Nat → Nat} {N bk : Nat} {n : Nat} {rd0 : Nat} (hrd0 : fm_isRd N rd0) (hN : 193 ≤ N) (hb : fm_isBk N bk) (inj : ∀ i j, i < N → j < N → ad i = ad j → i = j) {M M' : fm_M} {l1 : Int32} {l2 : Int32} {res : Int32 ⊕ Int32} (hf : fX10_number n bk rd0 M l1 l2 = some (res, M')) : fm_CX l yX10_number (ws_ yX10_number cX10_number 3 (some .int)) rmX10_number (YC D dA N ad bk) [.ref (ad rd0), .int l1, .int l2] M (fm_rI res) M' := by
  refine fm_enterX (by decide) rfl (fm_le rfl) inj ?_
  intro X hXl F E
  subst hXl
  unfold fX10_number at hf
  show fm_G X (YC D dA N ad bk) (0, 0) 3 M 0 [(0, .ref (ad rd0)), (1, .int l1), (2, .int l2)] []
  refine fm_aload_n (pc := 0) F dX10_number_0 0 rfl ?_
  refine fm_aload_n (pc := 1) F dX10_number_1 0 rfl ?_
  refine fm_get (v := .int (M.1 rd0 2)) (pc := 2) F (ci := 10) (T := TX10) (n := 6) rfl in_X10 2 (fm_lt rfl) dX10_number_2 q361 rd0 (hrd0.lt 0 (fm_lt rfl)) (hrd0.mk0 (ad := ad) (dA := dA) (bk := bk) _ M.2) rfl ?_
  refine fm_iconst (v := 3) (pc := 5) F dX10_number_5 (by decide) ?_
  refine fm_icmp_ne (tgt := 25) (pc := 6) F dX10_number_6 (by decide) (fun c1 => ?_) (fun c1 => ?_)
  · replace hf := fm_in c1 hf
    refine fm_pick [] rfl ?_
    exact wX10_number_25 hrd0 hN hb F E _ hf
  · replace hf := fm_ip c1 hf
    refine fm_aload_n (pc := 9) F dX10_number_9 0 rfl ?_
    refine fm_get (v := .int (M.1 rd0 3)) (pc := 10) F (ci := 10) (T := TX10) (n := 6) rfl in_X10 3 (fm_lt rfl) dX10_number_10 q362 rd0 (hrd0.lt 0 (fm_lt rfl)) (hrd0.mk0 (ad := ad) (dA := dA) (bk := bk) _ M.2) rfl ?_
    refine fm_iload_n (pc := 13) F dX10_number_13 1 rfl ?_
    refine fm_iload_n (pc := 14) F dX10_number_14 2 rfl ?_
    obtain ⟨r2, M3, h4, hf⟩ := fm_bi_inv hf
    refine fm_callSN (As := [.int (M.1 rd0 3), .int l1, .int l2]) (rest := [.ref (ad rd0)]) (pc := 15) F (mX0_in hN hb F.inj h4) q390 q340 q39 q341 ⟨rfl, rfl⟩ hdX0_in.2 ⟨fm_le rfl, fm_le rfl, Nat.zero_le _, Nat.zero_le _⟩ rfl rfl (fm_le rfl) dX10_number_15 ?_
    refine fm_if_eq (tgt := 25) (pc := 18) F dX10_number_18 (by decide) (fun c6 => ?_) (fun c6 => ?_)
    · replace hf := fm_ip c6 hf
      refine fm_pick [] rfl ?_
      exact wX10_number_25 hrd0 hN hb F E _ hf
    · replace hf := fm_in c6 hf
      refine fm_iconst (v := 1) (pc := 21) F dX10_number_21 (by decide) ?_
      refine fm_goto (tgt := 26) (pc := 22) F dX10_number_22 (by decide) ?_
      refine fm_pick [] rfl ?_
      exact wX10_number_26 hrd0 hN hb F E _ _ hf
abbrev rmX10_town (c n : Nat) : Room := { frames := 9, cells := c, slots := n, locals := 264 }
def fX10_town (n bk : Nat) (rd0 : Nat) (M : fm_M) : Option ((Int32 ⊕ Int32) × fm_M) :=
  fm_bx (fX10_number n bk rd0 M 0 ((M.1 (rd0 + 1) 8) - 1)) fun r1 M2 =>
  some (Sum.inl r1, M2)
theorem hdX10_town : yX10_town.cls = RX10 ∧ yX10_town.cls ≠ "java/lang/invoke/MethodHandle" ∧ yX10_town.cls ≠ "java/lang/invoke/VarHandle" ∧ (parseMethodDescriptor yX10_town.desc).map (fun d => d.parameters.length) = some 0 := by decide +kernel
set_option maxHeartbeats 4000000 in
theorem mX10_town {l : Launch} {D : va_G} {dA : Nat → ClassId} {ad : Nat → Nat} {N bk : Nat} {n : Nat} {rd0 : Nat} (hrd0 : fm_isRd N rd0) (hN : 193 ≤ N) (hb : fm_isBk N bk) (inj : ∀ i j, i < N → j < N → ad i = ad j → i = j) {M M' : fm_M} {res : Int32 ⊕ Int32} (hf : fX10_town n bk rd0 M = some (res, M')) : fm_CX l yX10_town (ws_ yX10_town cX10_town 1 (some .int)) rmX10_town (YC D dA N ad bk) [.ref (ad rd0)] M (fm_rI res) M' := by
  refine fm_enterX (by decide) rfl (fm_le rfl) inj ?_
  intro X hXl F E
  subst hXl
  unfold fX10_town at hf
  show fm_G X (YC D dA N ad bk) (0, 0) 1 M 0 [(0, .ref (ad rd0))] []
  refine fm_aload_n (pc := 0) F dX10_town_0 0 rfl ?_
  refine fm_iconst (v := 0) (pc := 1) F dX10_town_1 (by decide) ?_
  refine fm_aload_n (pc := 2) F dX10_town_2 0 rfl ?_
  refine fm_get (v := .ref (ad (rd0 + 1))) (pc := 3) F (ci := 10) (T := TX10) (n := 6) rfl in_X10 4 (fm_lt rfl) dX10_town_3 q363 rd0 (hrd0.lt 0 (fm_lt rfl)) (hrd0.mk0 (ad := ad) (dA := dA) (bk := bk) _ M.2) rfl ?_
  refine fm_getN (v := .int (M.1 (rd0 + 1) 8)) (pc := 6) F (ci := 1) (T := TX1) (n := 11) rfl in_X1 8 (fm_lt rfl) dX10_town_6 q110 (rd0 + 1) (hrd0.bk.lt 0 (fm_lt rfl)) (hrd0.bk.mk0 (ad := ad) (dA := dA) (bk := bk) _ M.2) rfl ?_
  refine fm_iconst (v := 1) (pc := 9) F dX10_town_9 (by decide) ?_
  refine fm_isub (pc := 10) F dX10_town_10 ?_
  rcases (fm_bx_inv hf).symm with ⟨v4, h3, hv⟩ | ⟨r1, M2, h3, hf⟩
  · subst hv
    exact fm_callVT (As := [.int 0, .int ((M.1 (rd0 + 1) 8) - 1)]) (rest := []) (pc := 11) F E (ci := 10) rd0 (hrd0.lt 0 (fm_lt rfl)) (hrd0.mk0 (ad := ad) (dA := dA) (bk := bk) _ M.2) rfl (mX10_number hrd0 hN hb F.inj h3) q557 q559 qs7 q51 q560 ⟨rfl, rfl⟩ hdX10_number ⟨fm_le rfl, fm_le rfl, fm_le rfl, fm_le rfl⟩ rfl rfl (fm_le rfl) dX10_town_11
  refine fm_callV (As := [.int 0, .int ((M.1 (rd0 + 1) 8) - 1)]) (rest := []) (pc := 11) F (ci := 10) rd0 (hrd0.lt 0 (fm_lt rfl)) (hrd0.mk0 (ad := ad) (dA := dA) (bk := bk) _ M.2) rfl (mX10_number hrd0 hN hb F.inj h3) q557 q559 qs7 q51 q560 ⟨rfl, rfl⟩ hdX10_number ⟨fm_le rfl, fm_le rfl, Nat.zero_le _, Nat.zero_le _⟩ rfl rfl (fm_le rfl) dX10_town_11 ?_
  exact fm_iretX (pc := 14) F E hf dX10_town_14
abbrev rmX10_item (c n : Nat) : Room := { frames := 10, cells := c, slots := n, locals := 284 }
def fX10_item_151 (n bk : Nat) (rd0 : Nat) (M : fm_M) (l2 : Int32) (s0 : Int32) : Option ((Unit ⊕ Int32) × fm_M) :=
  fm_bx (fX10_due n bk rd0 M s0) fun r1 M2 =>
  fm_b l2 6 <|
  fm_bx (fX10_number n bk rd0 M2 1 9) fun r6 M7 =>
  fm_b r1 6 <|
  fm_let (fm_wr M7 ((rd0 + 1) + 5 + l2.toNatClampNeg) r1.toNatClampNeg r6) fun M11 =>
  fm_b r1 6 <|
  fm_b l2 6 <|
  fm_b r1 6 <|
  fm_b l2 6 <|
  fm_let (fm_wr M11 ((rd0 + 1) + 5 + r1.toNatClampNeg) l2.toNatClampNeg (M11.1 ((rd0 + 1) + 5 + l2.toNatClampNeg) r1.toNatClampNeg)) fun M16 =>
  some (Sum.inl (), M16)
def fX10_item_150 (n bk : Nat) (rd0 : Nat) (M : fm_M) (l2 : Int32) : Option ((Unit ⊕ Int32) × fm_M) :=
  fX10_item_151 n bk rd0 M l2 0
def fX10_item (n bk : Nat) (rd0 : Nat) (M : fm_M) (l1 : Int32) : Option ((Unit ⊕ Int32) × fm_M) :=
  if l1 = 0 then
    fm_bx (fX10_number n bk rd0 M 1 99) fun r2 M3 =>
    fm_b (M.1 (rd0 + 1) 8) 6 <|
    fm_let (fm_wr M3 ((rd0 + 1) + 1) (M.1 (rd0 + 1) 8).toNatClampNeg r2) fun M7 =>
    fm_bx (fX10_number n bk rd0 M7 1 99) fun r8 M9 =>
    fm_b (M7.1 (rd0 + 1) 8) 6 <|
    fm_let (fm_wr M9 ((rd0 + 1) + 2) (M7.1 (rd0 + 1) 8).toNatClampNeg r8) fun M13 =>
    fm_bx (fX10_number n bk rd0 M13 0 6) fun r14 M15 =>
    fm_b (M13.1 (rd0 + 1) 8) 6 <|
    fm_let (fm_wr M15 ((rd0 + 1) + 3) (M13.1 (rd0 + 1) 8).toNatClampNeg r14) fun M19 =>
    fm_let (fm_wr M19 (rd0 + 1) 8 ((M19.1 (rd0 + 1) 8) + 1)) fun M20 =>
    some (Sum.inl (), M20)
  else if l1 = 1 then
    fm_bx (fX10_town n bk rd0 M) fun r22 M23 =>
    if (M23.1 rd0 2) = 3 then
      if (M23.1 (rd0 + 1) 8) ≤ (M23.1 rd0 3) then
        fX10_item_150 n bk rd0 M23 r22
      else
        if (M23.1 rd0 3) = r22 then
          fX10_item_150 n bk rd0 M23 r22
        else
          fX10_item_151 n bk rd0 M23 r22 1
    else
      fX10_item_150 n bk rd0 M23 r22
  else 
    fm_bx (fX10_town n bk rd0 M) fun r29 M30 =>
    fm_b (M.1 (rd0 + 1) 9) 6 <|
    fm_let (fm_wr M30 ((rd0 + 1) + 18) (M.1 (rd0 + 1) 9).toNatClampNeg r29) fun M34 =>
    fm_bx (fX10_town n bk rd0 M34) fun r35 M36 =>
    fm_b (M34.1 (rd0 + 1) 9) 6 <|
    fm_let (fm_wr M36 ((rd0 + 1) + 19) (M34.1 (rd0 + 1) 9).toNatClampNeg r35) fun M40 =>
    fm_bx (fX10_number n bk rd0 M40 0 60) fun r41 M42 =>
    fm_b (M40.1 (rd0 + 1) 9) 6 <|
    fm_let (fm_wr M42 ((rd0 + 1) + 20) (M40.1 (rd0 + 1) 9).toNatClampNeg r41) fun M46 =>
    fm_let (fm_wr M46 (rd0 + 1) 9 ((M46.1 (rd0 + 1) 9) + 1)) fun M47 =>
    some (Sum.inl (), M47)
theorem hdX10_item : yX10_item.cls = RX10 ∧ yX10_item.cls ≠ "java/lang/invoke/MethodHandle" ∧ yX10_item.cls ≠ "java/lang/invoke/VarHandle" ∧ (parseMethodDescriptor yX10_item.desc).map (fun d => d.parameters.length) = some 1 := by decide +kernel
set_option maxHeartbeats 4000000 in
theorem wX10_item_151 {X : fm_X} {D : va_G} {dA : Nat → ClassId} {ad : Nat → Nat} {N bk : Nat} {n : Nat} {rd0 : Nat} (hrd0 : fm_isRd N rd0) (hN : 193 ≤ N) (hb : fm_isBk N bk) {res : Unit ⊕ Int32} (F : fm_F X (YC D dA N ad bk) cX10_item 4 RX10 (rmX10_item (fm_xc (fm_rU res)) (fm_xn (fm_rU res)))) {M' : fm_M} (E : fm_EX X (YC D dA N ad bk) (fm_rU res) M' none) : ∀ (M : fm_M) (l2 : Int32) (s0 : Int32), fX10_item_151 n bk rd0 M l2 s0 = some (res, M') → fm_G X (YC D dA N ad bk) (0, 0) 4 M 151 [(0, .ref (ad rd0)), (2, .int l2)] [.int s0, .ref (ad rd0)] := by
  intro M l2 s0 hf
  unfold fX10_item_151 at hf
  rcases (fm_bx_inv hf).symm with ⟨v4, h3, hv⟩ | ⟨r1, M2, h3, hf⟩
  · subst hv
    exact fm_callVT (As := [.int s0]) (rest := []) (pc := 151) F E (ci := 10) rd0 (hrd0.lt 0 (fm_lt rfl)) (hrd0.mk0 (ad := ad) (dA := dA) (bk := bk) _ M.2) rfl (mX10_due hrd0 hN hb F.inj h3) q481 q483 qs4 q51 q484 ⟨rfl, rfl⟩ hdX10_due ⟨fm_le rfl, fm_le rfl, fm_le rfl, fm_le rfl⟩ rfl rfl (fm_le rfl) dX10_item_151
  refine fm_callV (As := [.int s0]) (rest := []) (pc := 151) F (ci := 10) rd0 (hrd0.lt 0 (fm_lt rfl)) (hrd0.mk0 (ad := ad) (dA := dA) (bk := bk) _ M.2) rfl (mX10_due hrd0 hN hb F.inj h3) q481 q483 qs4 q51 q484 ⟨rfl, rfl⟩ hdX10_due ⟨fm_le rfl, fm_le rfl, Nat.zero_le _, Nat.zero_le _⟩ rfl rfl (fm_le rfl) dX10_item_151 ?_
  refine fm_istore_n (lv' := [(3, .int r1), (0, .ref (ad rd0)), (2, .int l2)]) (pc := 154) F dX10_item_154 rfl (fm_lt rfl) rfl ?_
  refine fm_aload_n (pc := 155) F dX10_item_155 1 rfl ?_
  refine fm_get (v := .ref (ad (rd0 + 1))) (pc := 156) F (ci := 10) (T := TX10) (n := 6) rfl in_X10 4 (fm_lt rfl) dX10_item_156 q363 rd0 (hrd0.lt 0 (fm_lt rfl)) (hrd0.mk0 (ad := ad) (dA := dA) (bk := bk) _ M2.2) rfl ?_
  refine fm_getN (v := .ref (ad ((rd0 + 1) + 4))) (pc := 159) F (ci := 1) (T := TX1) (n := 11) rfl in_X1 3 (fm_lt rfl) dX10_item_159 q92 (rd0 + 1) (hrd0.bk.lt 0 (fm_lt rfl)) (hrd0.bk.mk0 (ad := ad) (dA := dA) (bk := bk) _ M2.2) rfl ?_
  refine fm_iload_n (pc := 162) F dX10_item_162 2 rfl ?_
  obtain ⟨b5, hf⟩ := fm_b_inv hf
  refine fm_aald (pc := 163) F dX10_item_163 ((rd0 + 1) + 4) (hrd0.bk.lt 4 (fm_lt rfl)) 5 (fun j => (rd0 + 1) + 5 + j) (hrd0.bk.mk4 (ad := ad) (dA := dA) (bk := bk) (M2.1 ((rd0 + 1) + 4)) M2.2) rfl rfl b5 ?_
  refine fm_iload_n (pc := 164) F dX10_item_164 0 rfl ?_
  refine fm_aload_n (pc := 165) F dX10_item_165 1 rfl ?_
  refine fm_iconst (v := 1) (pc := 166) F dX10_item_166 (by decide) ?_
  refine fm_bipush (v := 9) (pc := 167) F dX10_item_167 (by decide) ?_
  rcases (fm_bx_inv hf).symm with ⟨v9, h8, hv⟩ | ⟨r6, M7, h8, hf⟩
  · subst hv
    exact fm_callVT (As := [.int 1, .int 9]) (rest := [.int r1, .ref (ad ((rd0 + 1) + 5 + l2.toNatClampNeg))]) (pc := 169) F E (ci := 10) rd0 (hrd0.lt 0 (fm_lt rfl)) (hrd0.mk0 (ad := ad) (dA := dA) (bk := bk) _ M2.2) rfl (mX10_number hrd0 hN hb F.inj h8) q557 q559 qs7 q51 q560 ⟨rfl, rfl⟩ hdX10_number ⟨fm_le rfl, fm_le rfl, fm_le rfl, fm_le rfl⟩ rfl rfl (fm_le rfl) dX10_item_169
  refine fm_callV (As := [.int 1, .int 9]) (rest := [.int r1, .ref (ad ((rd0 + 1) + 5 + l2.toNatClampNeg))]) (pc := 169) F (ci := 10) rd0 (hrd0.lt 0 (fm_lt rfl)) (hrd0.mk0 (ad := ad) (dA := dA) (bk := bk) _ M2.2) rfl (mX10_number hrd0 hN hb F.inj h8) q557 q559 qs7 q51 q560 ⟨rfl, rfl⟩ hdX10_number ⟨fm_le rfl, fm_le rfl, Nat.zero_le _, Nat.zero_le _⟩ rfl rfl (fm_le rfl) dX10_item_169 ?_
  obtain ⟨b10, hf⟩ := fm_b_inv hf
  refine fm_iast (pc := 172) F dX10_item_172 ((rd0 + 1) + 5 + l2.toNatClampNeg) (hrd0.bk.ltr 5 (fm_le rfl) (fm_vlt b5)) (fun _ => hrd0.bk.mkr5 (ad := ad) (dA := dA) (bk := bk) (fm_vlt b5) _ M7.2) b10 ?_
  refine fm_nameM (fun M11 eM11 => ?_)
  replace hf := fm_let_inv eM11 hf
  refine fm_aload_n (pc := 173) F dX10_item_173 1 rfl ?_
  refine fm_get (v := .ref (ad (rd0 + 1))) (pc := 174) F (ci := 10) (T := TX10) (n := 6) rfl in_X10 4 (fm_lt rfl) dX10_item_174 q363 rd0 (hrd0.lt 0 (fm_lt rfl)) (hrd0.mk0 (ad := ad) (dA := dA) (bk := bk) _ M11.2) rfl ?_
  refine fm_getN (v := .ref (ad ((rd0 + 1) + 4))) (pc := 177) F (ci := 1) (T := TX1) (n := 11) rfl in_X1 3 (fm_lt rfl) dX10_item_177 q92 (rd0 + 1) (hrd0.bk.lt 0 (fm_lt rfl)) (hrd0.bk.mk0 (ad := ad) (dA := dA) (bk := bk) _ M11.2) rfl ?_
  refine fm_iload_n (pc := 180) F dX10_item_180 0 rfl ?_
  obtain ⟨b12, hf⟩ := fm_b_inv hf
  refine fm_aald (pc := 181) F dX10_item_181 ((rd0 + 1) + 4) (hrd0.bk.lt 4 (fm_lt rfl)) 5 (fun j => (rd0 + 1) + 5 + j) (hrd0.bk.mk4 (ad := ad) (dA := dA) (bk := bk) (M11.1 ((rd0 + 1) + 4)) M11.2) rfl rfl b12 ?_
  refine fm_iload_n (pc := 182) F dX10_item_182 2 rfl ?_
  refine fm_aload_n (pc := 183) F dX10_item_183 1 rfl ?_
  refine fm_get (v := .ref (ad (rd0 + 1))) (pc := 184) F (ci := 10) (T := TX10) (n := 6) rfl in_X10 4 (fm_lt rfl) dX10_item_184 q363 rd0 (hrd0.lt 0 (fm_lt rfl)) (hrd0.mk0 (ad := ad) (dA := dA) (bk := bk) _ M11.2) rfl ?_
  refine fm_getN (v := .ref (ad ((rd0 + 1) + 4))) (pc := 187) F (ci := 1) (T := TX1) (n := 11) rfl in_X1 3 (fm_lt rfl) dX10_item_187 q92 (rd0 + 1) (hrd0.bk.lt 0 (fm_lt rfl)) (hrd0.bk.mk0 (ad := ad) (dA := dA) (bk := bk) _ M11.2) rfl ?_
  refine fm_iload_n (pc := 190) F dX10_item_190 2 rfl ?_
  obtain ⟨b13, hf⟩ := fm_b_inv hf
  refine fm_aald (pc := 191) F dX10_item_191 ((rd0 + 1) + 4) (hrd0.bk.lt 4 (fm_lt rfl)) 5 (fun j => (rd0 + 1) + 5 + j) (hrd0.bk.mk4 (ad := ad) (dA := dA) (bk := bk) (M11.1 ((rd0 + 1) + 4)) M11.2) rfl rfl b13 ?_
  refine fm_iload_n (pc := 192) F dX10_item_192 0 rfl ?_
  obtain ⟨b14, hf⟩ := fm_b_inv hf
  refine fm_iald (pc := 193) F dX10_item_193 ((rd0 + 1) + 5 + l2.toNatClampNeg) (hrd0.bk.ltr 5 (fm_le rfl) (fm_vlt b13)) (hrd0.bk.mkr5 (ad := ad) (dA := dA) (bk := bk) (fm_vlt b13) _ M11.2) b14 ?_
  obtain ⟨b15, hf⟩ := fm_b_inv hf
  refine fm_iast (pc := 194) F dX10_item_194 ((rd0 + 1) + 5 + r1.toNatClampNeg) (hrd0.bk.ltr 5 (fm_le rfl) (fm_vlt b12)) (fun _ => hrd0.bk.mkr5 (ad := ad) (dA := dA) (bk := bk) (fm_vlt b12) _ M11.2) b15 ?_
  refine fm_nameM (fun M16 eM16 => ?_)
  replace hf := fm_let_inv eM16 hf
  refine fm_goto (tgt := 271) (pc := 195) F dX10_item_195 (by decide) ?_
  exact fm_vretX (pc := 271) F E hf dX10_item_271
set_option maxHeartbeats 4000000 in
theorem wX10_item_150 {X : fm_X} {D : va_G} {dA : Nat → ClassId} {ad : Nat → Nat} {N bk : Nat} {n : Nat} {rd0 : Nat} (hrd0 : fm_isRd N rd0) (hN : 193 ≤ N) (hb : fm_isBk N bk) {res : Unit ⊕ Int32} (F : fm_F X (YC D dA N ad bk) cX10_item 4 RX10 (rmX10_item (fm_xc (fm_rU res)) (fm_xn (fm_rU res)))) {M' : fm_M} (E : fm_EX X (YC D dA N ad bk) (fm_rU res) M' none) : ∀ (M : fm_M) (l2 : Int32), fX10_item_150 n bk rd0 M l2 = some (res, M') → fm_G X (YC D dA N ad bk) (0, 0) 4 M 150 [(0, .ref (ad rd0)), (2, .int l2)] [.ref (ad rd0)] := by
  intro M l2 hf
  unfold fX10_item_150 at hf
  refine fm_iconst (v := 0) (pc := 150) F dX10_item_150 (by decide) ?_
  exact wX10_item_151 hrd0 hN hb F E _ _ _ hf
set_option maxHeartbeats 4000000 in
theorem mX10_item {l : Launch} {D : va_G} {dA : Nat → ClassId} {ad : Nat → Nat} {N bk : Nat} {n : Nat} {rd0 : Nat} (hrd0 : fm_isRd N rd0) (hN : 193 ≤ N) (hb : fm_isBk N bk) (inj : ∀ i j, i < N → j < N → ad i = ad j → i = j) {M M' : fm_M} {l1 : Int32} {res : Unit ⊕ Int32} (hf : fX10_item n bk rd0 M l1 = some (res, M')) : fm_CX l yX10_item (ws_ yX10_item cX10_item 4 none) rmX10_item (YC D dA N ad bk) [.ref (ad rd0), .int l1] M (fm_rU res) M' := by
  refine fm_enterX (by decide) rfl (fm_le rfl) inj ?_
  intro X hXl F E
  subst hXl
  unfold fX10_item at hf
  show fm_G X (YC D dA N ad bk) (0, 0) 4 M 0 [(0, .ref (ad rd0)), (1, .int l1)] []
  refine fm_iload_n (pc := 0) F dX10_item_0 1 rfl ?_
  rcases Decidable.em (l1 = 0) with c1 | c1
  · replace hf := fm_ip c1 hf
    refine fm_look (off := 27) (tgt := 28) (pc := 1) F dX10_item_1 (by decide) (by rw [c1]; rfl) (by decide) ?_
    refine fm_aload_n (pc := 28) F dX10_item_28 0 rfl ?_
    refine fm_get (v := .ref (ad (rd0 + 1))) (pc := 29) F (ci := 10) (T := TX10) (n := 6) rfl in_X10 4 (fm_lt rfl) dX10_item_29 q363 rd0 (hrd0.lt 0 (fm_lt rfl)) (hrd0.mk0 (ad := ad) (dA := dA) (bk := bk) _ M.2) rfl ?_
    refine fm_getN (v := .ref (ad ((rd0 + 1) + 1))) (pc := 32) F (ci := 1) (T := TX1) (n := 11) rfl in_X1 0 (fm_lt rfl) dX10_item_32 q80 (rd0 + 1) (hrd0.bk.lt 0 (fm_lt rfl)) (hrd0.bk.mk0 (ad := ad) (dA := dA) (bk := bk) _ M.2) rfl ?_
    refine fm_aload_n (pc := 35) F dX10_item_35 0 rfl ?_
    refine fm_get (v := .ref (ad (rd0 + 1))) (pc := 36) F (ci := 10) (T := TX10) (n := 6) rfl in_X10 4 (fm_lt rfl) dX10_item_36 q363 rd0 (hrd0.lt 0 (fm_lt rfl)) (hrd0.mk0 (ad := ad) (dA := dA) (bk := bk) _ M.2) rfl ?_
    refine fm_getN (v := .int (M.1 (rd0 + 1) 8)) (pc := 39) F (ci := 1) (T := TX1) (n := 11) rfl in_X1 8 (fm_lt rfl) dX10_item_39 q110 (rd0 + 1) (hrd0.bk.lt 0 (fm_lt rfl)) (hrd0.bk.mk0 (ad := ad) (dA := dA) (bk := bk) _ M.2) rfl ?_
    refine fm_aload_n (pc := 42) F dX10_item_42 0 rfl ?_
    refine fm_iconst (v := 1) (pc := 43) F dX10_item_43 (by decide) ?_
    refine fm_bipush (v := 99) (pc := 44) F dX10_item_44 (by decide) ?_
    rcases (fm_bx_inv hf).symm with ⟨v5, h4, hv⟩ | ⟨r2, M3, h4, hf⟩
    · subst hv
      exact fm_callVT (As := [.int 1, .int 99]) (rest := [.int (M.1 (rd0 + 1) 8), .ref (ad ((rd0 + 1) + 1))]) (pc := 46) F E (ci := 10) rd0 (hrd0.lt 0 (fm_lt rfl)) (hrd0.mk0 (ad := ad) (dA := dA) (bk := bk) _ M.2) rfl (mX10_number hrd0 hN hb F.inj h4) q557 q559 qs7 q51 q560 ⟨rfl, rfl⟩ hdX10_number ⟨fm_le rfl, fm_le rfl, fm_le rfl, fm_le rfl⟩ rfl rfl (fm_le rfl) dX10_item_46
    refine fm_callV (As := [.int 1, .int 99]) (rest := [.int (M.1 (rd0 + 1) 8), .ref (ad ((rd0 + 1) + 1))]) (pc := 46) F (ci := 10) rd0 (hrd0.lt 0 (fm_lt rfl)) (hrd0.mk0 (ad := ad) (dA := dA) (bk := bk) _ M.2) rfl (mX10_number hrd0 hN hb F.inj h4) q557 q559 qs7 q51 q560 ⟨rfl, rfl⟩ hdX10_number ⟨fm_le rfl, fm_le rfl, Nat.zero_le _, Nat.zero_le _⟩ rfl rfl (fm_le rfl) dX10_item_46 ?_
    obtain ⟨b6, hf⟩ := fm_b_inv hf
    refine fm_iast (pc := 49) F dX10_item_49 ((rd0 + 1) + 1) (hrd0.bk.lt 1 (fm_lt rfl)) (fun _ => hrd0.bk.mk1 (ad := ad) (dA := dA) (bk := bk) _ M3.2) b6 ?_
    refine fm_nameM (fun M7 eM7 => ?_)
    replace hf := fm_let_inv eM7 hf
    refine fm_aload_n (pc := 50) F dX10_item_50 0 rfl ?_
    refine fm_get (v := .ref (ad (rd0 + 1))) (pc := 51) F (ci := 10) (T := TX10) (n := 6) rfl in_X10 4 (fm_lt rfl) dX10_item_51 q363 rd0 (hrd0.lt 0 (fm_lt rfl)) (hrd0.mk0 (ad := ad) (dA := dA) (bk := bk) _ M7.2) rfl ?_
    refine fm_getN (v := .ref (ad ((rd0 + 1) + 2))) (pc := 54) F (ci := 1) (T := TX1) (n := 11) rfl in_X1 1 (fm_lt rfl) dX10_item_54 q84 (rd0 + 1) (hrd0.bk.lt 0 (fm_lt rfl)) (hrd0.bk.mk0 (ad := ad) (dA := dA) (bk := bk) _ M7.2) rfl ?_
    refine fm_aload_n (pc := 57) F dX10_item_57 0 rfl ?_
    refine fm_get (v := .ref (ad (rd0 + 1))) (pc := 58) F (ci := 10) (T := TX10) (n := 6) rfl in_X10 4 (fm_lt rfl) dX10_item_58 q363 rd0 (hrd0.lt 0 (fm_lt rfl)) (hrd0.mk0 (ad := ad) (dA := dA) (bk := bk) _ M7.2) rfl ?_
    refine fm_getN (v := .int (M7.1 (rd0 + 1) 8)) (pc := 61) F (ci := 1) (T := TX1) (n := 11) rfl in_X1 8 (fm_lt rfl) dX10_item_61 q110 (rd0 + 1) (hrd0.bk.lt 0 (fm_lt rfl)) (hrd0.bk.mk0 (ad := ad) (dA := dA) (bk := bk) _ M7.2) rfl ?_
    refine fm_aload_n (pc := 64) F dX10_item_64 0 rfl ?_
    refine fm_iconst (v := 1) (pc := 65) F dX10_item_65 (by decide) ?_
    refine fm_bipush (v := 99) (pc := 66) F dX10_item_66 (by decide) ?_
    rcases (fm_bx_inv hf).symm with ⟨v11, h10, hv⟩ | ⟨r8, M9, h10, hf⟩
    · subst hv
      exact fm_callVT (As := [.int 1, .int 99]) (rest := [.int (M7.1 (rd0 + 1) 8), .ref (ad ((rd0 + 1) + 2))]) (pc := 68) F E (ci := 10) rd0 (hrd0.lt 0 (fm_lt rfl)) (hrd0.mk0 (ad := ad) (dA := dA) (bk := bk) _ M7.2) rfl (mX10_number hrd0 hN hb F.inj h10) q557 q559 qs7 q51 q560 ⟨rfl, rfl⟩ hdX10_number ⟨fm_le rfl, fm_le rfl, fm_le rfl, fm_le rfl⟩ rfl rfl (fm_le rfl) dX10_item_68
    refine fm_callV (As := [.int 1, .int 99]) (rest := [.int (M7.1 (rd0 + 1) 8), .ref (ad ((rd0 + 1) + 2))]) (pc := 68) F (ci := 10) rd0 (hrd0.lt 0 (fm_lt rfl)) (hrd0.mk0 (ad := ad) (dA := dA) (bk := bk) _ M7.2) rfl (mX10_number hrd0 hN hb F.inj h10) q557 q559 qs7 q51 q560 ⟨rfl, rfl⟩ hdX10_number ⟨fm_le rfl, fm_le rfl, Nat.zero_le _, Nat.zero_le _⟩ rfl rfl (fm_le rfl) dX10_item_68 ?_
    obtain ⟨b12, hf⟩ := fm_b_inv hf
    refine fm_iast (pc := 71) F dX10_item_71 ((rd0 + 1) + 2) (hrd0.bk.lt 2 (fm_lt rfl)) (fun _ => hrd0.bk.mk2 (ad := ad) (dA := dA) (bk := bk) _ M9.2) b12 ?_
    refine fm_nameM (fun M13 eM13 => ?_)
    replace hf := fm_let_inv eM13 hf
    refine fm_aload_n (pc := 72) F dX10_item_72 0 rfl ?_
    refine fm_get (v := .ref (ad (rd0 + 1))) (pc := 73) F (ci := 10) (T := TX10) (n := 6) rfl in_X10 4 (fm_lt rfl) dX10_item_73 q363 rd0 (hrd0.lt 0 (fm_lt rfl)) (hrd0.mk0 (ad := ad) (dA := dA) (bk := bk) _ M13.2) rfl ?_
    refine fm_getN (v := .ref (ad ((rd0 + 1) + 3))) (pc := 76) F (ci := 1) (T := TX1) (n := 11) rfl in_X1 2 (fm_lt rfl) dX10_item_76 q88 (rd0 + 1) (hrd0.bk.lt 0 (fm_lt rfl)) (hrd0.bk.mk0 (ad := ad) (dA := dA) (bk := bk) _ M13.2) rfl ?_
    refine fm_aload_n (pc := 79) F dX10_item_79 0 rfl ?_
    refine fm_get (v := .ref (ad (rd0 + 1))) (pc := 80) F (ci := 10) (T := TX10) (n := 6) rfl in_X10 4 (fm_lt rfl) dX10_item_80 q363 rd0 (hrd0.lt 0 (fm_lt rfl)) (hrd0.mk0 (ad := ad) (dA := dA) (bk := bk) _ M13.2) rfl ?_
    refine fm_getN (v := .int (M13.1 (rd0 + 1) 8)) (pc := 83) F (ci := 1) (T := TX1) (n := 11) rfl in_X1 8 (fm_lt rfl) dX10_item_83 q110 (rd0 + 1) (hrd0.bk.lt 0 (fm_lt rfl)) (hrd0.bk.mk0 (ad := ad) (dA := dA) (bk := bk) _ M13.2) rfl ?_
    refine fm_aload_n (pc := 86) F dX10_item_86 0 rfl ?_
    refine fm_iconst (v := 0) (pc := 87) F dX10_item_87 (by decide) ?_
    refine fm_bipush (v := 6) (pc := 88) F dX10_item_88 (by decide) ?_
    rcases (fm_bx_inv hf).symm with ⟨v17, h16, hv⟩ | ⟨r14, M15, h16, hf⟩
    · subst hv
      exact fm_callVT (As := [.int 0, .int 6]) (rest := [.int (M13.1 (rd0 + 1) 8), .ref (ad ((rd0 + 1) + 3))]) (pc := 90) F E (ci := 10) rd0 (hrd0.lt 0 (fm_lt rfl)) (hrd0.mk0 (ad := ad) (dA := dA) (bk := bk) _ M13.2) rfl (mX10_number hrd0 hN hb F.inj h16) q557 q559 qs7 q51 q560 ⟨rfl, rfl⟩ hdX10_number ⟨fm_le rfl, fm_le rfl, fm_le rfl, fm_le rfl⟩ rfl rfl (fm_le rfl) dX10_item_90
    refine fm_callV (As := [.int 0, .int 6]) (rest := [.int (M13.1 (rd0 + 1) 8), .ref (ad ((rd0 + 1) + 3))]) (pc := 90) F (ci := 10) rd0 (hrd0.lt 0 (fm_lt rfl)) (hrd0.mk0 (ad := ad) (dA := dA) (bk := bk) _ M13.2) rfl (mX10_number hrd0 hN hb F.inj h16) q557 q559 qs7 q51 q560 ⟨rfl, rfl⟩ hdX10_number ⟨fm_le rfl, fm_le rfl, Nat.zero_le _, Nat.zero_le _⟩ rfl rfl (fm_le rfl) dX10_item_90 ?_
    obtain ⟨b18, hf⟩ := fm_b_inv hf
    refine fm_iast (pc := 93) F dX10_item_93 ((rd0 + 1) + 3) (hrd0.bk.lt 3 (fm_lt rfl)) (fun _ => hrd0.bk.mk3 (ad := ad) (dA := dA) (bk := bk) _ M15.2) b18 ?_
    refine fm_nameM (fun M19 eM19 => ?_)
    replace hf := fm_let_inv eM19 hf
    refine fm_aload_n (pc := 94) F dX10_item_94 0 rfl ?_
    refine fm_get (v := .ref (ad (rd0 + 1))) (pc := 95) F (ci := 10) (T := TX10) (n := 6) rfl in_X10 4 (fm_lt rfl) dX10_item_95 q363 rd0 (hrd0.lt 0 (fm_lt rfl)) (hrd0.mk0 (ad := ad) (dA := dA) (bk := bk) _ M19.2) rfl ?_
    refine fm_dup (pc := 98) F dX10_item_98 rfl ?_
    refine fm_getN (v := .int (M19.1 (rd0 + 1) 8)) (pc := 99) F (ci := 1) (T := TX1) (n := 11) rfl in_X1 8 (fm_lt rfl) dX10_item_99 q110 (rd0 + 1) (hrd0.bk.lt 0 (fm_lt rfl)) (hrd0.bk.mk0 (ad := ad) (dA := dA) (bk := bk) _ M19.2) rfl ?_
    refine fm_iconst (v := 1) (pc := 102) F dX10_item_102 (by decide) ?_
    refine fm_iadd (pc := 103) F dX10_item_103 ?_
    refine fm_putNI (v := ((M19.1 (rd0 + 1) 8) + 1)) (pc := 104) F clX1 8 (fm_lt rfl) dX10_item_104 q110 rfl rfl (rd0 + 1) (hrd0.bk.lt 0 (fm_lt rfl)) (hrd0.bk.mk0 (ad := ad) (dA := dA) (bk := bk) _ M19.2) (fm_lt rfl) (hrd0.bk.mk0 (ad := ad) (dA := dA) (bk := bk) _ M19.2) ?_
    refine fm_nameM (fun M20 eM20 => ?_)
    replace hf := fm_let_inv eM20 hf
    refine fm_goto (tgt := 271) (pc := 107) F dX10_item_107 (by decide) ?_
    exact fm_vretX (pc := 271) F E hf dX10_item_271
  replace hf := fm_in c1 hf
  rcases Decidable.em (l1 = 1) with c21 | c21
  · replace hf := fm_ip c21 hf
    refine fm_look (off := 109) (tgt := 110) (pc := 1) F dX10_item_1 (by decide) (by rw [c21]; rfl) (by decide) ?_
    refine fm_aload_n (pc := 110) F dX10_item_110 0 rfl ?_
    rcases (fm_bx_inv hf).symm with ⟨v25, h24, hv⟩ | ⟨r22, M23, h24, hf⟩
    · subst hv
      exact fm_callVT (As := []) (rest := []) (pc := 111) F E (ci := 10) rd0 (hrd0.lt 0 (fm_lt rfl)) (hrd0.mk0 (ad := ad) (dA := dA) (bk := bk) _ M.2) rfl (mX10_town hrd0 hN hb F.inj h24) q561 q563 qs8 q51 q564 ⟨rfl, rfl⟩ hdX10_town ⟨fm_le rfl, fm_le rfl, fm_le rfl, fm_le rfl⟩ rfl rfl (fm_le rfl) dX10_item_111
    refine fm_callV (As := []) (rest := []) (pc := 111) F (ci := 10) rd0 (hrd0.lt 0 (fm_lt rfl)) (hrd0.mk0 (ad := ad) (dA := dA) (bk := bk) _ M.2) rfl (mX10_town hrd0 hN hb F.inj h24) q561 q563 qs8 q51 q564 ⟨rfl, rfl⟩ hdX10_town ⟨fm_le rfl, fm_le rfl, Nat.zero_le _, Nat.zero_le _⟩ rfl rfl (fm_le rfl) dX10_item_111 ?_
    refine fm_istore_n (lv' := [(2, .int r22), (0, .ref (ad rd0)), (1, .int l1)]) (pc := 114) F dX10_item_114 rfl (fm_lt rfl) rfl ?_
    refine fm_aload_n (pc := 115) F dX10_item_115 1 rfl ?_
    refine fm_aload_n (pc := 116) F dX10_item_116 1 rfl ?_
    refine fm_get (v := .int (M23.1 rd0 2)) (pc := 117) F (ci := 10) (T := TX10) (n := 6) rfl in_X10 2 (fm_lt rfl) dX10_item_117 q361 rd0 (hrd0.lt 0 (fm_lt rfl)) (hrd0.mk0 (ad := ad) (dA := dA) (bk := bk) _ M23.2) rfl ?_
    refine fm_iconst (v := 3) (pc := 120) F dX10_item_120 (by decide) ?_
    refine fm_icmp_ne (tgt := 150) (pc := 121) F dX10_item_121 (by decide) (fun c26 => ?_) (fun c26 => ?_)
    · replace hf := fm_in c26 hf
      refine fm_pick [1, 0] rfl ?_
      exact wX10_item_150 hrd0 hN hb F E _ _ hf
    · replace hf := fm_ip c26 hf
      refine fm_aload_n (pc := 124) F dX10_item_124 1 rfl ?_
      refine fm_get (v := .int (M23.1 rd0 3)) (pc := 125) F (ci := 10) (T := TX10) (n := 6) rfl in_X10 3 (fm_lt rfl) dX10_item_125 q362 rd0 (hrd0.lt 0 (fm_lt rfl)) (hrd0.mk0 (ad := ad) (dA := dA) (bk := bk) _ M23.2) rfl ?_
      refine fm_aload_n (pc := 128) F dX10_item_128 1 rfl ?_
      refine fm_get (v := .ref (ad (rd0 + 1))) (pc := 129) F (ci := 10) (T := TX10) (n := 6) rfl in_X10 4 (fm_lt rfl) dX10_item_129 q363 rd0 (hrd0.lt 0 (fm_lt rfl)) (hrd0.mk0 (ad := ad) (dA := dA) (bk := bk) _ M23.2) rfl ?_
      refine fm_getN (v := .int (M23.1 (rd0 + 1) 8)) (pc := 132) F (ci := 1) (T := TX1) (n := 11) rfl in_X1 8 (fm_lt rfl) dX10_item_132 q110 (rd0 + 1) (hrd0.bk.lt 0 (fm_lt rfl)) (hrd0.bk.mk0 (ad := ad) (dA := dA) (bk := bk) _ M23.2) rfl ?_
      refine fm_icmp_ge (tgt := 150) (pc := 135) F dX10_item_135 (by decide) (fun c27 => ?_) (fun c27 => ?_)
      · replace hf := fm_ip c27 hf
        refine fm_pick [1, 0] rfl ?_
        exact wX10_item_150 hrd0 hN hb F E _ _ hf
      · replace hf := fm_in c27 hf
        refine fm_aload_n (pc := 138) F dX10_item_138 1 rfl ?_
        refine fm_get (v := .int (M23.1 rd0 3)) (pc := 139) F (ci := 10) (T := TX10) (n := 6) rfl in_X10 3 (fm_lt rfl) dX10_item_139 q362 rd0 (hrd0.lt 0 (fm_lt rfl)) (hrd0.mk0 (ad := ad) (dA := dA) (bk := bk) _ M23.2) rfl ?_
        refine fm_iload_n (pc := 142) F dX10_item_142 0 rfl ?_
        refine fm_icmp_eq (tgt := 150) (pc := 143) F dX10_item_143 (by decide) (fun c28 => ?_) (fun c28 => ?_)
        · replace hf := fm_ip c28 hf
          refine fm_pick [1, 0] rfl ?_
          exact wX10_item_150 hrd0 hN hb F E _ _ hf
        · replace hf := fm_in c28 hf
          refine fm_iconst (v := 1) (pc := 146) F dX10_item_146 (by decide) ?_
          refine fm_goto (tgt := 151) (pc := 147) F dX10_item_147 (by decide) ?_
          refine fm_pick [1, 0] rfl ?_
          exact wX10_item_151 hrd0 hN hb F E _ _ _ hf
  replace hf := fm_in c21 hf
  refine fm_look (off := 197) (tgt := 198) (pc := 1) F dX10_item_1 (by decide) (by show Op.lookupswitch.offset [(0, 27), (1, 109)] _ _ = _; rw [lv_osw (a := 0) (k := 0) c1 rfl, lv_osw (a := 1) (k := 1) c21 rfl]; rfl) (by decide) ?_
  refine fm_aload_n (pc := 198) F dX10_item_198 0 rfl ?_
  refine fm_get (v := .ref (ad (rd0 + 1))) (pc := 199) F (ci := 10) (T := TX10) (n := 6) rfl in_X10 4 (fm_lt rfl) dX10_item_199 q363 rd0 (hrd0.lt 0 (fm_lt rfl)) (hrd0.mk0 (ad := ad) (dA := dA) (bk := bk) _ M.2) rfl ?_
  refine fm_getN (v := .ref (ad ((rd0 + 1) + 18))) (pc := 202) F (ci := 1) (T := TX1) (n := 11) rfl in_X1 5 (fm_lt rfl) dX10_item_202 q98 (rd0 + 1) (hrd0.bk.lt 0 (fm_lt rfl)) (hrd0.bk.mk0 (ad := ad) (dA := dA) (bk := bk) _ M.2) rfl ?_
  refine fm_aload_n (pc := 205) F dX10_item_205 0 rfl ?_
  refine fm_get (v := .ref (ad (rd0 + 1))) (pc := 206) F (ci := 10) (T := TX10) (n := 6) rfl in_X10 4 (fm_lt rfl) dX10_item_206 q363 rd0 (hrd0.lt 0 (fm_lt rfl)) (hrd0.mk0 (ad := ad) (dA := dA) (bk := bk) _ M.2) rfl ?_
  refine fm_getN (v := .int (M.1 (rd0 + 1) 9)) (pc := 209) F (ci := 1) (T := TX1) (n := 11) rfl in_X1 9 (fm_lt rfl) dX10_item_209 q112 (rd0 + 1) (hrd0.bk.lt 0 (fm_lt rfl)) (hrd0.bk.mk0 (ad := ad) (dA := dA) (bk := bk) _ M.2) rfl ?_
  refine fm_aload_n (pc := 212) F dX10_item_212 0 rfl ?_
  rcases (fm_bx_inv hf).symm with ⟨v32, h31, hv⟩ | ⟨r29, M30, h31, hf⟩
  · subst hv
    exact fm_callVT (As := []) (rest := [.int (M.1 (rd0 + 1) 9), .ref (ad ((rd0 + 1) + 18))]) (pc := 213) F E (ci := 10) rd0 (hrd0.lt 0 (fm_lt rfl)) (hrd0.mk0 (ad := ad) (dA := dA) (bk := bk) _ M.2) rfl (mX10_town hrd0 hN hb F.inj h31) q561 q563 qs8 q51 q564 ⟨rfl, rfl⟩ hdX10_town ⟨fm_le rfl, fm_le rfl, fm_le rfl, fm_le rfl⟩ rfl rfl (fm_le rfl) dX10_item_213
  refine fm_callV (As := []) (rest := [.int (M.1 (rd0 + 1) 9), .ref (ad ((rd0 + 1) + 18))]) (pc := 213) F (ci := 10) rd0 (hrd0.lt 0 (fm_lt rfl)) (hrd0.mk0 (ad := ad) (dA := dA) (bk := bk) _ M.2) rfl (mX10_town hrd0 hN hb F.inj h31) q561 q563 qs8 q51 q564 ⟨rfl, rfl⟩ hdX10_town ⟨fm_le rfl, fm_le rfl, Nat.zero_le _, Nat.zero_le _⟩ rfl rfl (fm_le rfl) dX10_item_213 ?_
  obtain ⟨b33, hf⟩ := fm_b_inv hf
  refine fm_iast (pc := 216) F dX10_item_216 ((rd0 + 1) + 18) (hrd0.bk.lt 18 (fm_lt rfl)) (fun _ => hrd0.bk.mk18 (ad := ad) (dA := dA) (bk := bk) _ M30.2) b33 ?_
  refine fm_nameM (fun M34 eM34 => ?_)
  replace hf := fm_let_inv eM34 hf
  refine fm_aload_n (pc := 217) F dX10_item_217 0 rfl ?_
  refine fm_get (v := .ref (ad (rd0 + 1))) (pc := 218) F (ci := 10) (T := TX10) (n := 6) rfl in_X10 4 (fm_lt rfl) dX10_item_218 q363 rd0 (hrd0.lt 0 (fm_lt rfl)) (hrd0.mk0 (ad := ad) (dA := dA) (bk := bk) _ M34.2) rfl ?_
  refine fm_getN (v := .ref (ad ((rd0 + 1) + 19))) (pc := 221) F (ci := 1) (T := TX1) (n := 11) rfl in_X1 6 (fm_lt rfl) dX10_item_221 q102 (rd0 + 1) (hrd0.bk.lt 0 (fm_lt rfl)) (hrd0.bk.mk0 (ad := ad) (dA := dA) (bk := bk) _ M34.2) rfl ?_
  refine fm_aload_n (pc := 224) F dX10_item_224 0 rfl ?_
  refine fm_get (v := .ref (ad (rd0 + 1))) (pc := 225) F (ci := 10) (T := TX10) (n := 6) rfl in_X10 4 (fm_lt rfl) dX10_item_225 q363 rd0 (hrd0.lt 0 (fm_lt rfl)) (hrd0.mk0 (ad := ad) (dA := dA) (bk := bk) _ M34.2) rfl ?_
  refine fm_getN (v := .int (M34.1 (rd0 + 1) 9)) (pc := 228) F (ci := 1) (T := TX1) (n := 11) rfl in_X1 9 (fm_lt rfl) dX10_item_228 q112 (rd0 + 1) (hrd0.bk.lt 0 (fm_lt rfl)) (hrd0.bk.mk0 (ad := ad) (dA := dA) (bk := bk) _ M34.2) rfl ?_
  refine fm_aload_n (pc := 231) F dX10_item_231 0 rfl ?_
  rcases (fm_bx_inv hf).symm with ⟨v38, h37, hv⟩ | ⟨r35, M36, h37, hf⟩
  · subst hv
    exact fm_callVT (As := []) (rest := [.int (M34.1 (rd0 + 1) 9), .ref (ad ((rd0 + 1) + 19))]) (pc := 232) F E (ci := 10) rd0 (hrd0.lt 0 (fm_lt rfl)) (hrd0.mk0 (ad := ad) (dA := dA) (bk := bk) _ M34.2) rfl (mX10_town hrd0 hN hb F.inj h37) q561 q563 qs8 q51 q564 ⟨rfl, rfl⟩ hdX10_town ⟨fm_le rfl, fm_le rfl, fm_le rfl, fm_le rfl⟩ rfl rfl (fm_le rfl) dX10_item_232
  refine fm_callV (As := []) (rest := [.int (M34.1 (rd0 + 1) 9), .ref (ad ((rd0 + 1) + 19))]) (pc := 232) F (ci := 10) rd0 (hrd0.lt 0 (fm_lt rfl)) (hrd0.mk0 (ad := ad) (dA := dA) (bk := bk) _ M34.2) rfl (mX10_town hrd0 hN hb F.inj h37) q561 q563 qs8 q51 q564 ⟨rfl, rfl⟩ hdX10_town ⟨fm_le rfl, fm_le rfl, Nat.zero_le _, Nat.zero_le _⟩ rfl rfl (fm_le rfl) dX10_item_232 ?_
  obtain ⟨b39, hf⟩ := fm_b_inv hf
  refine fm_iast (pc := 235) F dX10_item_235 ((rd0 + 1) + 19) (hrd0.bk.lt 19 (fm_lt rfl)) (fun _ => hrd0.bk.mk19 (ad := ad) (dA := dA) (bk := bk) _ M36.2) b39 ?_
  refine fm_nameM (fun M40 eM40 => ?_)
  replace hf := fm_let_inv eM40 hf
  refine fm_aload_n (pc := 236) F dX10_item_236 0 rfl ?_
  refine fm_get (v := .ref (ad (rd0 + 1))) (pc := 237) F (ci := 10) (T := TX10) (n := 6) rfl in_X10 4 (fm_lt rfl) dX10_item_237 q363 rd0 (hrd0.lt 0 (fm_lt rfl)) (hrd0.mk0 (ad := ad) (dA := dA) (bk := bk) _ M40.2) rfl ?_
  refine fm_getN (v := .ref (ad ((rd0 + 1) + 20))) (pc := 240) F (ci := 1) (T := TX1) (n := 11) rfl in_X1 7 (fm_lt rfl) dX10_item_240 q106 (rd0 + 1) (hrd0.bk.lt 0 (fm_lt rfl)) (hrd0.bk.mk0 (ad := ad) (dA := dA) (bk := bk) _ M40.2) rfl ?_
  refine fm_aload_n (pc := 243) F dX10_item_243 0 rfl ?_
  refine fm_get (v := .ref (ad (rd0 + 1))) (pc := 244) F (ci := 10) (T := TX10) (n := 6) rfl in_X10 4 (fm_lt rfl) dX10_item_244 q363 rd0 (hrd0.lt 0 (fm_lt rfl)) (hrd0.mk0 (ad := ad) (dA := dA) (bk := bk) _ M40.2) rfl ?_
  refine fm_getN (v := .int (M40.1 (rd0 + 1) 9)) (pc := 247) F (ci := 1) (T := TX1) (n := 11) rfl in_X1 9 (fm_lt rfl) dX10_item_247 q112 (rd0 + 1) (hrd0.bk.lt 0 (fm_lt rfl)) (hrd0.bk.mk0 (ad := ad) (dA := dA) (bk := bk) _ M40.2) rfl ?_
  refine fm_aload_n (pc := 250) F dX10_item_250 0 rfl ?_
  refine fm_iconst (v := 0) (pc := 251) F dX10_item_251 (by decide) ?_
  refine fm_bipush (v := 60) (pc := 252) F dX10_item_252 (by decide) ?_
  rcases (fm_bx_inv hf).symm with ⟨v44, h43, hv⟩ | ⟨r41, M42, h43, hf⟩
  · subst hv
    exact fm_callVT (As := [.int 0, .int 60]) (rest := [.int (M40.1 (rd0 + 1) 9), .ref (ad ((rd0 + 1) + 20))]) (pc := 254) F E (ci := 10) rd0 (hrd0.lt 0 (fm_lt rfl)) (hrd0.mk0 (ad := ad) (dA := dA) (bk := bk) _ M40.2) rfl (mX10_number hrd0 hN hb F.inj h43) q557 q559 qs7 q51 q560 ⟨rfl, rfl⟩ hdX10_number ⟨fm_le rfl, fm_le rfl, fm_le rfl, fm_le rfl⟩ rfl rfl (fm_le rfl) dX10_item_254
  refine fm_callV (As := [.int 0, .int 60]) (rest := [.int (M40.1 (rd0 + 1) 9), .ref (ad ((rd0 + 1) + 20))]) (pc := 254) F (ci := 10) rd0 (hrd0.lt 0 (fm_lt rfl)) (hrd0.mk0 (ad := ad) (dA := dA) (bk := bk) _ M40.2) rfl (mX10_number hrd0 hN hb F.inj h43) q557 q559 qs7 q51 q560 ⟨rfl, rfl⟩ hdX10_number ⟨fm_le rfl, fm_le rfl, Nat.zero_le _, Nat.zero_le _⟩ rfl rfl (fm_le rfl) dX10_item_254 ?_
  obtain ⟨b45, hf⟩ := fm_b_inv hf
  refine fm_iast (pc := 257) F dX10_item_257 ((rd0 + 1) + 20) (hrd0.bk.lt 20 (fm_lt rfl)) (fun _ => hrd0.bk.mk20 (ad := ad) (dA := dA) (bk := bk) _ M42.2) b45 ?_
  refine fm_nameM (fun M46 eM46 => ?_)
  replace hf := fm_let_inv eM46 hf
  refine fm_aload_n (pc := 258) F dX10_item_258 0 rfl ?_
  refine fm_get (v := .ref (ad (rd0 + 1))) (pc := 259) F (ci := 10) (T := TX10) (n := 6) rfl in_X10 4 (fm_lt rfl) dX10_item_259 q363 rd0 (hrd0.lt 0 (fm_lt rfl)) (hrd0.mk0 (ad := ad) (dA := dA) (bk := bk) _ M46.2) rfl ?_
  refine fm_dup (pc := 262) F dX10_item_262 rfl ?_
  refine fm_getN (v := .int (M46.1 (rd0 + 1) 9)) (pc := 263) F (ci := 1) (T := TX1) (n := 11) rfl in_X1 9 (fm_lt rfl) dX10_item_263 q112 (rd0 + 1) (hrd0.bk.lt 0 (fm_lt rfl)) (hrd0.bk.mk0 (ad := ad) (dA := dA) (bk := bk) _ M46.2) rfl ?_
  refine fm_iconst (v := 1) (pc := 266) F dX10_item_266 (by decide) ?_
  refine fm_iadd (pc := 267) F dX10_item_267 ?_
  refine fm_putNI (v := ((M46.1 (rd0 + 1) 9) + 1)) (pc := 268) F clX1 9 (fm_lt rfl) dX10_item_268 q112 rfl rfl (rd0 + 1) (hrd0.bk.lt 0 (fm_lt rfl)) (hrd0.bk.mk0 (ad := ad) (dA := dA) (bk := bk) _ M46.2) (fm_lt rfl) (hrd0.bk.mk0 (ad := ad) (dA := dA) (bk := bk) _ M46.2) ?_
  refine fm_nameM (fun M47 eM47 => ?_)
  replace hf := fm_let_inv eM47 hf
  exact fm_vretX (pc := 271) F E hf dX10_item_271
abbrev rmX10_read (c n : Nat) : Room := { frames := 11, cells := c, slots := n, locals := 307 }
def fX10_read_46 (n bk : Nat) (rd0 : Nat) (k4 : fm_M → Option ((Unit ⊕ Int32) × fm_M)) (M : fm_M) (s0 : Int32) : Option ((Unit ⊕ Int32) × fm_M) :=
  fm_bx (fX10_due n bk rd0 M s0) fun r1 M2 =>
  fm_let (fm_wr M2 (rd0 + 1) 10 ((M2.1 (rd0 + 1) 10) + 1)) fun M5 =>
  k4 M5
def fX10_read_4 (n bk : Nat) (rd0 : Nat) : Nat → fm_M → Option ((Unit ⊕ Int32) × fm_M)
  | 0, _ => none
  | k + 1, M =>
    if (M.1 rd0 2) = 5 then
      fm_bv (fX1_measure n bk (rd0 + 1) M) fun M3 =>
      some (Sum.inl (), M3)
    else
      fm_bi (fX10_may n bk rd0 M (M.1 rd0 2)) fun r6 M7 =>
      fm_bx (fX10_due n bk rd0 M7 r6) fun r10 M11 =>
      fm_bx (fX10_item n bk rd0 M11 (M.1 rd0 2)) fun r14 M15 =>
      if (M15.1 rd0 2) = 4 then
        fX10_read_46 n bk rd0 (fX10_read_4 n bk rd0 k) M15 1
      else
        fX10_read_46 n bk rd0 (fX10_read_4 n bk rd0 k) M15 0
def fX10_read (n bk : Nat) (rd0 : Nat) (M : fm_M) : Option ((Unit ⊕ Int32) × fm_M) :=
  fm_bv (fX10_step n bk rd0 M) fun M2 =>
  fX10_read_4 n bk rd0 n M2
theorem hdX10_read : yX10_read.cls = RX10 ∧ yX10_read.cls ≠ "java/lang/invoke/MethodHandle" ∧ yX10_read.cls ≠ "java/lang/invoke/VarHandle" ∧ (parseMethodDescriptor yX10_read.desc).map (fun d => d.parameters.length) = some 0 := by decide +kernel
set_option maxHeartbeats 4000000 in
theorem wX10_read_46 {X : fm_X} {D : va_G} {dA : Nat → ClassId} {ad : Nat → Nat} {N bk : Nat} {n : Nat} {rd0 : Nat} (hrd0 : fm_isRd N rd0) (hN : 193 ≤ N) (hb : fm_isBk N bk) {res : Unit ⊕ Int32} (F : fm_F X (YC D dA N ad bk) cX10_read 2 RX10 (rmX10_read (fm_xc (fm_rR (ad (rd0 + 1)) res)) (fm_xn (fm_rR (ad (rd0 + 1)) res)))) {M' : fm_M} (E : fm_EX X (YC D dA N ad bk) (fm_rR (ad (rd0 + 1)) res) M' (some (.object "BellLots$Book"))) {k4 : fm_M → Option ((Unit ⊕ Int32) × fm_M)} (hk4 : ∀ (M : fm_M), k4 M = some (res, M') → fm_G X (YC D dA N ad bk) (0, 0) 2 M 4 [(0, .ref (ad rd0))] []) : ∀ (M : fm_M) (s0 : Int32), fX10_read_46 n bk rd0 k4 M s0 = some (res, M') → fm_G X (YC D dA N ad bk) (0, 0) 2 M 46 [(0, .ref (ad rd0))] [.int s0, .ref (ad rd0)] := by
  intro M s0 hf
  unfold fX10_read_46 at hf
  rcases (fm_bx_inv hf).symm with ⟨v4, h3, hv⟩ | ⟨r1, M2, h3, hf⟩
  · subst hv
    exact fm_callVT (As := [.int s0]) (rest := []) (pc := 46) F E (ci := 10) rd0 (hrd0.lt 0 (fm_lt rfl)) (hrd0.mk0 (ad := ad) (dA := dA) (bk := bk) _ M.2) rfl (mX10_due hrd0 hN hb F.inj h3) q481 q483 qs4 q51 q484 ⟨rfl, rfl⟩ hdX10_due ⟨fm_le rfl, fm_le rfl, fm_le rfl, fm_le rfl⟩ rfl rfl (fm_le rfl) dX10_read_46
  refine fm_callV (As := [.int s0]) (rest := []) (pc := 46) F (ci := 10) rd0 (hrd0.lt 0 (fm_lt rfl)) (hrd0.mk0 (ad := ad) (dA := dA) (bk := bk) _ M.2) rfl (mX10_due hrd0 hN hb F.inj h3) q481 q483 qs4 q51 q484 ⟨rfl, rfl⟩ hdX10_due ⟨fm_le rfl, fm_le rfl, Nat.zero_le _, Nat.zero_le _⟩ rfl rfl (fm_le rfl) dX10_read_46 ?_
  refine fm_pop (pc := 49) F dX10_read_49 rfl ?_
  refine fm_aload_n (pc := 50) F dX10_read_50 0 rfl ?_
  refine fm_get (v := .ref (ad (rd0 + 1))) (pc := 51) F (ci := 10) (T := TX10) (n := 6) rfl in_X10 4 (fm_lt rfl) dX10_read_51 q363 rd0 (hrd0.lt 0 (fm_lt rfl)) (hrd0.mk0 (ad := ad) (dA := dA) (bk := bk) _ M2.2) rfl ?_
  refine fm_dup (pc := 54) F dX10_read_54 rfl ?_
  refine fm_getN (v := .int (M2.1 (rd0 + 1) 10)) (pc := 55) F (ci := 1) (T := TX1) (n := 11) rfl in_X1 10 (fm_lt rfl) dX10_read_55 q115 (rd0 + 1) (hrd0.bk.lt 0 (fm_lt rfl)) (hrd0.bk.mk0 (ad := ad) (dA := dA) (bk := bk) _ M2.2) rfl ?_
  refine fm_iconst (v := 1) (pc := 58) F dX10_read_58 (by decide) ?_
  refine fm_iadd (pc := 59) F dX10_read_59 ?_
  refine fm_putNI (v := ((M2.1 (rd0 + 1) 10) + 1)) (pc := 60) F clX1 10 (fm_lt rfl) dX10_read_60 q115 rfl rfl (rd0 + 1) (hrd0.bk.lt 0 (fm_lt rfl)) (hrd0.bk.mk0 (ad := ad) (dA := dA) (bk := bk) _ M2.2) (fm_lt rfl) (hrd0.bk.mk0 (ad := ad) (dA := dA) (bk := bk) _ M2.2) ?_
  refine fm_nameM (fun M5 eM5 => ?_)
  replace hf := fm_let_inv eM5 hf
  refine fm_goto (tgt := 4) (pc := 63) F dX10_read_63 (by decide) ?_
  exact hk4 _ hf
set_option maxHeartbeats 4000000 in
theorem wX10_read_4 {X : fm_X} {D : va_G} {dA : Nat → ClassId} {ad : Nat → Nat} {N bk : Nat} {n : Nat} {rd0 : Nat} (hrd0 : fm_isRd N rd0) (hN : 193 ≤ N) (hb : fm_isBk N bk) {res : Unit ⊕ Int32} (F : fm_F X (YC D dA N ad bk) cX10_read 2 RX10 (rmX10_read (fm_xc (fm_rR (ad (rd0 + 1)) res)) (fm_xn (fm_rR (ad (rd0 + 1)) res)))) {M' : fm_M} (E : fm_EX X (YC D dA N ad bk) (fm_rR (ad (rd0 + 1)) res) M' (some (.object "BellLots$Book"))) : ∀ (k : Nat) (M : fm_M), fX10_read_4 n bk rd0 k M = some (res, M') → fm_G X (YC D dA N ad bk) (0, 0) 2 M 4 [(0, .ref (ad rd0))] [] := by
  intro k
  induction k with
  | zero =>
    intro M hf
    rw [fX10_read_4] at hf
    cases hf
  | succ k ih =>
    intro M hf
    rw [fX10_read_4] at hf
    refine fm_aload_n (pc := 4) F dX10_read_4 0 rfl ?_
    refine fm_get (v := .int (M.1 rd0 2)) (pc := 5) F (ci := 10) (T := TX10) (n := 6) rfl in_X10 2 (fm_lt rfl) dX10_read_5 q361 rd0 (hrd0.lt 0 (fm_lt rfl)) (hrd0.mk0 (ad := ad) (dA := dA) (bk := bk) _ M.2) rfl ?_
    refine fm_iconst (v := 5) (pc := 8) F dX10_read_8 (by decide) ?_
    refine fm_icmp_eq (tgt := 66) (pc := 9) F dX10_read_9 (by decide) (fun c1 => ?_) (fun c1 => ?_)
    · replace hf := fm_ip c1 hf
      refine fm_aload_n (pc := 66) F dX10_read_66 0 rfl ?_
      refine fm_get (v := .ref (ad (rd0 + 1))) (pc := 67) F (ci := 10) (T := TX10) (n := 6) rfl in_X10 4 (fm_lt rfl) dX10_read_67 q363 rd0 (hrd0.lt 0 (fm_lt rfl)) (hrd0.mk0 (ad := ad) (dA := dA) (bk := bk) _ M.2) rfl ?_
      obtain ⟨M3, h4, hf⟩ := fm_bv_inv hf
      refine fm_callV (As := []) (rest := []) (pc := 70) F (ci := 1) (rd0 + 1) (hrd0.bk.lt 0 (fm_lt rfl)) (hrd0.bk.mk0 (ad := ad) (dA := dA) (bk := bk) _ M.2) rfl (mX1_measure hrd0.bk hN hb F.inj h4) q565 q566 q567 q40 q568 ⟨rfl, rfl⟩ hdX1_measure ⟨fm_le rfl, fm_le rfl, Nat.zero_le _, Nat.zero_le _⟩ rfl rfl (fm_le rfl) dX10_read_70 ?_
      refine fm_aload_n (pc := 73) F dX10_read_73 0 rfl ?_
      refine fm_get (v := .ref (ad (rd0 + 1))) (pc := 74) F (ci := 10) (T := TX10) (n := 6) rfl in_X10 4 (fm_lt rfl) dX10_read_74 q363 rd0 (hrd0.lt 0 (fm_lt rfl)) (hrd0.mk0 (ad := ad) (dA := dA) (bk := bk) _ M3.2) rfl ?_
      exact fm_aretX (pc := 77) F (Or.inl ⟨_, rfl⟩) E hf dX10_read_77
    · replace hf := fm_in c1 hf
      refine fm_aload_n (pc := 12) F dX10_read_12 0 rfl ?_
      refine fm_get (v := .int (M.1 rd0 2)) (pc := 13) F (ci := 10) (T := TX10) (n := 6) rfl in_X10 2 (fm_lt rfl) dX10_read_13 q361 rd0 (hrd0.lt 0 (fm_lt rfl)) (hrd0.mk0 (ad := ad) (dA := dA) (bk := bk) _ M.2) rfl ?_
      refine fm_istore_n (lv' := [(1, .int (M.1 rd0 2)), (0, .ref (ad rd0))]) (pc := 16) F dX10_read_16 rfl (fm_lt rfl) rfl ?_
      refine fm_aload_n (pc := 17) F dX10_read_17 1 rfl ?_
      refine fm_aload_n (pc := 18) F dX10_read_18 1 rfl ?_
      refine fm_iload_n (pc := 19) F dX10_read_19 0 rfl ?_
      obtain ⟨r6, M7, h8, hf⟩ := fm_bi_inv hf
      refine fm_callV (As := [.int (M.1 rd0 2)]) (rest := [.ref (ad rd0)]) (pc := 20) F (ci := 10) rd0 (hrd0.lt 0 (fm_lt rfl)) (hrd0.mk0 (ad := ad) (dA := dA) (bk := bk) _ M.2) rfl (mX10_may hrd0 hN hb F.inj h8) q477 q479 qs3 q51 q480 ⟨rfl, rfl⟩ hdX10_may ⟨fm_le rfl, fm_le rfl, Nat.zero_le _, Nat.zero_le _⟩ rfl rfl (fm_le rfl) dX10_read_20 ?_
      rcases (fm_bx_inv hf).symm with ⟨v13, h12, hv⟩ | ⟨r10, M11, h12, hf⟩
      · subst hv
        exact fm_callVT (As := [.int r6]) (rest := []) (pc := 23) F E (ci := 10) rd0 (hrd0.lt 0 (fm_lt rfl)) (hrd0.mk0 (ad := ad) (dA := dA) (bk := bk) _ M7.2) rfl (mX10_due hrd0 hN hb F.inj h12) q481 q483 qs4 q51 q484 ⟨rfl, rfl⟩ hdX10_due ⟨fm_le rfl, fm_le rfl, fm_le rfl, fm_le rfl⟩ rfl rfl (fm_le rfl) dX10_read_23
      refine fm_callV (As := [.int r6]) (rest := []) (pc := 23) F (ci := 10) rd0 (hrd0.lt 0 (fm_lt rfl)) (hrd0.mk0 (ad := ad) (dA := dA) (bk := bk) _ M7.2) rfl (mX10_due hrd0 hN hb F.inj h12) q481 q483 qs4 q51 q484 ⟨rfl, rfl⟩ hdX10_due ⟨fm_le rfl, fm_le rfl, Nat.zero_le _, Nat.zero_le _⟩ rfl rfl (fm_le rfl) dX10_read_23 ?_
      refine fm_pop (pc := 26) F dX10_read_26 rfl ?_
      refine fm_aload_n (pc := 27) F dX10_read_27 1 rfl ?_
      refine fm_iload_n (pc := 28) F dX10_read_28 0 rfl ?_
      rcases (fm_bx_inv hf).symm with ⟨v17, h16, hv⟩ | ⟨r14, M15, h16, hf⟩
      · subst hv
        exact fm_callVT (As := [.int (M.1 rd0 2)]) (rest := []) (pc := 29) F E (ci := 10) rd0 (hrd0.lt 0 (fm_lt rfl)) (hrd0.mk0 (ad := ad) (dA := dA) (bk := bk) _ M11.2) rfl (mX10_item hrd0 hN hb F.inj h16) q553 q555 qs6 q51 q556 ⟨rfl, rfl⟩ hdX10_item ⟨fm_le rfl, fm_le rfl, fm_le rfl, fm_le rfl⟩ rfl rfl (fm_le rfl) dX10_read_29
      refine fm_callV (As := [.int (M.1 rd0 2)]) (rest := []) (pc := 29) F (ci := 10) rd0 (hrd0.lt 0 (fm_lt rfl)) (hrd0.mk0 (ad := ad) (dA := dA) (bk := bk) _ M11.2) rfl (mX10_item hrd0 hN hb F.inj h16) q553 q555 qs6 q51 q556 ⟨rfl, rfl⟩ hdX10_item ⟨fm_le rfl, fm_le rfl, Nat.zero_le _, Nat.zero_le _⟩ rfl rfl (fm_le rfl) dX10_read_29 ?_
      refine fm_aload_n (pc := 32) F dX10_read_32 1 rfl ?_
      refine fm_aload_n (pc := 33) F dX10_read_33 1 rfl ?_
      refine fm_get (v := .int (M15.1 rd0 2)) (pc := 34) F (ci := 10) (T := TX10) (n := 6) rfl in_X10 2 (fm_lt rfl) dX10_read_34 q361 rd0 (hrd0.lt 0 (fm_lt rfl)) (hrd0.mk0 (ad := ad) (dA := dA) (bk := bk) _ M15.2) rfl ?_
      refine fm_iconst (v := 4) (pc := 37) F dX10_read_37 (by decide) ?_
      refine fm_icmp_ne (tgt := 45) (pc := 38) F dX10_read_38 (by decide) (fun c18 => ?_) (fun c18 => ?_)
      · replace hf := fm_in c18 hf
        refine fm_iconst (v := 0) (pc := 45) F dX10_read_45 (by decide) ?_
        refine fm_pick [1] rfl ?_
        exact wX10_read_46 hrd0 hN hb F E ih _ _ hf
      · replace hf := fm_ip c18 hf
        refine fm_iconst (v := 1) (pc := 41) F dX10_read_41 (by decide) ?_
        refine fm_goto (tgt := 46) (pc := 42) F dX10_read_42 (by decide) ?_
        refine fm_pick [1] rfl ?_
        exact wX10_read_46 hrd0 hN hb F E ih _ _ hf
set_option maxHeartbeats 4000000 in
theorem mX10_read {l : Launch} {D : va_G} {dA : Nat → ClassId} {ad : Nat → Nat} {N bk : Nat} {n : Nat} {rd0 : Nat} (hrd0 : fm_isRd N rd0) (hN : 193 ≤ N) (hb : fm_isBk N bk) (inj : ∀ i j, i < N → j < N → ad i = ad j → i = j) {M M' : fm_M} {res : Unit ⊕ Int32} (hf : fX10_read n bk rd0 M = some (res, M')) : fm_CX l yX10_read (ws_ yX10_read cX10_read 2 (some (.object "BellLots$Book"))) rmX10_read (YC D dA N ad bk) [.ref (ad rd0)] M (fm_rR (ad (rd0 + 1)) res) M' := by
  refine fm_enterX (by decide) rfl (fm_le rfl) inj ?_
  intro X hXl F E
  subst hXl
  unfold fX10_read at hf
  show fm_G X (YC D dA N ad bk) (0, 0) 2 M 0 [(0, .ref (ad rd0))] []
  refine fm_aload_n (pc := 0) F dX10_read_0 0 rfl ?_
  obtain ⟨M2, h3, hf⟩ := fm_bv_inv hf
  refine fm_callV (As := []) (rest := []) (pc := 1) F (ci := 10) rd0 (hrd0.lt 0 (fm_lt rfl)) (hrd0.mk0 (ad := ad) (dA := dA) (bk := bk) _ M.2) rfl (mX10_step hrd0 hN hb F.inj h3) q382 q384 qs1 q51 q385 ⟨rfl, rfl⟩ hdX10_step ⟨fm_le rfl, fm_le rfl, Nat.zero_le _, Nat.zero_le _⟩ rfl rfl (fm_le rfl) dX10_read_1 ?_
  exact wX10_read_4 hrd0 hN hb F E n _ hf
