/-! the component: its methods as functions, and their walks (printed by gen/genC.py) -/
set_option maxRecDepth 100000
abbrev rmX0_know : Room := { frames := 3, cells := 0, slots := 0, locals := 102 }
def fX0_know_49 (n bk : Nat) (M : fm_M) : Option (fm_M) :=
  fm_b (M.1 0 6) 10 <|
  fm_gd (Nat.blt (M.1 3 (M.1 0 6).toNatClampNeg).toNatClampNeg 14) <|
  fm_bv (fX2_copyOf n bk (39 + 11 * (M.1 3 (M.1 0 6).toNatClampNeg).toNatClampNeg) 39 M) fun M4 =>
  fm_let (fm_wr M4 0 6 ((M4.1 0 6) + 1)) fun M7 =>
  some M7
def fX0_know (n bk : Nat) (M : fm_M) : Option (fm_M) :=
  if (M.1 0 6) = 10 then
    fm_gd (Nat.blt (M.1 3 0).toNatClampNeg 14) <|
    fm_gd (fm_bfok M) <|
    fm_let (fm_row M 3 (va_cpy (M.1 3) (M.1 3) 1 0 9)) fun M4 =>
    fm_let (fm_wr M4 3 9 (M.1 3 0)) fun M5 =>
    fm_let (fm_wr M5 0 6 ((M5.1 0 6) - 1)) fun M6 =>
    fX0_know_49 n bk M6
  else
    fX0_know_49 n bk M
theorem hdX0_know : yX0_know.cls = RX0 ∧ yX0_know.cls ≠ "java/lang/invoke/MethodHandle" ∧ yX0_know.cls ≠ "java/lang/invoke/VarHandle" ∧ (parseMethodDescriptor yX0_know.desc).map (fun d => d.parameters.length) = some 0 := by decide +kernel
set_option maxHeartbeats 4000000 in
theorem wX0_know_49 {X : fm_X} {D : va_G} {dA : Nat → ClassId} {ad : Nat → Nat} {N bk : Nat} {n : Nat} (hN : 193 ≤ N) (hb : fm_isBk N bk) (F : fm_F X (YC D dA N ad bk) cX0_know 2 RX0 rmX0_know) {M' : fm_M} (E : fm_E X (YC D dA N ad bk) none M' none) : ∀ (M : fm_M), fX0_know_49 n bk M = some M' → fm_G X (YC D dA N ad bk) (0, 0) 2 M 49 [(0, .ref (ad 0))] [] := by
  intro M hf
  unfold fX0_know_49 at hf
  refine fm_aload_n (pc := 49) F dX0_know_49 0 rfl ?_
  refine fm_get (v := .ref (ad 3)) (pc := 50) F (ci := 0) (T := TX0) (n := 19) rfl in_X0 5 (fm_lt rfl) dX0_know_50 q274 0 (fm_ltN hN rfl) rfl rfl ?_
  refine fm_aload_n (pc := 53) F dX0_know_53 0 rfl ?_
  refine fm_get (v := .int (M.1 0 6)) (pc := 54) F (ci := 0) (T := TX0) (n := 19) rfl in_X0 6 (fm_lt rfl) dX0_know_54 q275 0 (fm_ltN hN rfl) rfl rfl ?_
  obtain ⟨b1, hf⟩ := fm_b_inv hf
  obtain ⟨g2, hf⟩ := fm_gd_inv hf
  refine fm_aald (pc := 57) F dX0_know_57 3 (fm_ltN hN rfl) 3 (fun j => 39 + 11 * (M.1 3 j).toNatClampNeg) rfl rfl rfl b1 ?_
  refine fm_aload_n (pc := 58) F dX0_know_58 0 rfl ?_
  refine fm_get (v := .ref (ad 39)) (pc := 59) F (ci := 0) (T := TX0) (n := 19) rfl in_X0 3 (fm_lt rfl) dX0_know_59 q272 0 (fm_ltN hN rfl) rfl rfl ?_
  obtain ⟨M4, h5, hf⟩ := fm_bv_inv hf
  refine fm_callV (As := [.ref (ad 39)]) (rest := []) (pc := 62) F (ci := 2) (39 + 11 * (M.1 3 (M.1 0 6).toNatClampNeg).toNatClampNeg) ((fm_isPl.of g2).lt hN 0 (fm_lt rfl)) ((fm_isPl.of g2).mk0 (ad := ad) (dA := dA) (bk := bk) _ M.2) rfl (mX2_copyOf (fm_isPl.of g2) fm_isPl.now hN hb F.inj h5) q629 q630 q631 q41 q632 ⟨rfl, rfl⟩ hdX2_copyOf ⟨fm_le rfl, fm_le rfl, Nat.zero_le _, Nat.zero_le _⟩ rfl rfl (fm_le rfl) dX0_know_62 ?_
  refine fm_aload_n (pc := 65) F dX0_know_65 0 rfl ?_
  refine fm_dup (pc := 66) F dX0_know_66 rfl ?_
  refine fm_get (v := .int (M4.1 0 6)) (pc := 67) F (ci := 0) (T := TX0) (n := 19) rfl in_X0 6 (fm_lt rfl) dX0_know_67 q275 0 (fm_ltN hN rfl) rfl rfl ?_
  refine fm_iconst (v := 1) (pc := 70) F dX0_know_70 (by decide) ?_
  refine fm_iadd (pc := 71) F dX0_know_71 ?_
  refine fm_putI (v := ((M4.1 0 6) + 1)) (pc := 72) F clX0 6 (fm_lt rfl) dX0_know_72 q275 rfl rfl 0 (fm_ltN hN rfl) rfl (fm_lt rfl) rfl ?_
  refine fm_nameM (fun M7 eM7 => ?_)
  replace hf := fm_let_inv eM7 hf
  exact fm_vret (pc := 75) F E hf dX0_know_75
set_option maxHeartbeats 4000000 in
theorem mX0_know {l : Launch} {D : va_G} {dA : Nat → ClassId} {ad : Nat → Nat} {N bk : Nat} {n : Nat} (hN : 193 ≤ N) (hb : fm_isBk N bk) (inj : ∀ i j, i < N → j < N → ad i = ad j → i = j) {M M' : fm_M} (hf : fX0_know n bk M = some M') : fm_C l yX0_know (ws_ yX0_know cX0_know 2 none) rmX0_know (YC D dA N ad bk) [.ref (ad 0)] M none M' := by
  refine fm_enter (by decide) rfl (fm_le rfl) inj ?_
  intro X hXl F E
  subst hXl
  unfold fX0_know at hf
  show fm_G X (YC D dA N ad bk) (0, 0) 2 M 0 [(0, .ref (ad 0))] []
  refine fm_aload_n (pc := 0) F dX0_know_0 0 rfl ?_
  refine fm_get (v := .int (M.1 0 6)) (pc := 1) F (ci := 0) (T := TX0) (n := 19) rfl in_X0 6 (fm_lt rfl) dX0_know_1 q275 0 (fm_ltN hN rfl) rfl rfl ?_
  refine fm_bipush (v := 10) (pc := 4) F dX0_know_4 (by decide) ?_
  refine fm_icmp_ne (tgt := 49) (pc := 6) F dX0_know_6 (by decide) (fun c1 => ?_) (fun c1 => ?_)
  · replace hf := fm_in c1 hf
    exact wX0_know_49 hN hb F E _ hf
  · replace hf := fm_ip c1 hf
    refine fm_aload_n (pc := 9) F dX0_know_9 0 rfl ?_
    refine fm_get (v := .ref (ad 3)) (pc := 10) F (ci := 0) (T := TX0) (n := 19) rfl in_X0 5 (fm_lt rfl) dX0_know_10 q274 0 (fm_ltN hN rfl) rfl rfl ?_
    refine fm_iconst (v := 0) (pc := 13) F dX0_know_13 (by decide) ?_
    obtain ⟨g2, hf⟩ := fm_gd_inv hf
    refine fm_aaldK (pc := 14) F dX0_know_14 3 (fm_ltN hN rfl) 3 (fun j => 39 + 11 * (M.1 3 j).toNatClampNeg) rfl rfl rfl 0 (fm_ok (by decide)) rfl ?_
    refine fm_astore_n (lv' := [(1, .ref (ad (39 + 11 * (M.1 3 0).toNatClampNeg))), (0, .ref (ad 0))]) (pc := 15) F dX0_know_15 rfl (fm_lt rfl) rfl ?_
    refine fm_aload_n (pc := 16) F dX0_know_16 1 rfl ?_
    refine fm_get (v := .ref (ad 3)) (pc := 17) F (ci := 0) (T := TX0) (n := 19) rfl in_X0 5 (fm_lt rfl) dX0_know_17 q274 0 (fm_ltN hN rfl) rfl rfl ?_
    refine fm_iconst (v := 1) (pc := 20) F dX0_know_20 (by decide) ?_
    refine fm_aload_n (pc := 21) F dX0_know_21 1 rfl ?_
    refine fm_get (v := .ref (ad 3)) (pc := 22) F (ci := 0) (T := TX0) (n := 19) rfl in_X0 5 (fm_lt rfl) dX0_know_22 q274 0 (fm_ltN hN rfl) rfl rfl ?_
    refine fm_iconst (v := 0) (pc := 25) F dX0_know_25 (by decide) ?_
    refine fm_bipush (v := 9) (pc := 26) F dX0_know_26 (by decide) ?_
    obtain ⟨g3, hf⟩ := fm_gd_inv hf
    refine fm_copyB (pc := 28) F hN dX0_know_28 q626 q628 q627 q61 g3 ⟨fm_le rfl, fm_le rfl⟩ ?_
    refine fm_nameM (fun M4 eM4 => ?_)
    replace hf := fm_let_inv eM4 hf
    refine fm_aload_n (pc := 31) F dX0_know_31 1 rfl ?_
    refine fm_get (v := .ref (ad 3)) (pc := 32) F (ci := 0) (T := TX0) (n := 19) rfl in_X0 5 (fm_lt rfl) dX0_know_32 q274 0 (fm_ltN hN rfl) rfl rfl ?_
    refine fm_bipush (v := 9) (pc := 35) F dX0_know_35 (by decide) ?_
    refine fm_aload_n (pc := 37) F dX0_know_37 0 rfl ?_
    refine fm_aastB (pc := 38) F hN dX0_know_38 (M.1 3 0) g2 9 (fm_ok (by decide)) rfl ?_
    refine fm_nameM (fun M5 eM5 => ?_)
    replace hf := fm_let_inv eM5 hf
    refine fm_aload_n (pc := 39) F dX0_know_39 1 rfl ?_
    refine fm_dup (pc := 40) F dX0_know_40 rfl ?_
    refine fm_get (v := .int (M5.1 0 6)) (pc := 41) F (ci := 0) (T := TX0) (n := 19) rfl in_X0 6 (fm_lt rfl) dX0_know_41 q275 0 (fm_ltN hN rfl) rfl rfl ?_
    refine fm_iconst (v := 1) (pc := 44) F dX0_know_44 (by decide) ?_
    refine fm_isub (pc := 45) F dX0_know_45 ?_
    refine fm_putI (v := ((M5.1 0 6) - 1)) (pc := 46) F clX0 6 (fm_lt rfl) dX0_know_46 q275 rfl rfl 0 (fm_ltN hN rfl) rfl (fm_lt rfl) rfl ?_
    refine fm_nameM (fun M6 eM6 => ?_)
    replace hf := fm_let_inv eM6 hf
    refine fm_pick [1] rfl ?_
    exact wX0_know_49 hN hb F E _ hf
abbrev rmX0_lots : Room := { frames := 4, cells := 0, slots := 0, locals := 129 }
def fX0_lots (n bk : Nat) (M : fm_M) (l1 : Int32) : Option (Int32 × fm_M) :=
  fm_bi (fX0_isSeed n bk M l1) fun r1 M2 =>
  if r1 = 0 then
    some ((-1), M2)
  else
    if (M2.1 39 0) = 60 then
      some ((-2), M2)
    else
      fm_bv (fX0_know n bk M2) fun M8 =>
      fm_bi (fX2_draw n bk 39 M8 l1) fun r11 M12 =>
      some (r11, M12)
theorem hdX0_lots : yX0_lots.cls = RX0 ∧ yX0_lots.cls ≠ "java/lang/invoke/MethodHandle" ∧ yX0_lots.cls ≠ "java/lang/invoke/VarHandle" ∧ (parseMethodDescriptor yX0_lots.desc).map (fun d => d.parameters.length) = some 1 := by decide +kernel
set_option maxHeartbeats 4000000 in
theorem mX0_lots {l : Launch} {D : va_G} {dA : Nat → ClassId} {ad : Nat → Nat} {N bk : Nat} {n : Nat} (hN : 193 ≤ N) (hb : fm_isBk N bk) (inj : ∀ i j, i < N → j < N → ad i = ad j → i = j) {M M' : fm_M} {l1 : Int32} {r : Int32} (hf : fX0_lots n bk M l1 = some (r, M')) : fm_C l yX0_lots (ws_ yX0_lots cX0_lots 2 (some .int)) rmX0_lots (YC D dA N ad bk) [.ref (ad 0), .int l1] M (some (.int r)) M' := by
  refine fm_enter (by decide) rfl (fm_le rfl) inj ?_
  intro X hXl F E
  subst hXl
  unfold fX0_lots at hf
  show fm_G X (YC D dA N ad bk) (0, 0) 2 M 0 [(0, .ref (ad 0)), (1, .int l1)] []
  refine fm_iload_n (pc := 0) F dX0_lots_0 1 rfl ?_
  obtain ⟨r1, M2, h3, hf⟩ := fm_bi_inv hf
  refine fm_callS (As := [.int l1]) (rest := []) (pc := 1) F (mX0_isSeed hN hb F.inj h3) q619 q620 q39 q621 ⟨rfl, rfl⟩ hdX0_isSeed.2 ⟨fm_le rfl, fm_le rfl, Nat.zero_le _, Nat.zero_le _⟩ rfl rfl (fm_le rfl) dX0_lots_1 ?_
  refine fm_if_ne (tgt := 9) (pc := 4) F dX0_lots_4 (by decide) (fun c5 => ?_) (fun c5 => ?_)
  · replace hf := fm_in c5 hf
    refine fm_aload_n (pc := 9) F dX0_lots_9 0 rfl ?_
    refine fm_get (v := .ref (ad 39)) (pc := 10) F (ci := 0) (T := TX0) (n := 19) rfl in_X0 3 (fm_lt rfl) dX0_lots_10 q272 0 (fm_ltN hN rfl) rfl rfl ?_
    refine fm_getN (v := .int (M2.1 39 0)) (pc := 13) F (ci := 2) (T := TX2) (n := 7) rfl in_X2 0 (fm_lt rfl) dX0_lots_13 q149 39 (fm_isPl.now.lt hN 0 (fm_lt rfl)) (fm_isPl.now.mk0 (ad := ad) (dA := dA) (bk := bk) _ M2.2) rfl ?_
    refine fm_bipush (v := 60) (pc := 16) F dX0_lots_16 (by decide) ?_
    refine fm_icmp_ne (tgt := 24) (pc := 18) F dX0_lots_18 (by decide) (fun c6 => ?_) (fun c6 => ?_)
    · replace hf := fm_in c6 hf
      refine fm_aload_n (pc := 24) F dX0_lots_24 0 rfl ?_
      obtain ⟨M8, h9, hf⟩ := fm_bv_inv hf
      refine fm_callV (As := []) (rest := []) (pc := 25) F (ci := 0) 0 (fm_ltN hN rfl) rfl rfl (mX0_know hN hb F.inj h9) q622 q624 qs11 q39 q625 ⟨rfl, rfl⟩ hdX0_know ⟨fm_le rfl, fm_le rfl, Nat.zero_le _, Nat.zero_le _⟩ rfl rfl (fm_le rfl) dX0_lots_25 ?_
      refine fm_aload_n (pc := 28) F dX0_lots_28 0 rfl ?_
      refine fm_get (v := .ref (ad 39)) (pc := 29) F (ci := 0) (T := TX0) (n := 19) rfl in_X0 3 (fm_lt rfl) dX0_lots_29 q272 0 (fm_ltN hN rfl) rfl rfl ?_
      refine fm_iload_n (pc := 32) F dX0_lots_32 1 rfl ?_
      obtain ⟨r11, M12, h13, hf⟩ := fm_bi_inv hf
      refine fm_callV (As := [.int l1]) (rest := []) (pc := 33) F (ci := 2) 39 (fm_isPl.now.lt hN 0 (fm_lt rfl)) (fm_isPl.now.mk0 (ad := ad) (dA := dA) (bk := bk) _ M8.2) rfl (mX2_draw fm_isPl.now hN hb F.inj h13) q634 q635 q636 q41 q637 ⟨rfl, rfl⟩ hdX2_draw ⟨fm_le rfl, fm_le rfl, Nat.zero_le _, Nat.zero_le _⟩ rfl rfl (fm_le rfl) dX0_lots_33 ?_
      exact fm_iret (pc := 36) F E hf dX0_lots_36
    · replace hf := fm_ip c6 hf
      refine fm_bipush (v := (-2)) (pc := 21) F dX0_lots_21 (by decide) ?_
      exact fm_iret (pc := 23) F E hf dX0_lots_23
  · replace hf := fm_ip c5 hf
    refine fm_iconst (v := (-1)) (pc := 7) F dX0_lots_7 (by decide) ?_
    exact fm_iret (pc := 8) F E hf dX0_lots_8
abbrev rmX0_trades : Room := { frames := 4, cells := 0, slots := 0, locals := 126 }
def fX0_trades (n bk : Nat) (M : fm_M) (l1 : Int32) (l2 : Int32) : Option (Int32 × fm_M) :=
  fm_bi (fX0_isTown n bk M l1) fun r1 M2 =>
  if r1 = 0 then
    some ((-1), M2)
  else
    fm_bi (fX0_isTown n bk M2 l2) fun r6 M7 =>
    if r6 = 0 then
      some ((-1), M7)
    else
      if l1 = l2 then
        some ((-1), M7)
      else
        fm_bv (fX0_know n bk M7) fun M13 =>
        fm_bi (fX2_trade n bk 39 M13 l1 l2) fun r16 M17 =>
        some (r16, M17)
theorem hdX0_trades : yX0_trades.cls = RX0 ∧ yX0_trades.cls ≠ "java/lang/invoke/MethodHandle" ∧ yX0_trades.cls ≠ "java/lang/invoke/VarHandle" ∧ (parseMethodDescriptor yX0_trades.desc).map (fun d => d.parameters.length) = some 2 := by decide +kernel
set_option maxHeartbeats 4000000 in
theorem mX0_trades {l : Launch} {D : va_G} {dA : Nat → ClassId} {ad : Nat → Nat} {N bk : Nat} {n : Nat} (hN : 193 ≤ N) (hb : fm_isBk N bk) (inj : ∀ i j, i < N → j < N → ad i = ad j → i = j) {M M' : fm_M} {l1 : Int32} {l2 : Int32} {r : Int32} (hf : fX0_trades n bk M l1 l2 = some (r, M')) : fm_C l yX0_trades (ws_ yX0_trades cX0_trades 3 (some .int)) rmX0_trades (YC D dA N ad bk) [.ref (ad 0), .int l1, .int l2] M (some (.int r)) M' := by
  refine fm_enter (by decide) rfl (fm_le rfl) inj ?_
  intro X hXl F E
  subst hXl
  unfold fX0_trades at hf
  show fm_G X (YC D dA N ad bk) (0, 0) 3 M 0 [(0, .ref (ad 0)), (1, .int l1), (2, .int l2)] []
  refine fm_aload_n (pc := 0) F dX0_trades_0 0 rfl ?_
  refine fm_iload_n (pc := 1) F dX0_trades_1 1 rfl ?_
  obtain ⟨r1, M2, h3, hf⟩ := fm_bi_inv hf
  refine fm_callV (As := [.int l1]) (rest := []) (pc := 2) F (ci := 0) 0 (fm_ltN hN rfl) rfl rfl (mX0_isTown hN hb F.inj h3) q578 q580 qs9 q39 q581 ⟨rfl, rfl⟩ hdX0_isTown ⟨fm_le rfl, fm_le rfl, Nat.zero_le _, Nat.zero_le _⟩ rfl rfl (fm_le rfl) dX0_trades_2 ?_
  refine fm_if_eq (tgt := 21) (pc := 5) F dX0_trades_5 (by decide) (fun c5 => ?_) (fun c5 => ?_)
  · replace hf := fm_ip c5 hf
    refine fm_iconst (v := (-1)) (pc := 21) F dX0_trades_21 (by decide) ?_
    exact fm_iret (pc := 22) F E hf dX0_trades_22
  · replace hf := fm_in c5 hf
    refine fm_aload_n (pc := 8) F dX0_trades_8 0 rfl ?_
    refine fm_iload_n (pc := 9) F dX0_trades_9 2 rfl ?_
    obtain ⟨r6, M7, h8, hf⟩ := fm_bi_inv hf
    refine fm_callV (As := [.int l2]) (rest := []) (pc := 10) F (ci := 0) 0 (fm_ltN hN rfl) rfl rfl (mX0_isTown hN hb F.inj h8) q578 q580 qs9 q39 q581 ⟨rfl, rfl⟩ hdX0_isTown ⟨fm_le rfl, fm_le rfl, Nat.zero_le _, Nat.zero_le _⟩ rfl rfl (fm_le rfl) dX0_trades_10 ?_
    refine fm_if_eq (tgt := 21) (pc := 13) F dX0_trades_13 (by decide) (fun c10 => ?_) (fun c10 => ?_)
    · replace hf := fm_ip c10 hf
      refine fm_iconst (v := (-1)) (pc := 21) F dX0_trades_21 (by decide) ?_
      exact fm_iret (pc := 22) F E hf dX0_trades_22
    · replace hf := fm_in c10 hf
      refine fm_iload_n (pc := 16) F dX0_trades_16 1 rfl ?_
      refine fm_iload_n (pc := 17) F dX0_trades_17 2 rfl ?_
      refine fm_icmp_ne (tgt := 23) (pc := 18) F dX0_trades_18 (by decide) (fun c11 => ?_) (fun c11 => ?_)
      · replace hf := fm_in c11 hf
        refine fm_aload_n (pc := 23) F dX0_trades_23 0 rfl ?_
        obtain ⟨M13, h14, hf⟩ := fm_bv_inv hf
        refine fm_callV (As := []) (rest := []) (pc := 24) F (ci := 0) 0 (fm_ltN hN rfl) rfl rfl (mX0_know hN hb F.inj h14) q622 q624 qs11 q39 q625 ⟨rfl, rfl⟩ hdX0_know ⟨fm_le rfl, fm_le rfl, Nat.zero_le _, Nat.zero_le _⟩ rfl rfl (fm_le rfl) dX0_trades_24 ?_
        refine fm_aload_n (pc := 27) F dX0_trades_27 0 rfl ?_
        refine fm_get (v := .ref (ad 39)) (pc := 28) F (ci := 0) (T := TX0) (n := 19) rfl in_X0 3 (fm_lt rfl) dX0_trades_28 q272 0 (fm_ltN hN rfl) rfl rfl ?_
        refine fm_iload_n (pc := 31) F dX0_trades_31 1 rfl ?_
        refine fm_iload_n (pc := 32) F dX0_trades_32 2 rfl ?_
        obtain ⟨r16, M17, h18, hf⟩ := fm_bi_inv hf
        refine fm_callV (As := [.int l1, .int l2]) (rest := []) (pc := 33) F (ci := 2) 39 (fm_isPl.now.lt hN 0 (fm_lt rfl)) (fm_isPl.now.mk0 (ad := ad) (dA := dA) (bk := bk) _ M13.2) rfl (mX2_trade fm_isPl.now hN hb F.inj h18) q657 q658 q659 q41 q660 ⟨rfl, rfl⟩ hdX2_trade ⟨fm_le rfl, fm_le rfl, Nat.zero_le _, Nat.zero_le _⟩ rfl rfl (fm_le rfl) dX0_trades_33 ?_
        exact fm_iret (pc := 36) F E hf dX0_trades_36
      · replace hf := fm_ip c11 hf
        refine fm_iconst (v := (-1)) (pc := 21) F dX0_trades_21 (by decide) ?_
        exact fm_iret (pc := 22) F E hf dX0_trades_22
abbrev rmX0_widens : Room := { frames := 4, cells := 0, slots := 0, locals := 123 }
def fX0_widens (n bk : Nat) (M : fm_M) (l1 : Int32) (l2 : Int32) : Option (Int32 × fm_M) :=
  fm_bi (fX0_isTown n bk M l1) fun r1 M2 =>
  if r1 = 0 then
    some ((-1), M2)
  else
    fm_bi (fX0_in n bk M2 l2 1 99) fun r6 M7 =>
    if r6 = 0 then
      some ((-1), M7)
    else
      fm_b l1 6 <|
      fm_b (M7.1 40 l1.toNatClampNeg) 6 <|
      if (M7.1 (bk + 2) (M7.1 40 l1.toNatClampNeg).toNatClampNeg) ≤ l2 then
        fm_bv (fX0_know n bk M7) fun M15 =>
        fm_b l1 6 <|
        fm_let (M15.1 41 l1.toNatClampNeg) fun x19 =>
        fm_b l1 6 <|
        fm_let (fm_wr M15 41 l1.toNatClampNeg l2) fun M21 =>
        some (x19, M21)
      else
        some ((-2), M7)
theorem hdX0_widens : yX0_widens.cls = RX0 ∧ yX0_widens.cls ≠ "java/lang/invoke/MethodHandle" ∧ yX0_widens.cls ≠ "java/lang/invoke/VarHandle" ∧ (parseMethodDescriptor yX0_widens.desc).map (fun d => d.parameters.length) = some 2 := by decide +kernel
set_option maxHeartbeats 4000000 in
theorem mX0_widens {l : Launch} {D : va_G} {dA : Nat → ClassId} {ad : Nat → Nat} {N bk : Nat} {n : Nat} (hN : 193 ≤ N) (hb : fm_isBk N bk) (inj : ∀ i j, i < N → j < N → ad i = ad j → i = j) {M M' : fm_M} {l1 : Int32} {l2 : Int32} {r : Int32} (hf : fX0_widens n bk M l1 l2 = some (r, M')) : fm_C l yX0_widens (ws_ yX0_widens cX0_widens 4 (some .int)) rmX0_widens (YC D dA N ad bk) [.ref (ad 0), .int l1, .int l2] M (some (.int r)) M' := by
  refine fm_enter (by decide) rfl (fm_le rfl) inj ?_
  intro X hXl F E
  subst hXl
  unfold fX0_widens at hf
  show fm_G X (YC D dA N ad bk) (0, 0) 4 M 0 [(0, .ref (ad 0)), (1, .int l1), (2, .int l2)] []
  refine fm_aload_n (pc := 0) F dX0_widens_0 0 rfl ?_
  refine fm_iload_n (pc := 1) F dX0_widens_1 1 rfl ?_
  obtain ⟨r1, M2, h3, hf⟩ := fm_bi_inv hf
  refine fm_callV (As := [.int l1]) (rest := []) (pc := 2) F (ci := 0) 0 (fm_ltN hN rfl) rfl rfl (mX0_isTown hN hb F.inj h3) q578 q580 qs9 q39 q581 ⟨rfl, rfl⟩ hdX0_isTown ⟨fm_le rfl, fm_le rfl, Nat.zero_le _, Nat.zero_le _⟩ rfl rfl (fm_le rfl) dX0_widens_2 ?_
  refine fm_if_eq (tgt := 18) (pc := 5) F dX0_widens_5 (by decide) (fun c5 => ?_) (fun c5 => ?_)
  · replace hf := fm_ip c5 hf
    refine fm_iconst (v := (-1)) (pc := 18) F dX0_widens_18 (by decide) ?_
    exact fm_iret (pc := 19) F E hf dX0_widens_19
  · replace hf := fm_in c5 hf
    refine fm_iload_n (pc := 8) F dX0_widens_8 2 rfl ?_
    refine fm_iconst (v := 1) (pc := 9) F dX0_widens_9 (by decide) ?_
    refine fm_bipush (v := 99) (pc := 10) F dX0_widens_10 (by decide) ?_
    obtain ⟨r6, M7, h8, hf⟩ := fm_bi_inv hf
    refine fm_callS (As := [.int l2, .int 1, .int 99]) (rest := []) (pc := 12) F (mX0_in hN hb F.inj h8) q339 q340 q39 q341 ⟨rfl, rfl⟩ hdX0_in.2 ⟨fm_le rfl, fm_le rfl, Nat.zero_le _, Nat.zero_le _⟩ rfl rfl (fm_le rfl) dX0_widens_12 ?_
    refine fm_if_ne (tgt := 20) (pc := 15) F dX0_widens_15 (by decide) (fun c10 => ?_) (fun c10 => ?_)
    · replace hf := fm_in c10 hf
      refine fm_aload_n (pc := 20) F dX0_widens_20 0 rfl ?_
      refine fm_get (v := .ref (ad bk)) (pc := 21) F (ci := 0) (T := TX0) (n := 19) rfl in_X0 0 (fm_lt rfl) dX0_widens_21 q262 0 (fm_ltN hN rfl) rfl rfl ?_
      refine fm_getN (v := .ref (ad (bk + 2))) (pc := 24) F (ci := 1) (T := TX1) (n := 11) rfl in_X1 1 (fm_lt rfl) dX0_widens_24 q85 bk (hb.lt 0 (fm_lt rfl)) (hb.mk0 (ad := ad) (dA := dA) (bk := bk) _ M7.2) rfl ?_
      refine fm_aload_n (pc := 27) F dX0_widens_27 0 rfl ?_
      refine fm_get (v := .ref (ad 39)) (pc := 28) F (ci := 0) (T := TX0) (n := 19) rfl in_X0 3 (fm_lt rfl) dX0_widens_28 q272 0 (fm_ltN hN rfl) rfl rfl ?_
      refine fm_getN (v := .ref (ad 40)) (pc := 31) F (ci := 2) (T := TX2) (n := 7) rfl in_X2 2 (fm_lt rfl) dX0_widens_31 q153 39 (fm_isPl.now.lt hN 0 (fm_lt rfl)) (fm_isPl.now.mk0 (ad := ad) (dA := dA) (bk := bk) _ M7.2) rfl ?_
      refine fm_iload_n (pc := 34) F dX0_widens_34 1 rfl ?_
      obtain ⟨b11, hf⟩ := fm_b_inv hf
      refine fm_iald (pc := 35) F dX0_widens_35 40 (fm_isPl.now.lt hN 1 (fm_lt rfl)) (fm_isPl.now.mk1 (ad := ad) (dA := dA) (bk := bk) _ M7.2) b11 ?_
      obtain ⟨b12, hf⟩ := fm_b_inv hf
      refine fm_iald (pc := 36) F dX0_widens_36 (bk + 2) (hb.lt 2 (fm_lt rfl)) (hb.mk2 (ad := ad) (dA := dA) (bk := bk) _ M7.2) b12 ?_
      refine fm_iload_n (pc := 37) F dX0_widens_37 2 rfl ?_
      refine fm_icmp_le (tgt := 44) (pc := 38) F dX0_widens_38 (by decide) (fun c13 => ?_) (fun c13 => ?_)
      · replace hf := fm_ip c13 hf
        refine fm_aload_n (pc := 44) F dX0_widens_44 0 rfl ?_
        obtain ⟨M15, h16, hf⟩ := fm_bv_inv hf
        refine fm_callV (As := []) (rest := []) (pc := 45) F (ci := 0) 0 (fm_ltN hN rfl) rfl rfl (mX0_know hN hb F.inj h16) q622 q624 qs11 q39 q625 ⟨rfl, rfl⟩ hdX0_know ⟨fm_le rfl, fm_le rfl, Nat.zero_le _, Nat.zero_le _⟩ rfl rfl (fm_le rfl) dX0_widens_45 ?_
        refine fm_aload_n (pc := 48) F dX0_widens_48 0 rfl ?_
        refine fm_get (v := .ref (ad 39)) (pc := 49) F (ci := 0) (T := TX0) (n := 19) rfl in_X0 3 (fm_lt rfl) dX0_widens_49 q272 0 (fm_ltN hN rfl) rfl rfl ?_
        refine fm_getN (v := .ref (ad 41)) (pc := 52) F (ci := 2) (T := TX2) (n := 7) rfl in_X2 3 (fm_lt rfl) dX0_widens_52 q156 39 (fm_isPl.now.lt hN 0 (fm_lt rfl)) (fm_isPl.now.mk0 (ad := ad) (dA := dA) (bk := bk) _ M15.2) rfl ?_
        refine fm_iload_n (pc := 55) F dX0_widens_55 1 rfl ?_
        obtain ⟨b18, hf⟩ := fm_b_inv hf
        refine fm_iald (pc := 56) F dX0_widens_56 41 (fm_isPl.now.lt hN 2 (fm_lt rfl)) (fm_isPl.now.mk2 (ad := ad) (dA := dA) (bk := bk) _ M15.2) b18 ?_
        refine fm_topi (fun x19 ex19 => ?_)
        replace hf := fm_let_inv ex19 hf
        refine fm_istore_n (lv' := [(3, .int x19), (0, .ref (ad 0)), (1, .int l1), (2, .int l2)]) (pc := 57) F dX0_widens_57 rfl (fm_lt rfl) rfl ?_
        refine fm_aload_n (pc := 58) F dX0_widens_58 1 rfl ?_
        refine fm_get (v := .ref (ad 39)) (pc := 59) F (ci := 0) (T := TX0) (n := 19) rfl in_X0 3 (fm_lt rfl) dX0_widens_59 q272 0 (fm_ltN hN rfl) rfl rfl ?_
        refine fm_getN (v := .ref (ad 41)) (pc := 62) F (ci := 2) (T := TX2) (n := 7) rfl in_X2 3 (fm_lt rfl) dX0_widens_62 q156 39 (fm_isPl.now.lt hN 0 (fm_lt rfl)) (fm_isPl.now.mk0 (ad := ad) (dA := dA) (bk := bk) _ M15.2) rfl ?_
        refine fm_iload_n (pc := 65) F dX0_widens_65 2 rfl ?_
        refine fm_iload_n (pc := 66) F dX0_widens_66 3 rfl ?_
        obtain ⟨b20, hf⟩ := fm_b_inv hf
        refine fm_iast (pc := 67) F dX0_widens_67 41 (fm_isPl.now.lt hN 2 (fm_lt rfl)) (fun _ => fm_isPl.now.mk2 (ad := ad) (dA := dA) (bk := bk) _ M15.2) b20 ?_
        refine fm_nameM (fun M21 eM21 => ?_)
        replace hf := fm_let_inv eM21 hf
        refine fm_iload_n (pc := 68) F dX0_widens_68 0 rfl ?_
        exact fm_iret (pc := 69) F E hf dX0_widens_69
      · replace hf := fm_in c13 hf
        refine fm_bipush (v := (-2)) (pc := 41) F dX0_widens_41 (by decide) ?_
        exact fm_iret (pc := 43) F E hf dX0_widens_43
    · replace hf := fm_ip c10 hf
      refine fm_iconst (v := (-1)) (pc := 18) F dX0_widens_18 (by decide) ?_
      exact fm_iret (pc := 19) F E hf dX0_widens_19
abbrev rmX0_rate : Room := { frames := 5, cells := 0, slots := 0, locals := 144 }
def fX0_rate (n bk : Nat) (M : fm_M) (l1 : Int32) (l2 : Int32) : Option (Int32 × fm_M) :=
  fm_bi (fX0_in n bk M l1 0 5) fun r1 M2 =>
  if r1 = 0 then
    some ((-1000000), M2)
  else
    fm_bi (fX0_isTown n bk M2 l2) fun r6 M7 =>
    if r6 = 0 then
      some ((-1000000), M7)
    else
      fm_b l1 6 <|
      if l1 = 0 then
        fm_bi (fX3_rate n bk M7 l2) fun r13 M14 =>
        some (r13, M14)
      else if l1 = 1 then
        fm_bi (fX4_rate n bk M7 l2) fun r17 M18 =>
        some (r17, M18)
      else if l1 = 2 then
        fm_bi (fX5_rate n bk M7 l2) fun r21 M22 =>
        some (r21, M22)
      else if l1 = 3 then
        fm_bi (fX6_rate n bk M7 l2) fun r25 M26 =>
        some (r25, M26)
      else if l1 = 4 then
        fm_bi (fX7_rate n bk M7 l2) fun r29 M30 =>
        some (r29, M30)
      else 
        fm_bi (fX8_rate n bk M7 l2) fun r33 M34 =>
        some (r33, M34)
theorem hdX0_rate : yX0_rate.cls = RX0 ∧ yX0_rate.cls ≠ "java/lang/invoke/MethodHandle" ∧ yX0_rate.cls ≠ "java/lang/invoke/VarHandle" ∧ (parseMethodDescriptor yX0_rate.desc).map (fun d => d.parameters.length) = some 2 := by decide +kernel
set_option maxHeartbeats 4000000 in
theorem mX0_rate {l : Launch} {D : va_G} {dA : Nat → ClassId} {ad : Nat → Nat} {N bk : Nat} {n : Nat} (hN : 193 ≤ N) (hb : fm_isBk N bk) (inj : ∀ i j, i < N → j < N → ad i = ad j → i = j) {M M' : fm_M} {l1 : Int32} {l2 : Int32} {r : Int32} (hf : fX0_rate n bk M l1 l2 = some (r, M')) : fm_C l yX0_rate (ws_ yX0_rate cX0_rate 3 (some .int)) rmX0_rate (YC D dA N ad bk) [.ref (ad 0), .int l1, .int l2] M (some (.int r)) M' := by
  refine fm_enter (by decide) rfl (fm_le rfl) inj ?_
  intro X hXl F E
  subst hXl
  unfold fX0_rate at hf
  show fm_G X (YC D dA N ad bk) (0, 0) 3 M 0 [(0, .ref (ad 0)), (1, .int l1), (2, .int l2)] []
  refine fm_iload_n (pc := 0) F dX0_rate_0 1 rfl ?_
  refine fm_iconst (v := 0) (pc := 1) F dX0_rate_1 (by decide) ?_
  refine fm_iconst (v := 5) (pc := 2) F dX0_rate_2 (by decide) ?_
  obtain ⟨r1, M2, h3, hf⟩ := fm_bi_inv hf
  refine fm_callS (As := [.int l1, .int 0, .int 5]) (rest := []) (pc := 3) F (mX0_in hN hb F.inj h3) q339 q340 q39 q341 ⟨rfl, rfl⟩ hdX0_in.2 ⟨fm_le rfl, fm_le rfl, Nat.zero_le _, Nat.zero_le _⟩ rfl rfl (fm_le rfl) dX0_rate_3 ?_
  refine fm_if_eq (tgt := 30) (pc := 6) F dX0_rate_6 (by decide) (fun c5 => ?_) (fun c5 => ?_)
  · replace hf := fm_ip c5 hf
    refine fm_ldc (pc := 30) F dX0_rate_30 q768 ?_
    exact fm_iret (pc := 32) F E hf dX0_rate_32
  · replace hf := fm_in c5 hf
    refine fm_aload_n (pc := 9) F dX0_rate_9 0 rfl ?_
    refine fm_iload_n (pc := 10) F dX0_rate_10 2 rfl ?_
    obtain ⟨r6, M7, h8, hf⟩ := fm_bi_inv hf
    refine fm_callV (As := [.int l2]) (rest := []) (pc := 11) F (ci := 0) 0 (fm_ltN hN rfl) rfl rfl (mX0_isTown hN hb F.inj h8) q578 q580 qs9 q39 q581 ⟨rfl, rfl⟩ hdX0_isTown ⟨fm_le rfl, fm_le rfl, Nat.zero_le _, Nat.zero_le _⟩ rfl rfl (fm_le rfl) dX0_rate_11 ?_
    refine fm_if_eq (tgt := 30) (pc := 14) F dX0_rate_14 (by decide) (fun c10 => ?_) (fun c10 => ?_)
    · replace hf := fm_ip c10 hf
      refine fm_ldc (pc := 30) F dX0_rate_30 q768 ?_
      exact fm_iret (pc := 32) F E hf dX0_rate_32
    · replace hf := fm_in c10 hf
      refine fm_aload_n (pc := 17) F dX0_rate_17 0 rfl ?_
      refine fm_get (v := .ref (ad 11)) (pc := 18) F (ci := 0) (T := TX0) (n := 19) rfl in_X0 18 (fm_lt rfl) dX0_rate_18 q295 0 (fm_ltN hN rfl) rfl rfl ?_
      refine fm_iload_n (pc := 21) F dX0_rate_21 1 rfl ?_
      obtain ⟨b11, hf⟩ := fm_b_inv hf
      refine fm_aald (pc := 22) F dX0_rate_22 11 (fm_ltN hN rfl) 4 (fun j => 12 + j) rfl rfl rfl b11 ?_
      refine fm_iload_n (pc := 23) F dX0_rate_23 2 rfl ?_
      rcases Decidable.em (l1 = 0) with c12 | c12
      · replace hf := fm_ip c12 hf
        obtain ⟨r13, M14, h15, hf⟩ := fm_bi_inv hf
        rw [show (12 + l1.toNatClampNeg) = 12 from by rw [c12]; rfl]
        refine fm_callV (As := [.int l2]) (rest := []) (pc := 24) F (ci := 3) 12 (fm_ltN hN rfl) rfl rfl (mX3_rate_12 hN hb F.inj h15) q737 q738 q739 q42 q767 ⟨rfl, rfl⟩ hdX3_rate ⟨fm_le rfl, fm_le rfl, fm_le rfl, fm_le rfl⟩ rfl rfl (fm_le rfl) dX0_rate_24 ?_
        refine fm_goto (tgt := 32) (pc := 27) F dX0_rate_27 (by decide) ?_
        exact fm_iret (pc := 32) F E hf dX0_rate_32
      replace hf := fm_in c12 hf
      rcases Decidable.em (l1 = 1) with c16 | c16
      · replace hf := fm_ip c16 hf
        obtain ⟨r17, M18, h19, hf⟩ := fm_bi_inv hf
        rw [show (12 + l1.toNatClampNeg) = 13 from by rw [c16]; rfl]
        refine fm_callO (As := [.int l2]) (rest := []) (pc := 24) F (ci := 4) 13 (fm_ltN hN rfl) rfl rfl (mX4_rate_13 hN hb F.inj h19) q737 q740 q738 q752 q753 q43 q754 q767 ⟨rfl, rfl⟩ hdX3_rate.2 ⟨fm_le rfl, fm_le rfl, fm_le rfl, fm_le rfl⟩ rfl rfl (fm_le rfl) dX0_rate_24 ?_
        refine fm_goto (tgt := 32) (pc := 27) F dX0_rate_27 (by decide) ?_
        exact fm_iret (pc := 32) F E hf dX0_rate_32
      replace hf := fm_in c16 hf
      rcases Decidable.em (l1 = 2) with c20 | c20
      · replace hf := fm_ip c20 hf
        obtain ⟨r21, M22, h23, hf⟩ := fm_bi_inv hf
        rw [show (12 + l1.toNatClampNeg) = 14 from by rw [c20]; rfl]
        refine fm_callO (As := [.int l2]) (rest := []) (pc := 24) F (ci := 5) 14 (fm_ltN hN rfl) rfl rfl (mX5_rate_14 hN hb F.inj h23) q737 q740 q738 q746 q747 q44 q748 q767 ⟨rfl, rfl⟩ hdX3_rate.2 ⟨fm_le rfl, fm_le rfl, fm_le rfl, fm_le rfl⟩ rfl rfl (fm_le rfl) dX0_rate_24 ?_
        refine fm_goto (tgt := 32) (pc := 27) F dX0_rate_27 (by decide) ?_
        exact fm_iret (pc := 32) F E hf dX0_rate_32
      replace hf := fm_in c20 hf
      rcases Decidable.em (l1 = 3) with c24 | c24
      · replace hf := fm_ip c24 hf
        obtain ⟨r25, M26, h27, hf⟩ := fm_bi_inv hf
        rw [show (12 + l1.toNatClampNeg) = 15 from by rw [c24]; rfl]
        refine fm_callO (As := [.int l2]) (rest := []) (pc := 24) F (ci := 6) 15 (fm_ltN hN rfl) rfl rfl (mX6_rate_15 hN hb F.inj h27) q737 q740 q738 q762 q763 q45 q764 q767 ⟨rfl, rfl⟩ hdX3_rate.2 ⟨fm_le rfl, fm_le rfl, fm_le rfl, fm_le rfl⟩ rfl rfl (fm_le rfl) dX0_rate_24 ?_
        refine fm_goto (tgt := 32) (pc := 27) F dX0_rate_27 (by decide) ?_
        exact fm_iret (pc := 32) F E hf dX0_rate_32
      replace hf := fm_in c24 hf
      rcases Decidable.em (l1 = 4) with c28 | c28
      · replace hf := fm_ip c28 hf
        obtain ⟨r29, M30, h31, hf⟩ := fm_bi_inv hf
        rw [show (12 + l1.toNatClampNeg) = 16 from by rw [c28]; rfl]
        refine fm_callO (As := [.int l2]) (rest := []) (pc := 24) F (ci := 7) 16 (fm_ltN hN rfl) rfl rfl (mX7_rate_16 hN hb F.inj h31) q737 q740 q738 q757 q758 q46 q759 q767 ⟨rfl, rfl⟩ hdX3_rate.2 ⟨fm_le rfl, fm_le rfl, fm_le rfl, fm_le rfl⟩ rfl rfl (fm_le rfl) dX0_rate_24 ?_
        refine fm_goto (tgt := 32) (pc := 27) F dX0_rate_27 (by decide) ?_
        exact fm_iret (pc := 32) F E hf dX0_rate_32
      replace hf := fm_in c28 hf
      have nc12 : l1.toInt ≠ 0 := fm_ne c12
      have nc16 : l1.toInt ≠ 1 := fm_ne c16
      have nc20 : l1.toInt ≠ 2 := fm_ne c20
      have nc24 : l1.toInt ≠ 3 := fm_ne c24
      have nc28 : l1.toInt ≠ 4 := fm_ne c28
      have c32 : l1 = 5 := fm_eq5 b11 nc12 nc16 nc20 nc24 nc28
      obtain ⟨r33, M34, h35, hf⟩ := fm_bi_inv hf
      rw [show (12 + l1.toNatClampNeg) = 17 from by rw [c32]; rfl]
      refine fm_callO (As := [.int l2]) (rest := []) (pc := 24) F (ci := 8) 17 (fm_ltN hN rfl) rfl rfl (mX8_rate_17 hN hb F.inj h35) q737 q740 q738 q741 q742 q47 q743 q767 ⟨rfl, rfl⟩ hdX3_rate.2 ⟨fm_le rfl, fm_le rfl, fm_le rfl, fm_le rfl⟩ rfl rfl (fm_le rfl) dX0_rate_24 ?_
      refine fm_goto (tgt := 32) (pc := 27) F dX0_rate_27 (by decide) ?_
      exact fm_iret (pc := 32) F E hf dX0_rate_32
abbrev rmJ2_coder : Room := { frames := 2, cells := 0, slots := 0, locals := 80 }
def fJ2_coder (n bk : Nat) (M : fm_M) : Option (Int32 × fm_M) :=
  if (1 : Int32) = 0 then
    none
  else
    some (0, M)
theorem hdJ2_coder : yJ2_coder.cls = RJ2 ∧ yJ2_coder.cls ≠ "java/lang/invoke/MethodHandle" ∧ yJ2_coder.cls ≠ "java/lang/invoke/VarHandle" ∧ (parseMethodDescriptor yJ2_coder.desc).map (fun d => d.parameters.length) = some 0 := by decide +kernel
set_option maxHeartbeats 4000000 in
theorem mJ2_coder {l : Launch} {D : va_G} {dA : Nat → ClassId} {ad : Nat → Nat} {N bk : Nat} {n : Nat} (hN : 193 ≤ N) (hb : fm_isBk N bk) (inj : ∀ i j, i < N → j < N → ad i = ad j → i = j) {M M' : fm_M} {r : Int32} (hf : fJ2_coder n bk M = some (r, M')) : fm_C l yJ2_coder (ws_ yJ2_coder cJ2_coder 1 (some .byte)) rmJ2_coder (YC D dA N ad bk) [.ref (dA 6)] M (some (.int r)) M' := by
  refine fm_enter (by decide) rfl (fm_le rfl) inj ?_
  intro X hXl F E
  subst hXl
  unfold fJ2_coder at hf
  show fm_G X (YC D dA N ad bk) (0, 0) 1 M 0 [(0, .ref (dA 6))] []
  refine fm_getsC (pc := 0) F dJ2_coder_0 q407 ?_
  refine fm_if_eq (tgt := 13) (pc := 3) F dJ2_coder_3 (by decide) (fun c1 => ?_) (fun c1 => ?_)
  · replace hf := fm_ip c1 hf
    cases hf
  · replace hf := fm_in c1 hf
    refine fm_aload_n (pc := 6) F dJ2_coder_6 0 rfl ?_
    refine fm_getSC (pc := 7) F dJ2_coder_7 q1107 ?_
    refine fm_goto (tgt := 14) (pc := 10) F dJ2_coder_10 (by decide) ?_
    exact fm_zretB (pc := 14) F E hf dJ2_coder_14
abbrev rmJ2_isLatin1 : Room := { frames := 2, cells := 0, slots := 0, locals := 80 }
def fJ2_isLatin1 (n bk : Nat) (M : fm_M) : Option (Int32 × fm_M) :=
  if (1 : Int32) = 0 then
    some (0, M)
  else
    if (0 : Int32) = 0 then
      some (1, M)
    else
      some (0, M)
theorem hdJ2_isLatin1 : yJ2_isLatin1.cls = RJ2 ∧ yJ2_isLatin1.cls ≠ "java/lang/invoke/MethodHandle" ∧ yJ2_isLatin1.cls ≠ "java/lang/invoke/VarHandle" ∧ (parseMethodDescriptor yJ2_isLatin1.desc).map (fun d => d.parameters.length) = some 0 := by decide +kernel
set_option maxHeartbeats 4000000 in
theorem mJ2_isLatin1 {l : Launch} {D : va_G} {dA : Nat → ClassId} {ad : Nat → Nat} {N bk : Nat} {n : Nat} (hN : 193 ≤ N) (hb : fm_isBk N bk) (inj : ∀ i j, i < N → j < N → ad i = ad j → i = j) {M M' : fm_M} {r : Int32} (hf : fJ2_isLatin1 n bk M = some (r, M')) : fm_C l yJ2_isLatin1 (ws_ yJ2_isLatin1 cJ2_isLatin1 1 (some .boolean)) rmJ2_isLatin1 (YC D dA N ad bk) [.ref (dA 6)] M (some (.int r)) M' := by
  refine fm_enter (by decide) rfl (fm_le rfl) inj ?_
  intro X hXl F E
  subst hXl
  unfold fJ2_isLatin1 at hf
  show fm_G X (YC D dA N ad bk) (0, 0) 1 M 0 [(0, .ref (dA 6))] []
  refine fm_getsC (pc := 0) F dJ2_isLatin1_0 q407 ?_
  refine fm_if_eq (tgt := 17) (pc := 3) F dJ2_isLatin1_3 (by decide) (fun c1 => ?_) (fun c1 => ?_)
  · replace hf := fm_ip c1 hf
    refine fm_iconst (v := 0) (pc := 17) F dJ2_isLatin1_17 (by decide) ?_
    exact fm_zret (pc := 18) F E (Or.inl rfl) hf dJ2_isLatin1_18
  · replace hf := fm_in c1 hf
    refine fm_aload_n (pc := 6) F dJ2_isLatin1_6 0 rfl ?_
    refine fm_getSC (pc := 7) F dJ2_isLatin1_7 q1107 ?_
    refine fm_if_ne (tgt := 17) (pc := 10) F dJ2_isLatin1_10 (by decide) (fun c2 => ?_) (fun c2 => ?_)
    · replace hf := fm_in c2 hf
      refine fm_iconst (v := 0) (pc := 17) F dJ2_isLatin1_17 (by decide) ?_
      exact fm_zret (pc := 18) F E (Or.inl rfl) hf dJ2_isLatin1_18
    · replace hf := fm_ip c2 hf
      refine fm_iconst (v := 1) (pc := 13) F dJ2_isLatin1_13 (by decide) ?_
      refine fm_goto (tgt := 18) (pc := 14) F dJ2_isLatin1_14 (by decide) ?_
      exact fm_zret (pc := 18) F E (Or.inr rfl) hf dJ2_isLatin1_18
abbrev rmJ2_length : Room := { frames := 3, cells := 0, slots := 0, locals := 100 }
def fJ2_length (n bk : Nat) (M : fm_M) : Option (Int32 × fm_M) :=
  fm_bi (fJ2_coder n bk M) fun r1 M2 =>
  some ((3 >>> (r1 &&& 31)), M2)
theorem hdJ2_length : yJ2_length.cls = RJ2 ∧ yJ2_length.cls ≠ "java/lang/invoke/MethodHandle" ∧ yJ2_length.cls ≠ "java/lang/invoke/VarHandle" ∧ (parseMethodDescriptor yJ2_length.desc).map (fun d => d.parameters.length) = some 0 := by decide +kernel
set_option maxHeartbeats 4000000 in
theorem mJ2_length {l : Launch} {D : va_G} {dA : Nat → ClassId} {ad : Nat → Nat} {N bk : Nat} {n : Nat} (hN : 193 ≤ N) (hb : fm_isBk N bk) (inj : ∀ i j, i < N → j < N → ad i = ad j → i = j) {M M' : fm_M} {r : Int32} (hf : fJ2_length n bk M = some (r, M')) : fm_C l yJ2_length (ws_ yJ2_length cJ2_length 1 (some .int)) rmJ2_length (YC D dA N ad bk) [.ref (dA 6)] M (some (.int r)) M' := by
  refine fm_enter (by decide) rfl (fm_le rfl) inj ?_
  intro X hXl F E
  subst hXl
  unfold fJ2_length at hf
  show fm_G X (YC D dA N ad bk) (0, 0) 1 M 0 [(0, .ref (dA 6))] []
  refine fm_aload_n (pc := 0) F dJ2_length_0 0 rfl ?_
  refine fm_getSV (pc := 1) F dJ2_length_1 q1108 ?_
  refine fm_tlen (pc := 4) F dJ2_length_4 ?_
  refine fm_aload_n (pc := 5) F dJ2_length_5 0 rfl ?_
  obtain ⟨r1, M2, h3, hf⟩ := fm_bi_inv hf
  refine fm_callQ (As := []) (rest := [.int 3]) (pc := 6) F (mJ2_coder hN hb F.inj h3) q413 q414 q415 q52 q416 ⟨rfl, rfl⟩ hdJ2_coder ⟨fm_le rfl, fm_le rfl, Nat.zero_le _, Nat.zero_le _⟩ rfl rfl (fm_le rfl) dJ2_length_6 ?_
  refine fm_ishr (pc := 9) F dJ2_length_9 ?_
  exact fm_iret (pc := 10) F E hf dJ2_length_10
abbrev rmJ3_canEncode : Room := { frames := 2, cells := 0, slots := 0, locals := 80 }
def fJ3_canEncode (n bk : Nat) (M : fm_M) (l0 : Int32) : Option (Int32 × fm_M) :=
  if l0 < 0 then
    some (0, M)
  else
    if 255 < l0 then
      some (0, M)
    else
      some (1, M)
theorem hdJ3_canEncode : yJ3_canEncode.cls = RJ3 ∧ yJ3_canEncode.cls ≠ "java/lang/invoke/MethodHandle" ∧ yJ3_canEncode.cls ≠ "java/lang/invoke/VarHandle" ∧ (parseMethodDescriptor yJ3_canEncode.desc).map (fun d => d.parameters.length) = some 1 := by decide +kernel
set_option maxHeartbeats 4000000 in
theorem mJ3_canEncode {l : Launch} {D : va_G} {dA : Nat → ClassId} {ad : Nat → Nat} {N bk : Nat} {n : Nat} (hN : 193 ≤ N) (hb : fm_isBk N bk) (inj : ∀ i j, i < N → j < N → ad i = ad j → i = j) {M M' : fm_M} {l0 : Int32} {r : Int32} (hf : fJ3_canEncode n bk M l0 = some (r, M')) : fm_C l yJ3_canEncode (ws_ yJ3_canEncode cJ3_canEncode 1 (some .boolean)) rmJ3_canEncode (YC D dA N ad bk) [.int l0] M (some (.int r)) M' := by
  refine fm_enter (by decide) rfl (fm_le rfl) inj ?_
  intro X hXl F E
  subst hXl
  unfold fJ3_canEncode at hf
  show fm_G X (YC D dA N ad bk) (0, 0) 1 M 0 [(0, .int l0)] []
  refine fm_iload_n (pc := 0) F dJ3_canEncode_0 0 rfl ?_
  refine fm_if_lt (tgt := 15) (pc := 1) F dJ3_canEncode_1 (by decide) (fun c1 => ?_) (fun c1 => ?_)
  · replace hf := fm_ip c1 hf
    refine fm_iconst (v := 0) (pc := 15) F dJ3_canEncode_15 (by decide) ?_
    exact fm_zret (pc := 16) F E (Or.inl rfl) hf dJ3_canEncode_16
  · replace hf := fm_in c1 hf
    refine fm_iload_n (pc := 4) F dJ3_canEncode_4 0 rfl ?_
    refine fm_sipush (v := 255) (pc := 5) F dJ3_canEncode_5 (by decide) ?_
    refine fm_icmp_gt (tgt := 15) (pc := 8) F dJ3_canEncode_8 (by decide) (fun c2 => ?_) (fun c2 => ?_)
    · replace hf := fm_ip c2 hf
      refine fm_iconst (v := 0) (pc := 15) F dJ3_canEncode_15 (by decide) ?_
      exact fm_zret (pc := 16) F E (Or.inl rfl) hf dJ3_canEncode_16
    · replace hf := fm_in c2 hf
      refine fm_iconst (v := 1) (pc := 11) F dJ3_canEncode_11 (by decide) ?_
      refine fm_goto (tgt := 16) (pc := 12) F dJ3_canEncode_12 (by decide) ?_
      exact fm_zret (pc := 16) F E (Or.inr rfl) hf dJ3_canEncode_16
abbrev rmJ3_indexOfChar : Room := { frames := 2, cells := 0, slots := 0, locals := 80 }
def fJ3_indexOfChar_7 (n bk : Nat) : Nat → fm_M → Int32 → Int32 → Int32 → Option (Int32 × fm_M)
  | 0, _, _, _, _ => none
  | k + 1, M, l3, l4, l5 =>
    if l3 ≤ l5 then
      some ((-1), M)
    else
      fm_b l5 3 <|
      if (fm_tdb l5.toNatClampNeg) = l4 then
        some (l5, M)
      else
        fJ3_indexOfChar_7 n bk k M l3 l4 (l5 + 1)
def fJ3_indexOfChar (n bk : Nat) (M : fm_M) (l1 : Int32) (l2 : Int32) (l3 : Int32) : Option (Int32 × fm_M) :=
  fJ3_indexOfChar_7 n bk n M l3 l1.toInt8.toInt32 l2
theorem hdJ3_indexOfChar : yJ3_indexOfChar.cls = RJ3 ∧ yJ3_indexOfChar.cls ≠ "java/lang/invoke/MethodHandle" ∧ yJ3_indexOfChar.cls ≠ "java/lang/invoke/VarHandle" ∧ (parseMethodDescriptor yJ3_indexOfChar.desc).map (fun d => d.parameters.length) = some 4 := by decide +kernel
set_option maxHeartbeats 4000000 in
theorem wJ3_indexOfChar_7 {X : fm_X} {D : va_G} {dA : Nat → ClassId} {ad : Nat → Nat} {N bk : Nat} {n : Nat} (hN : 193 ≤ N) (hb : fm_isBk N bk) {r : Int32} (F : fm_F X (YC D dA N ad bk) cJ3_indexOfChar 6 RJ3 rmJ3_indexOfChar) {M' : fm_M} (E : fm_E X (YC D dA N ad bk) (some (.int r)) M' (some .int)) : ∀ (k : Nat) (M : fm_M) (l3 : Int32) (l4 : Int32) (l5 : Int32), fJ3_indexOfChar_7 n bk k M l3 l4 l5 = some (r, M') → fm_G X (YC D dA N ad bk) (0, 0) 6 M 7 [(0, .ref (dA 7)), (3, .int l3), (4, .int l4), (5, .int l5)] [] := by
  intro k
  induction k with
  | zero =>
    intro M l3 l4 l5 hf
    rw [fJ3_indexOfChar_7] at hf
    cases hf
  | succ k ih =>
    intro M l3 l4 l5 hf
    rw [fJ3_indexOfChar_7] at hf
    refine fm_iload (pc := 7) F dJ3_indexOfChar_7 3 rfl ?_
    refine fm_iload_n (pc := 9) F dJ3_indexOfChar_9 1 rfl ?_
    refine fm_icmp_ge (tgt := 31) (pc := 10) F dJ3_indexOfChar_10 (by decide) (fun c1 => ?_) (fun c1 => ?_)
    · replace hf := fm_ip c1 hf
      refine fm_iconst (v := (-1)) (pc := 31) F dJ3_indexOfChar_31 (by decide) ?_
      exact fm_iret (pc := 32) F E hf dJ3_indexOfChar_32
    · replace hf := fm_in c1 hf
      refine fm_aload_n (pc := 13) F dJ3_indexOfChar_13 0 rfl ?_
      refine fm_iload (pc := 14) F dJ3_indexOfChar_14 3 rfl ?_
      obtain ⟨b2, hf⟩ := fm_b_inv hf
      refine fm_tb (pc := 16) F dJ3_indexOfChar_16 b2 ?_
      refine fm_iload (pc := 17) F dJ3_indexOfChar_17 2 rfl ?_
      refine fm_icmp_ne (tgt := 25) (pc := 19) F dJ3_indexOfChar_19 (by decide) (fun c3 => ?_) (fun c3 => ?_)
      · replace hf := fm_in c3 hf
        refine fm_iinc (v := (l5 + 1)) (lv' := [(5, .int (l5 + 1)), (0, .ref (dA 7)), (3, .int l3), (4, .int l4)]) (pc := 25) F dJ3_indexOfChar_25 3 rfl rfl (fm_lt rfl) rfl ?_
        refine fm_goto (tgt := 7) (pc := 28) F dJ3_indexOfChar_28 (by decide) ?_
        refine fm_pick [1, 2, 3, 0] rfl ?_
        exact ih _ _ _ _ hf
      · replace hf := fm_ip c3 hf
        refine fm_iload (pc := 22) F dJ3_indexOfChar_22 3 rfl ?_
        exact fm_iret (pc := 24) F E hf dJ3_indexOfChar_24
set_option maxHeartbeats 4000000 in
theorem mJ3_indexOfChar {l : Launch} {D : va_G} {dA : Nat → ClassId} {ad : Nat → Nat} {N bk : Nat} {n : Nat} (hN : 193 ≤ N) (hb : fm_isBk N bk) (inj : ∀ i j, i < N → j < N → ad i = ad j → i = j) {M M' : fm_M} {l1 : Int32} {l2 : Int32} {l3 : Int32} {r : Int32} (hf : fJ3_indexOfChar n bk M l1 l2 l3 = some (r, M')) : fm_C l yJ3_indexOfChar (ws_ yJ3_indexOfChar cJ3_indexOfChar 6 (some .int)) rmJ3_indexOfChar (YC D dA N ad bk) [.ref (dA 7), .int l1, .int l2, .int l3] M (some (.int r)) M' := by
  refine fm_enter (by decide) rfl (fm_le rfl) inj ?_
  intro X hXl F E
  subst hXl
  unfold fJ3_indexOfChar at hf
  show fm_G X (YC D dA N ad bk) (0, 0) 6 M 0 [(0, .ref (dA 7)), (1, .int l1), (2, .int l2), (3, .int l3)] []
  refine fm_iload_n (pc := 0) F dJ3_indexOfChar_0 1 rfl ?_
  refine fm_i2b (pc := 1) F dJ3_indexOfChar_1 ?_
  refine fm_istore (lv' := [(4, .int l1.toInt8.toInt32), (0, .ref (dA 7)), (1, .int l1), (2, .int l2), (3, .int l3)]) (pc := 2) F dJ3_indexOfChar_2 (fm_lt rfl) rfl ?_
  refine fm_iload_n (pc := 4) F dJ3_indexOfChar_4 3 rfl ?_
  refine fm_istore (lv' := [(5, .int l2), (4, .int l1.toInt8.toInt32), (0, .ref (dA 7)), (1, .int l1), (2, .int l2), (3, .int l3)]) (pc := 5) F dJ3_indexOfChar_5 (fm_lt rfl) rfl ?_
  refine fm_pick [2, 5, 1, 0] rfl ?_
  exact wJ3_indexOfChar_7 hN hb F E n _ _ _ _ hf
abbrev rmJ3_indexOf : Room := { frames := 3, cells := 0, slots := 0, locals := 105 }
def fJ3_indexOf (n bk : Nat) (M : fm_M) (l1 : Int32) (l2 : Int32) (l3 : Int32) : Option (Int32 × fm_M) :=
  fm_bi (fJ3_canEncode n bk M l1) fun r1 M2 =>
  if r1 = 0 then
    some ((-1), M2)
  else
    fm_let (if l2 < 0 then 0 else l2) fun x6 =>
    fm_let (if 3 < l3 then 3 else l3) fun x7 =>
    if x6 < x7 then
      fm_bi (fJ3_indexOfChar n bk M2 l1 x6 x7) fun r9 M10 =>
      some (r9, M10)
    else
      some ((-1), M2)
theorem hdJ3_indexOf : yJ3_indexOf.cls = RJ3 ∧ yJ3_indexOf.cls ≠ "java/lang/invoke/MethodHandle" ∧ yJ3_indexOf.cls ≠ "java/lang/invoke/VarHandle" ∧ (parseMethodDescriptor yJ3_indexOf.desc).map (fun d => d.parameters.length) = some 4 := by decide +kernel
set_option maxHeartbeats 4000000 in
theorem mJ3_indexOf {l : Launch} {D : va_G} {dA : Nat → ClassId} {ad : Nat → Nat} {N bk : Nat} {n : Nat} (hN : 193 ≤ N) (hb : fm_isBk N bk) (inj : ∀ i j, i < N → j < N → ad i = ad j → i = j) {M M' : fm_M} {l1 : Int32} {l2 : Int32} {l3 : Int32} {r : Int32} (hf : fJ3_indexOf n bk M l1 l2 l3 = some (r, M')) : fm_C l yJ3_indexOf (ws_ yJ3_indexOf cJ3_indexOf 4 (some .int)) rmJ3_indexOf (YC D dA N ad bk) [.ref (dA 7), .int l1, .int l2, .int l3] M (some (.int r)) M' := by
  refine fm_enter (by decide) rfl (fm_le rfl) inj ?_
  intro X hXl F E
  subst hXl
  unfold fJ3_indexOf at hf
  show fm_G X (YC D dA N ad bk) (0, 0) 4 M 0 [(0, .ref (dA 7)), (1, .int l1), (2, .int l2), (3, .int l3)] []
  refine fm_iload_n (pc := 0) F dJ3_indexOf_0 1 rfl ?_
  obtain ⟨r1, M2, h3, hf⟩ := fm_bi_inv hf
  refine fm_callS (As := [.int l1]) (rest := []) (pc := 1) F (mJ3_canEncode hN hb F.inj h3) q420 q421 q53 q422 ⟨rfl, rfl⟩ hdJ3_canEncode.2 ⟨fm_le rfl, fm_le rfl, Nat.zero_le _, Nat.zero_le _⟩ rfl rfl (fm_le rfl) dJ3_indexOf_1 ?_
  refine fm_if_ne (tgt := 9) (pc := 4) F dJ3_indexOf_4 (by decide) (fun c5 => ?_) (fun c5 => ?_)
  · replace hf := fm_in c5 hf
    refine fm_iload_n (pc := 9) F dJ3_indexOf_9 2 rfl ?_
    refine fm_iconst (v := 0) (pc := 10) F dJ3_indexOf_10 (by decide) ?_
    refine fm_mmax (pc := 11) F q423 q257 q48 q258 ⟨fm_le rfl, fm_le rfl, Nat.zero_le _, Nat.zero_le _⟩ dJ3_indexOf_11 ?_
    refine fm_topi (fun x6 ex6 => ?_)
    replace hf := fm_let_inv ex6 hf
    refine fm_istore_n (lv' := [(2, .int x6), (0, .ref (dA 7)), (1, .int l1), (3, .int l3)]) (pc := 14) F dJ3_indexOf_14 rfl (fm_lt rfl) rfl ?_
    refine fm_iload_n (pc := 15) F dJ3_indexOf_15 3 rfl ?_
    refine fm_aload_n (pc := 16) F dJ3_indexOf_16 1 rfl ?_
    refine fm_tlen (pc := 17) F dJ3_indexOf_17 ?_
    refine fm_mmin (pc := 18) F q424 q392 q48 q393 ⟨fm_le rfl, fm_le rfl, Nat.zero_le _, Nat.zero_le _⟩ dJ3_indexOf_18 ?_
    refine fm_topi (fun x7 ex7 => ?_)
    replace hf := fm_let_inv ex7 hf
    refine fm_istore_n (lv' := [(3, .int x7), (2, .int x6), (0, .ref (dA 7)), (1, .int l1)]) (pc := 21) F dJ3_indexOf_21 rfl (fm_lt rfl) rfl ?_
    refine fm_iload_n (pc := 22) F dJ3_indexOf_22 1 rfl ?_
    refine fm_iload_n (pc := 23) F dJ3_indexOf_23 0 rfl ?_
    refine fm_icmp_lt (tgt := 29) (pc := 24) F dJ3_indexOf_24 (by decide) (fun c8 => ?_) (fun c8 => ?_)
    · replace hf := fm_ip c8 hf
      refine fm_aload_n (pc := 29) F dJ3_indexOf_29 2 rfl ?_
      refine fm_iload_n (pc := 30) F dJ3_indexOf_30 3 rfl ?_
      refine fm_iload_n (pc := 31) F dJ3_indexOf_31 1 rfl ?_
      refine fm_iload_n (pc := 32) F dJ3_indexOf_32 0 rfl ?_
      obtain ⟨r9, M10, h11, hf⟩ := fm_bi_inv hf
      refine fm_callS (As := [.ref (dA 7), .int l1, .int x6, .int x7]) (rest := []) (pc := 33) F (mJ3_indexOfChar hN hb F.inj h11) q425 q426 q53 q427 ⟨rfl, rfl⟩ hdJ3_indexOfChar.2 ⟨fm_le rfl, fm_le rfl, Nat.zero_le _, Nat.zero_le _⟩ rfl rfl (fm_le rfl) dJ3_indexOf_33 ?_
      exact fm_iret (pc := 36) F E hf dJ3_indexOf_36
    · replace hf := fm_in c8 hf
      refine fm_iconst (v := (-1)) (pc := 27) F dJ3_indexOf_27 (by decide) ?_
      exact fm_iret (pc := 28) F E hf dJ3_indexOf_28
  · replace hf := fm_ip c5 hf
    refine fm_iconst (v := (-1)) (pc := 7) F dJ3_indexOf_7 (by decide) ?_
    exact fm_iret (pc := 8) F E hf dJ3_indexOf_8
abbrev rmJ2_indexOf_2 : Room := { frames := 4, cells := 0, slots := 0, locals := 128 }
def fJ2_indexOf_2 (n bk : Nat) (M : fm_M) (l1 : Int32) (l2 : Int32) : Option (Int32 × fm_M) :=
  fm_bi (fJ2_isLatin1 n bk M) fun r1 M2 =>
  if r1 = 0 then
    none
  else
    fm_bi (fJ2_length n bk M2) fun r6 M7 =>
    fm_bi (fJ3_indexOf n bk M7 l1 l2 r6) fun r10 M11 =>
    some (r10, M11)
theorem hdJ2_indexOf_2 : yJ2_indexOf_2.cls = RJ2 ∧ yJ2_indexOf_2.cls ≠ "java/lang/invoke/MethodHandle" ∧ yJ2_indexOf_2.cls ≠ "java/lang/invoke/VarHandle" ∧ (parseMethodDescriptor yJ2_indexOf_2.desc).map (fun d => d.parameters.length) = some 2 := by decide +kernel
set_option maxHeartbeats 4000000 in
theorem mJ2_indexOf_2 {l : Launch} {D : va_G} {dA : Nat → ClassId} {ad : Nat → Nat} {N bk : Nat} {n : Nat} (hN : 193 ≤ N) (hb : fm_isBk N bk) (inj : ∀ i j, i < N → j < N → ad i = ad j → i = j) {M M' : fm_M} {l1 : Int32} {l2 : Int32} {r : Int32} (hf : fJ2_indexOf_2 n bk M l1 l2 = some (r, M')) : fm_C l yJ2_indexOf_2 (ws_ yJ2_indexOf_2 cJ2_indexOf_2 3 (some .int)) rmJ2_indexOf_2 (YC D dA N ad bk) [.ref (dA 6), .int l1, .int l2] M (some (.int r)) M' := by
  refine fm_enter (by decide) rfl (fm_le rfl) inj ?_
  intro X hXl F E
  subst hXl
  unfold fJ2_indexOf_2 at hf
  show fm_G X (YC D dA N ad bk) (0, 0) 3 M 0 [(0, .ref (dA 6)), (1, .int l1), (2, .int l2)] []
  refine fm_aload_n (pc := 0) F dJ2_indexOf_2_0 0 rfl ?_
  obtain ⟨r1, M2, h3, hf⟩ := fm_bi_inv hf
  refine fm_callQ (As := []) (rest := []) (pc := 1) F (mJ2_isLatin1 hN hb F.inj h3) q403 q404 q405 q52 q406 ⟨rfl, rfl⟩ hdJ2_isLatin1 ⟨fm_le rfl, fm_le rfl, Nat.zero_le _, Nat.zero_le _⟩ rfl rfl (fm_le rfl) dJ2_indexOf_2_1 ?_
  refine fm_if_eq (tgt := 23) (pc := 4) F dJ2_indexOf_2_4 (by decide) (fun c5 => ?_) (fun c5 => ?_)
  · replace hf := fm_ip c5 hf
    cases hf
  · replace hf := fm_in c5 hf
    refine fm_aload_n (pc := 7) F dJ2_indexOf_2_7 0 rfl ?_
    refine fm_getSV (pc := 8) F dJ2_indexOf_2_8 q1108 ?_
    refine fm_iload_n (pc := 11) F dJ2_indexOf_2_11 1 rfl ?_
    refine fm_iload_n (pc := 12) F dJ2_indexOf_2_12 2 rfl ?_
    refine fm_aload_n (pc := 13) F dJ2_indexOf_2_13 0 rfl ?_
    obtain ⟨r6, M7, h8, hf⟩ := fm_bi_inv hf
    refine fm_callQ (As := []) (rest := [.int l2, .int l1, .ref (dA 7)]) (pc := 14) F (mJ2_length hN hb F.inj h8) q409 q410 q411 q52 q412 ⟨rfl, rfl⟩ hdJ2_length ⟨fm_le rfl, fm_le rfl, Nat.zero_le _, Nat.zero_le _⟩ rfl rfl (fm_le rfl) dJ2_indexOf_2_14 ?_
    obtain ⟨r10, M11, h12, hf⟩ := fm_bi_inv hf
    refine fm_callS (As := [.ref (dA 7), .int l1, .int l2, .int r6]) (rest := []) (pc := 17) F (mJ3_indexOf hN hb F.inj h12) q417 q418 q53 q419 ⟨rfl, rfl⟩ hdJ3_indexOf.2 ⟨fm_le rfl, fm_le rfl, Nat.zero_le _, Nat.zero_le _⟩ rfl rfl (fm_le rfl) dJ2_indexOf_2_17 ?_
    refine fm_goto (tgt := 36) (pc := 20) F dJ2_indexOf_2_20 (by decide) ?_
    exact fm_iret (pc := 36) F E hf dJ2_indexOf_2_36
abbrev rmJ2_indexOf : Room := { frames := 5, cells := 0, slots := 0, locals := 150 }
def fJ2_indexOf (n bk : Nat) (M : fm_M) (l1 : Int32) : Option (Int32 × fm_M) :=
  fm_bi (fJ2_indexOf_2 n bk M l1 0) fun r1 M2 =>
  some (r1, M2)
theorem hdJ2_indexOf : yJ2_indexOf.cls = RJ2 ∧ yJ2_indexOf.cls ≠ "java/lang/invoke/MethodHandle" ∧ yJ2_indexOf.cls ≠ "java/lang/invoke/VarHandle" ∧ (parseMethodDescriptor yJ2_indexOf.desc).map (fun d => d.parameters.length) = some 1 := by decide +kernel
set_option maxHeartbeats 4000000 in
theorem mJ2_indexOf {l : Launch} {D : va_G} {dA : Nat → ClassId} {ad : Nat → Nat} {N bk : Nat} {n : Nat} (hN : 193 ≤ N) (hb : fm_isBk N bk) (inj : ∀ i j, i < N → j < N → ad i = ad j → i = j) {M M' : fm_M} {l1 : Int32} {r : Int32} (hf : fJ2_indexOf n bk M l1 = some (r, M')) : fm_C l yJ2_indexOf (ws_ yJ2_indexOf cJ2_indexOf 2 (some .int)) rmJ2_indexOf (YC D dA N ad bk) [.ref (dA 6), .int l1] M (some (.int r)) M' := by
  refine fm_enter (by decide) rfl (fm_le rfl) inj ?_
  intro X hXl F E
  subst hXl
  unfold fJ2_indexOf at hf
  show fm_G X (YC D dA N ad bk) (0, 0) 2 M 0 [(0, .ref (dA 6)), (1, .int l1)] []
  refine fm_aload_n (pc := 0) F dJ2_indexOf_0 0 rfl ?_
  refine fm_iload_n (pc := 1) F dJ2_indexOf_1 1 rfl ?_
  refine fm_iconst (v := 0) (pc := 2) F dJ2_indexOf_2 (by decide) ?_
  obtain ⟨r1, M2, h3, hf⟩ := fm_bi_inv hf
  refine fm_callQ (As := [.int l1, .int 0]) (rest := []) (pc := 3) F (mJ2_indexOf_2 hN hb F.inj h3) q399 q400 q401 q52 q402 ⟨rfl, rfl⟩ hdJ2_indexOf_2 ⟨fm_le rfl, fm_le rfl, Nat.zero_le _, Nat.zero_le _⟩ rfl rfl (fm_le rfl) dJ2_indexOf_3 ?_
  exact fm_iret (pc := 6) F E hf dJ2_indexOf_6
abbrev rmX10_here : Room := { frames := 2, cells := 0, slots := 0, locals := 80 }
def fX10_here (n bk : Nat) (rd0 : Nat) (M : fm_M) : Option (Int32 × fm_M) :=
  if (M.1 0 10) ≤ (M.1 rd0 0) then
    some ((-1), M)
  else
    fm_b (M.1 rd0 0) 200 <|
    some (((M.1 6 (M.1 rd0 0).toNatClampNeg) &&& 255), M)
theorem hdX10_here : yX10_here.cls = RX10 ∧ yX10_here.cls ≠ "java/lang/invoke/MethodHandle" ∧ yX10_here.cls ≠ "java/lang/invoke/VarHandle" ∧ (parseMethodDescriptor yX10_here.desc).map (fun d => d.parameters.length) = some 0 := by decide +kernel
set_option maxHeartbeats 4000000 in
theorem mX10_here {l : Launch} {D : va_G} {dA : Nat → ClassId} {ad : Nat → Nat} {N bk : Nat} {n : Nat} {rd0 : Nat} (hrd0 : fm_isRd N rd0) (hN : 193 ≤ N) (hb : fm_isBk N bk) (inj : ∀ i j, i < N → j < N → ad i = ad j → i = j) {M M' : fm_M} {r : Int32} (hf : fX10_here n bk rd0 M = some (r, M')) : fm_C l yX10_here (ws_ yX10_here cX10_here 1 (some .int)) rmX10_here (YC D dA N ad bk) [.ref (ad rd0)] M (some (.int r)) M' := by
  refine fm_enter (by decide) rfl (fm_le rfl) inj ?_
  intro X hXl F E
  subst hXl
  unfold fX10_here at hf
  show fm_G X (YC D dA N ad bk) (0, 0) 1 M 0 [(0, .ref (ad rd0))] []
  refine fm_aload_n (pc := 0) F dX10_here_0 0 rfl ?_
  refine fm_get (v := .int (M.1 rd0 0)) (pc := 1) F (ci := 10) (T := TX10) (n := 6) rfl in_X10 0 (fm_lt rfl) dX10_here_1 q359 rd0 (hrd0.lt 0 (fm_lt rfl)) (hrd0.mk0 (ad := ad) (dA := dA) (bk := bk) _ M.2) rfl ?_
  refine fm_aload_n (pc := 4) F dX10_here_4 0 rfl ?_
  refine fm_get (v := .ref (ad 0)) (pc := 5) F (ci := 10) (T := TX10) (n := 6) rfl in_X10 5 (fm_lt rfl) dX10_here_5 q364 rd0 (hrd0.lt 0 (fm_lt rfl)) (hrd0.mk0 (ad := ad) (dA := dA) (bk := bk) _ M.2) rfl ?_
  refine fm_getN (v := .int (M.1 0 10)) (pc := 8) F (ci := 0) (T := TX0) (n := 19) rfl in_X0 10 (fm_lt rfl) dX10_here_8 q280 0 (fm_ltN hN rfl) rfl rfl ?_
  refine fm_icmp_ge (tgt := 33) (pc := 11) F dX10_here_11 (by decide) (fun c1 => ?_) (fun c1 => ?_)
  · replace hf := fm_ip c1 hf
    refine fm_iconst (v := (-1)) (pc := 33) F dX10_here_33 (by decide) ?_
    exact fm_iret (pc := 34) F E hf dX10_here_34
  · replace hf := fm_in c1 hf
    refine fm_aload_n (pc := 14) F dX10_here_14 0 rfl ?_
    refine fm_get (v := .ref (ad 0)) (pc := 15) F (ci := 10) (T := TX10) (n := 6) rfl in_X10 5 (fm_lt rfl) dX10_here_15 q364 rd0 (hrd0.lt 0 (fm_lt rfl)) (hrd0.mk0 (ad := ad) (dA := dA) (bk := bk) _ M.2) rfl ?_
    refine fm_getN (v := .ref (ad 6)) (pc := 18) F (ci := 0) (T := TX0) (n := 19) rfl in_X0 9 (fm_lt rfl) dX10_here_18 q278 0 (fm_ltN hN rfl) rfl rfl ?_
    refine fm_aload_n (pc := 21) F dX10_here_21 0 rfl ?_
    refine fm_get (v := .int (M.1 rd0 0)) (pc := 22) F (ci := 10) (T := TX10) (n := 6) rfl in_X10 0 (fm_lt rfl) dX10_here_22 q359 rd0 (hrd0.lt 0 (fm_lt rfl)) (hrd0.mk0 (ad := ad) (dA := dA) (bk := bk) _ M.2) rfl ?_
    obtain ⟨b2, hf⟩ := fm_b_inv hf
    refine fm_bald (pc := 25) F dX10_here_25 6 (fm_ltN hN rfl) rfl b2 ?_
    refine fm_sipush (v := 255) (pc := 26) F dX10_here_26 (by decide) ?_
    refine fm_iand (pc := 29) F dX10_here_29 ?_
    refine fm_goto (tgt := 34) (pc := 30) F dX10_here_30 (by decide) ?_
    exact fm_iret (pc := 34) F E hf dX10_here_34
abbrev rmX10_step : Room := { frames := 6, cells := 0, slots := 0, locals := 171 }
def fX10_step_63 (n bk : Nat) (rd0 : Nat) : Nat → fm_M → Int32 → Option (fm_M)
  | 0, _, _ => none
  | k + 1, M, l1 =>
    fm_bi (fX10_here n bk rd0 M) fun r1 M2 =>
    fm_bi (fX0_in n bk M2 r1 48 57) fun r5 M6 =>
    if r5 = 0 then
      if 99 < (M6.1 rd0 3) then
        fm_let (fm_wr M6 rd0 2 6) fun M11 =>
        some M11
      else
        if l1 = 48 then
          if ((M6.1 rd0 0) - (M6.1 rd0 1)) ≤ 1 then
            fm_let (fm_wr M6 rd0 2 3) fun M15 =>
            some M15
          else
            fm_let (fm_wr M6 rd0 2 6) fun M16 =>
            some M16
        else
          fm_let (fm_wr M6 rd0 2 3) fun M13 =>
          some M13
    else
      fm_bi (fX10_here n bk rd0 M6) fun r17 M18 =>
      fm_let (if (((10 * (M6.1 rd0 3)) + r17) - 48) < 100 then (((10 * (M6.1 rd0 3)) + r17) - 48) else 100) fun x21 =>
      fm_let (fm_wr M18 rd0 3 x21) fun M22 =>
      fm_let (fm_wr M22 rd0 0 ((M22.1 rd0 0) + 1)) fun M23 =>
      fX10_step_63 n bk rd0 k M23 l1
def fX10_step_0 (n bk : Nat) (rd0 : Nat) : Nat → fm_M → Option (fm_M)
  | 0, _ => none
  | k + 1, M =>
    fm_bi (fX10_here n bk rd0 M) fun r1 M2 =>
    if r1 = 32 then
      fm_let (fm_wr M2 rd0 0 ((M2.1 rd0 0) + 1)) fun M29 =>
      fX10_step_0 n bk rd0 k M29
    else
      fm_let (fm_wr M2 rd0 1 (M2.1 rd0 0)) fun M6 =>
      fm_let (fm_wr M6 rd0 3 0) fun M7 =>
      fm_bi (fX10_here n bk rd0 M7) fun r8 M9 =>
      if 0 ≤ r8 then
        fm_bi (fX0_in n bk M9 r8 48 57) fun r13 M14 =>
        if r13 = 0 then
          fm_let (fm_wr M14 rd0 0 ((M14.1 rd0 0) + 1)) fun M18 =>
          fm_bi (fJ2_indexOf n bk M18 r8) fun r19 M20 =>
          if r8 = 59 then
            fm_let (fm_wr M20 rd0 2 4) fun M27 =>
            some M27
          else
            if r19 < 0 then
              fm_let (fm_wr M20 rd0 2 6) fun M25 =>
              some M25
            else
              fm_let (fm_wr M20 rd0 2 r19) fun M26 =>
              some M26
        else
          fX10_step_63 n bk rd0 n M14 r8
      else
        fm_let (fm_wr M9 rd0 2 5) fun M28 =>
        some M28
def fX10_step (n bk : Nat) (rd0 : Nat) (M : fm_M) : Option (fm_M) :=
  fm_bi (fX10_here n bk rd0 M) fun r1 M2 =>
  if r1 = 32 then
    fm_let (fm_wr M2 rd0 0 ((M2.1 rd0 0) + 1)) fun M29 =>
    fX10_step_0 n bk rd0 n M29
  else
    fm_let (fm_wr M2 rd0 1 (M2.1 rd0 0)) fun M6 =>
    fm_let (fm_wr M6 rd0 3 0) fun M7 =>
    fm_bi (fX10_here n bk rd0 M7) fun r8 M9 =>
    if 0 ≤ r8 then
      fm_bi (fX0_in n bk M9 r8 48 57) fun r13 M14 =>
      if r13 = 0 then
        fm_let (fm_wr M14 rd0 0 ((M14.1 rd0 0) + 1)) fun M18 =>
        fm_bi (fJ2_indexOf n bk M18 r8) fun r19 M20 =>
        if r8 = 59 then
          fm_let (fm_wr M20 rd0 2 4) fun M27 =>
          some M27
        else
          if r19 < 0 then
            fm_let (fm_wr M20 rd0 2 6) fun M25 =>
            some M25
          else
            fm_let (fm_wr M20 rd0 2 r19) fun M26 =>
            some M26
      else
        fX10_step_63 n bk rd0 n M14 r8
    else
      fm_let (fm_wr M9 rd0 2 5) fun M28 =>
      some M28
theorem hdX10_step : yX10_step.cls = RX10 ∧ yX10_step.cls ≠ "java/lang/invoke/MethodHandle" ∧ yX10_step.cls ≠ "java/lang/invoke/VarHandle" ∧ (parseMethodDescriptor yX10_step.desc).map (fun d => d.parameters.length) = some 0 := by decide +kernel
set_option maxHeartbeats 4000000 in
theorem wX10_step_63 {X : fm_X} {D : va_G} {dA : Nat → ClassId} {ad : Nat → Nat} {N bk : Nat} {n : Nat} {rd0 : Nat} (hrd0 : fm_isRd N rd0) (hN : 193 ≤ N) (hb : fm_isBk N bk) (F : fm_F X (YC D dA N ad bk) cX10_step 3 RX10 rmX10_step) {M' : fm_M} (E : fm_E X (YC D dA N ad bk) none M' none) : ∀ (k : Nat) (M : fm_M) (l1 : Int32), fX10_step_63 n bk rd0 k M l1 = some M' → fm_G X (YC D dA N ad bk) (0, 0) 3 M 63 [(0, .ref (ad rd0)), (1, .int l1)] [] := by
  intro k
  induction k with
  | zero =>
    intro M l1 hf
    rw [fX10_step_63] at hf
    cases hf
  | succ k ih =>
    intro M l1 hf
    rw [fX10_step_63] at hf
    refine fm_aload_n (pc := 63) F dX10_step_63 0 rfl ?_
    obtain ⟨r1, M2, h3, hf⟩ := fm_bi_inv hf
    refine fm_callV (As := []) (rest := []) (pc := 64) F (ci := 10) rd0 (hrd0.lt 0 (fm_lt rfl)) (hrd0.mk0 (ad := ad) (dA := dA) (bk := bk) _ M.2) rfl (mX10_here hrd0 hN hb F.inj h3) q386 q388 qs2 q51 q389 ⟨rfl, rfl⟩ hdX10_here ⟨fm_le rfl, fm_le rfl, Nat.zero_le _, Nat.zero_le _⟩ rfl rfl (fm_le rfl) dX10_step_64 ?_
    refine fm_bipush (v := 48) (pc := 67) F dX10_step_67 (by decide) ?_
    refine fm_bipush (v := 57) (pc := 69) F dX10_step_69 (by decide) ?_
    obtain ⟨r5, M6, h7, hf⟩ := fm_bi_inv hf
    refine fm_callSN (As := [.int r1, .int 48, .int 57]) (rest := []) (pc := 71) F (mX0_in hN hb F.inj h7) q390 q340 q39 q341 ⟨rfl, rfl⟩ hdX0_in.2 ⟨fm_le rfl, fm_le rfl, Nat.zero_le _, Nat.zero_le _⟩ rfl rfl (fm_le rfl) dX10_step_71 ?_
    refine fm_if_eq (tgt := 114) (pc := 74) F dX10_step_74 (by decide) (fun c9 => ?_) (fun c9 => ?_)
    · replace hf := fm_ip c9 hf
      refine fm_aload_n (pc := 114) F dX10_step_114 0 rfl ?_
      refine fm_aload_n (pc := 115) F dX10_step_115 0 rfl ?_
      refine fm_get (v := .int (M6.1 rd0 3)) (pc := 116) F (ci := 10) (T := TX10) (n := 6) rfl in_X10 3 (fm_lt rfl) dX10_step_116 q362 rd0 (hrd0.lt 0 (fm_lt rfl)) (hrd0.mk0 (ad := ad) (dA := dA) (bk := bk) _ M6.2) rfl ?_
      refine fm_bipush (v := 99) (pc := 119) F dX10_step_119 (by decide) ?_
      refine fm_icmp_gt (tgt := 143) (pc := 121) F dX10_step_121 (by decide) (fun c10 => ?_) (fun c10 => ?_)
      · replace hf := fm_ip c10 hf
        refine fm_bipush (v := 6) (pc := 143) F dX10_step_143 (by decide) ?_
        refine fm_goto (tgt := 149) (pc := 145) F dX10_step_145 (by decide) ?_
        refine fm_putI (v := 6) (pc := 149) F clX10 2 (fm_lt rfl) dX10_step_149 q361 rfl rfl rd0 (hrd0.lt 0 (fm_lt rfl)) (hrd0.mk0 (ad := ad) (dA := dA) (bk := bk) _ M6.2) (fm_lt rfl) (hrd0.mk0 (ad := ad) (dA := dA) (bk := bk) _ M6.2) ?_
        refine fm_nameM (fun M11 eM11 => ?_)
        replace hf := fm_let_inv eM11 hf
        refine fm_goto (tgt := 196) (pc := 152) F dX10_step_152 (by decide) ?_
        exact fm_vret (pc := 196) F E hf dX10_step_196
      · replace hf := fm_in c10 hf
        refine fm_iload_n (pc := 124) F dX10_step_124 1 rfl ?_
        refine fm_bipush (v := 48) (pc := 125) F dX10_step_125 (by decide) ?_
        refine fm_icmp_ne (tgt := 148) (pc := 127) F dX10_step_127 (by decide) (fun c12 => ?_) (fun c12 => ?_)
        · replace hf := fm_in c12 hf
          refine fm_iconst (v := 3) (pc := 148) F dX10_step_148 (by decide) ?_
          refine fm_putI (v := 3) (pc := 149) F clX10 2 (fm_lt rfl) dX10_step_149 q361 rfl rfl rd0 (hrd0.lt 0 (fm_lt rfl)) (hrd0.mk0 (ad := ad) (dA := dA) (bk := bk) _ M6.2) (fm_lt rfl) (hrd0.mk0 (ad := ad) (dA := dA) (bk := bk) _ M6.2) ?_
          refine fm_nameM (fun M13 eM13 => ?_)
          replace hf := fm_let_inv eM13 hf
          refine fm_goto (tgt := 196) (pc := 152) F dX10_step_152 (by decide) ?_
          exact fm_vret (pc := 196) F E hf dX10_step_196
        · replace hf := fm_ip c12 hf
          refine fm_aload_n (pc := 130) F dX10_step_130 0 rfl ?_
          refine fm_get (v := .int (M6.1 rd0 0)) (pc := 131) F (ci := 10) (T := TX10) (n := 6) rfl in_X10 0 (fm_lt rfl) dX10_step_131 q359 rd0 (hrd0.lt 0 (fm_lt rfl)) (hrd0.mk0 (ad := ad) (dA := dA) (bk := bk) _ M6.2) rfl ?_
          refine fm_aload_n (pc := 134) F dX10_step_134 0 rfl ?_
          refine fm_get (v := .int (M6.1 rd0 1)) (pc := 135) F (ci := 10) (T := TX10) (n := 6) rfl in_X10 1 (fm_lt rfl) dX10_step_135 q360 rd0 (hrd0.lt 0 (fm_lt rfl)) (hrd0.mk0 (ad := ad) (dA := dA) (bk := bk) _ M6.2) rfl ?_
          refine fm_isub (pc := 138) F dX10_step_138 ?_
          refine fm_iconst (v := 1) (pc := 139) F dX10_step_139 (by decide) ?_
          refine fm_icmp_le (tgt := 148) (pc := 140) F dX10_step_140 (by decide) (fun c14 => ?_) (fun c14 => ?_)
          · replace hf := fm_ip c14 hf
            refine fm_iconst (v := 3) (pc := 148) F dX10_step_148 (by decide) ?_
            refine fm_putI (v := 3) (pc := 149) F clX10 2 (fm_lt rfl) dX10_step_149 q361 rfl rfl rd0 (hrd0.lt 0 (fm_lt rfl)) (hrd0.mk0 (ad := ad) (dA := dA) (bk := bk) _ M6.2) (fm_lt rfl) (hrd0.mk0 (ad := ad) (dA := dA) (bk := bk) _ M6.2) ?_
            refine fm_nameM (fun M15 eM15 => ?_)
            replace hf := fm_let_inv eM15 hf
            refine fm_goto (tgt := 196) (pc := 152) F dX10_step_152 (by decide) ?_
            exact fm_vret (pc := 196) F E hf dX10_step_196
          · replace hf := fm_in c14 hf
            refine fm_bipush (v := 6) (pc := 143) F dX10_step_143 (by decide) ?_
            refine fm_goto (tgt := 149) (pc := 145) F dX10_step_145 (by decide) ?_
            refine fm_putI (v := 6) (pc := 149) F clX10 2 (fm_lt rfl) dX10_step_149 q361 rfl rfl rd0 (hrd0.lt 0 (fm_lt rfl)) (hrd0.mk0 (ad := ad) (dA := dA) (bk := bk) _ M6.2) (fm_lt rfl) (hrd0.mk0 (ad := ad) (dA := dA) (bk := bk) _ M6.2) ?_
            refine fm_nameM (fun M16 eM16 => ?_)
            replace hf := fm_let_inv eM16 hf
            refine fm_goto (tgt := 196) (pc := 152) F dX10_step_152 (by decide) ?_
            exact fm_vret (pc := 196) F E hf dX10_step_196
    · replace hf := fm_in c9 hf
      refine fm_aload_n (pc := 77) F dX10_step_77 0 rfl ?_
      refine fm_bipush (v := 100) (pc := 78) F dX10_step_78 (by decide) ?_
      refine fm_bipush (v := 10) (pc := 80) F dX10_step_80 (by decide) ?_
      refine fm_aload_n (pc := 82) F dX10_step_82 0 rfl ?_
      refine fm_get (v := .int (M6.1 rd0 3)) (pc := 83) F (ci := 10) (T := TX10) (n := 6) rfl in_X10 3 (fm_lt rfl) dX10_step_83 q362 rd0 (hrd0.lt 0 (fm_lt rfl)) (hrd0.mk0 (ad := ad) (dA := dA) (bk := bk) _ M6.2) rfl ?_
      refine fm_imul (pc := 86) F dX10_step_86 ?_
      refine fm_aload_n (pc := 87) F dX10_step_87 0 rfl ?_
      obtain ⟨r17, M18, h19, hf⟩ := fm_bi_inv hf
      refine fm_callV (As := []) (rest := [.int (10 * (M6.1 rd0 3)), .int 100, .ref (ad rd0)]) (pc := 88) F (ci := 10) rd0 (hrd0.lt 0 (fm_lt rfl)) (hrd0.mk0 (ad := ad) (dA := dA) (bk := bk) _ M6.2) rfl (mX10_here hrd0 hN hb F.inj h19) q386 q388 qs2 q51 q389 ⟨rfl, rfl⟩ hdX10_here ⟨fm_le rfl, fm_le rfl, Nat.zero_le _, Nat.zero_le _⟩ rfl rfl (fm_le rfl) dX10_step_88 ?_
      refine fm_iadd (pc := 91) F dX10_step_91 ?_
      refine fm_bipush (v := 48) (pc := 92) F dX10_step_92 (by decide) ?_
      refine fm_isub (pc := 94) F dX10_step_94 ?_
      refine fm_mmin (pc := 95) F q391 q392 q48 q393 ⟨fm_le rfl, fm_le rfl, Nat.zero_le _, Nat.zero_le _⟩ dX10_step_95 ?_
      refine fm_topi (fun x21 ex21 => ?_)
      replace hf := fm_let_inv ex21 hf
      refine fm_putI (v := x21) (pc := 98) F clX10 3 (fm_lt rfl) dX10_step_98 q362 rfl rfl rd0 (hrd0.lt 0 (fm_lt rfl)) (hrd0.mk0 (ad := ad) (dA := dA) (bk := bk) _ M18.2) (fm_lt rfl) (hrd0.mk0 (ad := ad) (dA := dA) (bk := bk) _ M18.2) ?_
      refine fm_nameM (fun M22 eM22 => ?_)
      replace hf := fm_let_inv eM22 hf
      refine fm_aload_n (pc := 101) F dX10_step_101 0 rfl ?_
      refine fm_dup (pc := 102) F dX10_step_102 rfl ?_
      refine fm_get (v := .int (M22.1 rd0 0)) (pc := 103) F (ci := 10) (T := TX10) (n := 6) rfl in_X10 0 (fm_lt rfl) dX10_step_103 q359 rd0 (hrd0.lt 0 (fm_lt rfl)) (hrd0.mk0 (ad := ad) (dA := dA) (bk := bk) _ M22.2) rfl ?_
      refine fm_iconst (v := 1) (pc := 106) F dX10_step_106 (by decide) ?_
      refine fm_iadd (pc := 107) F dX10_step_107 ?_
      refine fm_putI (v := ((M22.1 rd0 0) + 1)) (pc := 108) F clX10 0 (fm_lt rfl) dX10_step_108 q359 rfl rfl rd0 (hrd0.lt 0 (fm_lt rfl)) (hrd0.mk0 (ad := ad) (dA := dA) (bk := bk) _ M22.2) (fm_lt rfl) (hrd0.mk0 (ad := ad) (dA := dA) (bk := bk) _ M22.2) ?_
      refine fm_nameM (fun M23 eM23 => ?_)
      replace hf := fm_let_inv eM23 hf
      refine fm_goto (tgt := 63) (pc := 111) F dX10_step_111 (by decide) ?_
      exact ih _ _ hf
set_option maxHeartbeats 4000000 in
theorem wX10_step_0 {X : fm_X} {D : va_G} {dA : Nat → ClassId} {ad : Nat → Nat} {N bk : Nat} {n : Nat} {rd0 : Nat} (hrd0 : fm_isRd N rd0) (hN : 193 ≤ N) (hb : fm_isBk N bk) (F : fm_F X (YC D dA N ad bk) cX10_step 3 RX10 rmX10_step) {M' : fm_M} (E : fm_E X (YC D dA N ad bk) none M' none) : ∀ (k : Nat) (M : fm_M), fX10_step_0 n bk rd0 k M = some M' → fm_G X (YC D dA N ad bk) (0, 0) 3 M 0 [(0, .ref (ad rd0))] [] := by
  intro k
  induction k with
  | zero =>
    intro M hf
    rw [fX10_step_0] at hf
    cases hf
  | succ k ih =>
    intro M hf
    rw [fX10_step_0] at hf
    refine fm_aload_n (pc := 0) F dX10_step_0 0 rfl ?_
    obtain ⟨r1, M2, h3, hf⟩ := fm_bi_inv hf
    refine fm_callV (As := []) (rest := []) (pc := 1) F (ci := 10) rd0 (hrd0.lt 0 (fm_lt rfl)) (hrd0.mk0 (ad := ad) (dA := dA) (bk := bk) _ M.2) rfl (mX10_here hrd0 hN hb F.inj h3) q386 q388 qs2 q51 q389 ⟨rfl, rfl⟩ hdX10_here ⟨fm_le rfl, fm_le rfl, Nat.zero_le _, Nat.zero_le _⟩ rfl rfl (fm_le rfl) dX10_step_1 ?_
    refine fm_bipush (v := 32) (pc := 4) F dX10_step_4 (by decide) ?_
    refine fm_icmp_ne (tgt := 22) (pc := 6) F dX10_step_6 (by decide) (fun c5 => ?_) (fun c5 => ?_)
    · replace hf := fm_in c5 hf
      refine fm_aload_n (pc := 22) F dX10_step_22 0 rfl ?_
      refine fm_aload_n (pc := 23) F dX10_step_23 0 rfl ?_
      refine fm_get (v := .int (M2.1 rd0 0)) (pc := 24) F (ci := 10) (T := TX10) (n := 6) rfl in_X10 0 (fm_lt rfl) dX10_step_24 q359 rd0 (hrd0.lt 0 (fm_lt rfl)) (hrd0.mk0 (ad := ad) (dA := dA) (bk := bk) _ M2.2) rfl ?_
      refine fm_putI (v := (M2.1 rd0 0)) (pc := 27) F clX10 1 (fm_lt rfl) dX10_step_27 q360 rfl rfl rd0 (hrd0.lt 0 (fm_lt rfl)) (hrd0.mk0 (ad := ad) (dA := dA) (bk := bk) _ M2.2) (fm_lt rfl) (hrd0.mk0 (ad := ad) (dA := dA) (bk := bk) _ M2.2) ?_
      refine fm_nameM (fun M6 eM6 => ?_)
      replace hf := fm_let_inv eM6 hf
      refine fm_aload_n (pc := 30) F dX10_step_30 0 rfl ?_
      refine fm_iconst (v := 0) (pc := 31) F dX10_step_31 (by decide) ?_
      refine fm_putI (v := 0) (pc := 32) F clX10 3 (fm_lt rfl) dX10_step_32 q362 rfl rfl rd0 (hrd0.lt 0 (fm_lt rfl)) (hrd0.mk0 (ad := ad) (dA := dA) (bk := bk) _ M6.2) (fm_lt rfl) (hrd0.mk0 (ad := ad) (dA := dA) (bk := bk) _ M6.2) ?_
      refine fm_nameM (fun M7 eM7 => ?_)
      replace hf := fm_let_inv eM7 hf
      refine fm_aload_n (pc := 35) F dX10_step_35 0 rfl ?_
      obtain ⟨r8, M9, h10, hf⟩ := fm_bi_inv hf
      refine fm_callV (As := []) (rest := []) (pc := 36) F (ci := 10) rd0 (hrd0.lt 0 (fm_lt rfl)) (hrd0.mk0 (ad := ad) (dA := dA) (bk := bk) _ M7.2) rfl (mX10_here hrd0 hN hb F.inj h10) q386 q388 qs2 q51 q389 ⟨rfl, rfl⟩ hdX10_here ⟨fm_le rfl, fm_le rfl, Nat.zero_le _, Nat.zero_le _⟩ rfl rfl (fm_le rfl) dX10_step_36 ?_
      refine fm_istore_n (lv' := [(1, .int r8), (0, .ref (ad rd0))]) (pc := 39) F dX10_step_39 rfl (fm_lt rfl) rfl ?_
      refine fm_iload_n (pc := 40) F dX10_step_40 0 rfl ?_
      refine fm_if_ge (tgt := 52) (pc := 41) F dX10_step_41 (by decide) (fun c12 => ?_) (fun c12 => ?_)
      · replace hf := fm_ip c12 hf
        refine fm_iload_n (pc := 52) F dX10_step_52 0 rfl ?_
        refine fm_bipush (v := 48) (pc := 53) F dX10_step_53 (by decide) ?_
        refine fm_bipush (v := 57) (pc := 55) F dX10_step_55 (by decide) ?_
        obtain ⟨r13, M14, h15, hf⟩ := fm_bi_inv hf
        refine fm_callSN (As := [.int r8, .int 48, .int 57]) (rest := []) (pc := 57) F (mX0_in hN hb F.inj h15) q390 q340 q39 q341 ⟨rfl, rfl⟩ hdX0_in.2 ⟨fm_le rfl, fm_le rfl, Nat.zero_le _, Nat.zero_le _⟩ rfl rfl (fm_le rfl) dX10_step_57 ?_
        refine fm_if_eq (tgt := 155) (pc := 60) F dX10_step_60 (by decide) (fun c17 => ?_) (fun c17 => ?_)
        · replace hf := fm_ip c17 hf
          refine fm_aload_n (pc := 155) F dX10_step_155 1 rfl ?_
          refine fm_dup (pc := 156) F dX10_step_156 rfl ?_
          refine fm_get (v := .int (M14.1 rd0 0)) (pc := 157) F (ci := 10) (T := TX10) (n := 6) rfl in_X10 0 (fm_lt rfl) dX10_step_157 q359 rd0 (hrd0.lt 0 (fm_lt rfl)) (hrd0.mk0 (ad := ad) (dA := dA) (bk := bk) _ M14.2) rfl ?_
          refine fm_iconst (v := 1) (pc := 160) F dX10_step_160 (by decide) ?_
          refine fm_iadd (pc := 161) F dX10_step_161 ?_
          refine fm_putI (v := ((M14.1 rd0 0) + 1)) (pc := 162) F clX10 0 (fm_lt rfl) dX10_step_162 q359 rfl rfl rd0 (hrd0.lt 0 (fm_lt rfl)) (hrd0.mk0 (ad := ad) (dA := dA) (bk := bk) _ M14.2) (fm_lt rfl) (hrd0.mk0 (ad := ad) (dA := dA) (bk := bk) _ M14.2) ?_
          refine fm_nameM (fun M18 eM18 => ?_)
          replace hf := fm_let_inv eM18 hf
          refine fm_ldcS (pc := 165) F dX10_step_165 ?_
          refine fm_iload_n (pc := 167) F dX10_step_167 0 rfl ?_
          obtain ⟨r19, M20, h21, hf⟩ := fm_bi_inv hf
          refine fm_callQ (As := [.int r8]) (rest := []) (pc := 168) F (mJ2_indexOf hN hb F.inj h21) q395 q396 q397 q52 q398 ⟨rfl, rfl⟩ hdJ2_indexOf ⟨fm_le rfl, fm_le rfl, Nat.zero_le _, Nat.zero_le _⟩ rfl rfl (fm_le rfl) dX10_step_168 ?_
          refine fm_istore_n (lv' := [(2, .int r19), (1, .int r8), (0, .ref (ad rd0))]) (pc := 171) F dX10_step_171 rfl (fm_lt rfl) rfl ?_
          refine fm_aload_n (pc := 172) F dX10_step_172 2 rfl ?_
          refine fm_iload_n (pc := 173) F dX10_step_173 1 rfl ?_
          refine fm_bipush (v := 59) (pc := 174) F dX10_step_174 (by decide) ?_
          refine fm_icmp_ne (tgt := 183) (pc := 176) F dX10_step_176 (by decide) (fun c23 => ?_) (fun c23 => ?_)
          · replace hf := fm_in c23 hf
            refine fm_iload_n (pc := 183) F dX10_step_183 0 rfl ?_
            refine fm_if_lt (tgt := 191) (pc := 184) F dX10_step_184 (by decide) (fun c24 => ?_) (fun c24 => ?_)
            · replace hf := fm_ip c24 hf
              refine fm_bipush (v := 6) (pc := 191) F dX10_step_191 (by decide) ?_
              refine fm_putI (v := 6) (pc := 193) F clX10 2 (fm_lt rfl) dX10_step_193 q361 rfl rfl rd0 (hrd0.lt 0 (fm_lt rfl)) (hrd0.mk0 (ad := ad) (dA := dA) (bk := bk) _ M20.2) (fm_lt rfl) (hrd0.mk0 (ad := ad) (dA := dA) (bk := bk) _ M20.2) ?_
              refine fm_nameM (fun M25 eM25 => ?_)
              replace hf := fm_let_inv eM25 hf
              exact fm_vret (pc := 196) F E hf dX10_step_196
            · replace hf := fm_in c24 hf
              refine fm_iload_n (pc := 187) F dX10_step_187 0 rfl ?_
              refine fm_goto (tgt := 193) (pc := 188) F dX10_step_188 (by decide) ?_
              refine fm_putI (v := r19) (pc := 193) F clX10 2 (fm_lt rfl) dX10_step_193 q361 rfl rfl rd0 (hrd0.lt 0 (fm_lt rfl)) (hrd0.mk0 (ad := ad) (dA := dA) (bk := bk) _ M20.2) (fm_lt rfl) (hrd0.mk0 (ad := ad) (dA := dA) (bk := bk) _ M20.2) ?_
              refine fm_nameM (fun M26 eM26 => ?_)
              replace hf := fm_let_inv eM26 hf
              exact fm_vret (pc := 196) F E hf dX10_step_196
          · replace hf := fm_ip c23 hf
            refine fm_iconst (v := 4) (pc := 179) F dX10_step_179 (by decide) ?_
            refine fm_goto (tgt := 193) (pc := 180) F dX10_step_180 (by decide) ?_
            refine fm_putI (v := 4) (pc := 193) F clX10 2 (fm_lt rfl) dX10_step_193 q361 rfl rfl rd0 (hrd0.lt 0 (fm_lt rfl)) (hrd0.mk0 (ad := ad) (dA := dA) (bk := bk) _ M20.2) (fm_lt rfl) (hrd0.mk0 (ad := ad) (dA := dA) (bk := bk) _ M20.2) ?_
            refine fm_nameM (fun M27 eM27 => ?_)
            replace hf := fm_let_inv eM27 hf
            exact fm_vret (pc := 196) F E hf dX10_step_196
        · replace hf := fm_in c17 hf
          refine fm_pick [1, 0] rfl ?_
          exact wX10_step_63 hrd0 hN hb F E n _ _ hf
      · replace hf := fm_in c12 hf
        refine fm_aload_n (pc := 44) F dX10_step_44 1 rfl ?_
        refine fm_iconst (v := 5) (pc := 45) F dX10_step_45 (by decide) ?_
        refine fm_putI (v := 5) (pc := 46) F clX10 2 (fm_lt rfl) dX10_step_46 q361 rfl rfl rd0 (hrd0.lt 0 (fm_lt rfl)) (hrd0.mk0 (ad := ad) (dA := dA) (bk := bk) _ M9.2) (fm_lt rfl) (hrd0.mk0 (ad := ad) (dA := dA) (bk := bk) _ M9.2) ?_
        refine fm_nameM (fun M28 eM28 => ?_)
        replace hf := fm_let_inv eM28 hf
        refine fm_goto (tgt := 196) (pc := 49) F dX10_step_49 (by decide) ?_
        exact fm_vret (pc := 196) F E hf dX10_step_196
    · replace hf := fm_ip c5 hf
      refine fm_aload_n (pc := 9) F dX10_step_9 0 rfl ?_
      refine fm_dup (pc := 10) F dX10_step_10 rfl ?_
      refine fm_get (v := .int (M2.1 rd0 0)) (pc := 11) F (ci := 10) (T := TX10) (n := 6) rfl in_X10 0 (fm_lt rfl) dX10_step_11 q359 rd0 (hrd0.lt 0 (fm_lt rfl)) (hrd0.mk0 (ad := ad) (dA := dA) (bk := bk) _ M2.2) rfl ?_
      refine fm_iconst (v := 1) (pc := 14) F dX10_step_14 (by decide) ?_
      refine fm_iadd (pc := 15) F dX10_step_15 ?_
      refine fm_putI (v := ((M2.1 rd0 0) + 1)) (pc := 16) F clX10 0 (fm_lt rfl) dX10_step_16 q359 rfl rfl rd0 (hrd0.lt 0 (fm_lt rfl)) (hrd0.mk0 (ad := ad) (dA := dA) (bk := bk) _ M2.2) (fm_lt rfl) (hrd0.mk0 (ad := ad) (dA := dA) (bk := bk) _ M2.2) ?_
      refine fm_nameM (fun M29 eM29 => ?_)
      replace hf := fm_let_inv eM29 hf
      refine fm_goto (tgt := 0) (pc := 19) F dX10_step_19 (by decide) ?_
      exact ih _ hf
set_option maxHeartbeats 4000000 in
theorem mX10_step {l : Launch} {D : va_G} {dA : Nat → ClassId} {ad : Nat → Nat} {N bk : Nat} {n : Nat} {rd0 : Nat} (hrd0 : fm_isRd N rd0) (hN : 193 ≤ N) (hb : fm_isBk N bk) (inj : ∀ i j, i < N → j < N → ad i = ad j → i = j) {M M' : fm_M} (hf : fX10_step n bk rd0 M = some M') : fm_C l yX10_step (ws_ yX10_step cX10_step 3 none) rmX10_step (YC D dA N ad bk) [.ref (ad rd0)] M none M' := by
  refine fm_enter (by decide) rfl (fm_le rfl) inj ?_
  intro X hXl F E
  subst hXl
  unfold fX10_step at hf
  show fm_G X (YC D dA N ad bk) (0, 0) 3 M 0 [(0, .ref (ad rd0))] []
  refine fm_aload_n (pc := 0) F dX10_step_0 0 rfl ?_
  obtain ⟨r1, M2, h3, hf⟩ := fm_bi_inv hf
  refine fm_callV (As := []) (rest := []) (pc := 1) F (ci := 10) rd0 (hrd0.lt 0 (fm_lt rfl)) (hrd0.mk0 (ad := ad) (dA := dA) (bk := bk) _ M.2) rfl (mX10_here hrd0 hN hb F.inj h3) q386 q388 qs2 q51 q389 ⟨rfl, rfl⟩ hdX10_here ⟨fm_le rfl, fm_le rfl, Nat.zero_le _, Nat.zero_le _⟩ rfl rfl (fm_le rfl) dX10_step_1 ?_
  refine fm_bipush (v := 32) (pc := 4) F dX10_step_4 (by decide) ?_
  refine fm_icmp_ne (tgt := 22) (pc := 6) F dX10_step_6 (by decide) (fun c5 => ?_) (fun c5 => ?_)
  · replace hf := fm_in c5 hf
    refine fm_aload_n (pc := 22) F dX10_step_22 0 rfl ?_
    refine fm_aload_n (pc := 23) F dX10_step_23 0 rfl ?_
    refine fm_get (v := .int (M2.1 rd0 0)) (pc := 24) F (ci := 10) (T := TX10) (n := 6) rfl in_X10 0 (fm_lt rfl) dX10_step_24 q359 rd0 (hrd0.lt 0 (fm_lt rfl)) (hrd0.mk0 (ad := ad) (dA := dA) (bk := bk) _ M2.2) rfl ?_
    refine fm_putI (v := (M2.1 rd0 0)) (pc := 27) F clX10 1 (fm_lt rfl) dX10_step_27 q360 rfl rfl rd0 (hrd0.lt 0 (fm_lt rfl)) (hrd0.mk0 (ad := ad) (dA := dA) (bk := bk) _ M2.2) (fm_lt rfl) (hrd0.mk0 (ad := ad) (dA := dA) (bk := bk) _ M2.2) ?_
    refine fm_nameM (fun M6 eM6 => ?_)
    replace hf := fm_let_inv eM6 hf
    refine fm_aload_n (pc := 30) F dX10_step_30 0 rfl ?_
    refine fm_iconst (v := 0) (pc := 31) F dX10_step_31 (by decide) ?_
    refine fm_putI (v := 0) (pc := 32) F clX10 3 (fm_lt rfl) dX10_step_32 q362 rfl rfl rd0 (hrd0.lt 0 (fm_lt rfl)) (hrd0.mk0 (ad := ad) (dA := dA) (bk := bk) _ M6.2) (fm_lt rfl) (hrd0.mk0 (ad := ad) (dA := dA) (bk := bk) _ M6.2) ?_
    refine fm_nameM (fun M7 eM7 => ?_)
    replace hf := fm_let_inv eM7 hf
    refine fm_aload_n (pc := 35) F dX10_step_35 0 rfl ?_
    obtain ⟨r8, M9, h10, hf⟩ := fm_bi_inv hf
    refine fm_callV (As := []) (rest := []) (pc := 36) F (ci := 10) rd0 (hrd0.lt 0 (fm_lt rfl)) (hrd0.mk0 (ad := ad) (dA := dA) (bk := bk) _ M7.2) rfl (mX10_here hrd0 hN hb F.inj h10) q386 q388 qs2 q51 q389 ⟨rfl, rfl⟩ hdX10_here ⟨fm_le rfl, fm_le rfl, Nat.zero_le _, Nat.zero_le _⟩ rfl rfl (fm_le rfl) dX10_step_36 ?_
    refine fm_istore_n (lv' := [(1, .int r8), (0, .ref (ad rd0))]) (pc := 39) F dX10_step_39 rfl (fm_lt rfl) rfl ?_
    refine fm_iload_n (pc := 40) F dX10_step_40 0 rfl ?_
    refine fm_if_ge (tgt := 52) (pc := 41) F dX10_step_41 (by decide) (fun c12 => ?_) (fun c12 => ?_)
    · replace hf := fm_ip c12 hf
      refine fm_iload_n (pc := 52) F dX10_step_52 0 rfl ?_
      refine fm_bipush (v := 48) (pc := 53) F dX10_step_53 (by decide) ?_
      refine fm_bipush (v := 57) (pc := 55) F dX10_step_55 (by decide) ?_
      obtain ⟨r13, M14, h15, hf⟩ := fm_bi_inv hf
      refine fm_callSN (As := [.int r8, .int 48, .int 57]) (rest := []) (pc := 57) F (mX0_in hN hb F.inj h15) q390 q340 q39 q341 ⟨rfl, rfl⟩ hdX0_in.2 ⟨fm_le rfl, fm_le rfl, Nat.zero_le _, Nat.zero_le _⟩ rfl rfl (fm_le rfl) dX10_step_57 ?_
      refine fm_if_eq (tgt := 155) (pc := 60) F dX10_step_60 (by decide) (fun c17 => ?_) (fun c17 => ?_)
      · replace hf := fm_ip c17 hf
        refine fm_aload_n (pc := 155) F dX10_step_155 1 rfl ?_
        refine fm_dup (pc := 156) F dX10_step_156 rfl ?_
        refine fm_get (v := .int (M14.1 rd0 0)) (pc := 157) F (ci := 10) (T := TX10) (n := 6) rfl in_X10 0 (fm_lt rfl) dX10_step_157 q359 rd0 (hrd0.lt 0 (fm_lt rfl)) (hrd0.mk0 (ad := ad) (dA := dA) (bk := bk) _ M14.2) rfl ?_
        refine fm_iconst (v := 1) (pc := 160) F dX10_step_160 (by decide) ?_
        refine fm_iadd (pc := 161) F dX10_step_161 ?_
        refine fm_putI (v := ((M14.1 rd0 0) + 1)) (pc := 162) F clX10 0 (fm_lt rfl) dX10_step_162 q359 rfl rfl rd0 (hrd0.lt 0 (fm_lt rfl)) (hrd0.mk0 (ad := ad) (dA := dA) (bk := bk) _ M14.2) (fm_lt rfl) (hrd0.mk0 (ad := ad) (dA := dA) (bk := bk) _ M14.2) ?_
        refine fm_nameM (fun M18 eM18 => ?_)
        replace hf := fm_let_inv eM18 hf
        refine fm_ldcS (pc := 165) F dX10_step_165 ?_
        refine fm_iload_n (pc := 167) F dX10_step_167 0 rfl ?_
        obtain ⟨r19, M20, h21, hf⟩ := fm_bi_inv hf
        refine fm_callQ (As := [.int r8]) (rest := []) (pc := 168) F (mJ2_indexOf hN hb F.inj h21) q395 q396 q397 q52 q398 ⟨rfl, rfl⟩ hdJ2_indexOf ⟨fm_le rfl, fm_le rfl, Nat.zero_le _, Nat.zero_le _⟩ rfl rfl (fm_le rfl) dX10_step_168 ?_
        refine fm_istore_n (lv' := [(2, .int r19), (1, .int r8), (0, .ref (ad rd0))]) (pc := 171) F dX10_step_171 rfl (fm_lt rfl) rfl ?_
        refine fm_aload_n (pc := 172) F dX10_step_172 2 rfl ?_
        refine fm_iload_n (pc := 173) F dX10_step_173 1 rfl ?_
        refine fm_bipush (v := 59) (pc := 174) F dX10_step_174 (by decide) ?_
        refine fm_icmp_ne (tgt := 183) (pc := 176) F dX10_step_176 (by decide) (fun c23 => ?_) (fun c23 => ?_)
        · replace hf := fm_in c23 hf
          refine fm_iload_n (pc := 183) F dX10_step_183 0 rfl ?_
          refine fm_if_lt (tgt := 191) (pc := 184) F dX10_step_184 (by decide) (fun c24 => ?_) (fun c24 => ?_)
          · replace hf := fm_ip c24 hf
            refine fm_bipush (v := 6) (pc := 191) F dX10_step_191 (by decide) ?_
            refine fm_putI (v := 6) (pc := 193) F clX10 2 (fm_lt rfl) dX10_step_193 q361 rfl rfl rd0 (hrd0.lt 0 (fm_lt rfl)) (hrd0.mk0 (ad := ad) (dA := dA) (bk := bk) _ M20.2) (fm_lt rfl) (hrd0.mk0 (ad := ad) (dA := dA) (bk := bk) _ M20.2) ?_
            refine fm_nameM (fun M25 eM25 => ?_)
            replace hf := fm_let_inv eM25 hf
            exact fm_vret (pc := 196) F E hf dX10_step_196
          · replace hf := fm_in c24 hf
            refine fm_iload_n (pc := 187) F dX10_step_187 0 rfl ?_
            refine fm_goto (tgt := 193) (pc := 188) F dX10_step_188 (by decide) ?_
            refine fm_putI (v := r19) (pc := 193) F clX10 2 (fm_lt rfl) dX10_step_193 q361 rfl rfl rd0 (hrd0.lt 0 (fm_lt rfl)) (hrd0.mk0 (ad := ad) (dA := dA) (bk := bk) _ M20.2) (fm_lt rfl) (hrd0.mk0 (ad := ad) (dA := dA) (bk := bk) _ M20.2) ?_
            refine fm_nameM (fun M26 eM26 => ?_)
            replace hf := fm_let_inv eM26 hf
            exact fm_vret (pc := 196) F E hf dX10_step_196
        · replace hf := fm_ip c23 hf
          refine fm_iconst (v := 4) (pc := 179) F dX10_step_179 (by decide) ?_
          refine fm_goto (tgt := 193) (pc := 180) F dX10_step_180 (by decide) ?_
          refine fm_putI (v := 4) (pc := 193) F clX10 2 (fm_lt rfl) dX10_step_193 q361 rfl rfl rd0 (hrd0.lt 0 (fm_lt rfl)) (hrd0.mk0 (ad := ad) (dA := dA) (bk := bk) _ M20.2) (fm_lt rfl) (hrd0.mk0 (ad := ad) (dA := dA) (bk := bk) _ M20.2) ?_
          refine fm_nameM (fun M27 eM27 => ?_)
          replace hf := fm_let_inv eM27 hf
          exact fm_vret (pc := 196) F E hf dX10_step_196
      · replace hf := fm_in c17 hf
        refine fm_pick [1, 0] rfl ?_
        exact wX10_step_63 hrd0 hN hb F E n _ _ hf
    · replace hf := fm_in c12 hf
      refine fm_aload_n (pc := 44) F dX10_step_44 1 rfl ?_
      refine fm_iconst (v := 5) (pc := 45) F dX10_step_45 (by decide) ?_
      refine fm_putI (v := 5) (pc := 46) F clX10 2 (fm_lt rfl) dX10_step_46 q361 rfl rfl rd0 (hrd0.lt 0 (fm_lt rfl)) (hrd0.mk0 (ad := ad) (dA := dA) (bk := bk) _ M9.2) (fm_lt rfl) (hrd0.mk0 (ad := ad) (dA := dA) (bk := bk) _ M9.2) ?_
      refine fm_nameM (fun M28 eM28 => ?_)
      replace hf := fm_let_inv eM28 hf
      refine fm_goto (tgt := 196) (pc := 49) F dX10_step_49 (by decide) ?_
      exact fm_vret (pc := 196) F E hf dX10_step_196
  · replace hf := fm_ip c5 hf
    refine fm_aload_n (pc := 9) F dX10_step_9 0 rfl ?_
    refine fm_dup (pc := 10) F dX10_step_10 rfl ?_
    refine fm_get (v := .int (M2.1 rd0 0)) (pc := 11) F (ci := 10) (T := TX10) (n := 6) rfl in_X10 0 (fm_lt rfl) dX10_step_11 q359 rd0 (hrd0.lt 0 (fm_lt rfl)) (hrd0.mk0 (ad := ad) (dA := dA) (bk := bk) _ M2.2) rfl ?_
    refine fm_iconst (v := 1) (pc := 14) F dX10_step_14 (by decide) ?_
    refine fm_iadd (pc := 15) F dX10_step_15 ?_
    refine fm_putI (v := ((M2.1 rd0 0) + 1)) (pc := 16) F clX10 0 (fm_lt rfl) dX10_step_16 q359 rfl rfl rd0 (hrd0.lt 0 (fm_lt rfl)) (hrd0.mk0 (ad := ad) (dA := dA) (bk := bk) _ M2.2) (fm_lt rfl) (hrd0.mk0 (ad := ad) (dA := dA) (bk := bk) _ M2.2) ?_
    refine fm_nameM (fun M29 eM29 => ?_)
    replace hf := fm_let_inv eM29 hf
    refine fm_goto (tgt := 0) (pc := 19) F dX10_step_19 (by decide) ?_
    exact wX10_step_0 hrd0 hN hb F E n _ hf
abbrev rmX10_may : Room := { frames := 2, cells := 0, slots := 0, locals := 80 }
def fX10_may (n bk : Nat) (rd0 : Nat) (M : fm_M) (l1 : Int32) : Option (Int32 × fm_M) :=
  if l1 = 0 then
    if 6 ≤ (M.1 (rd0 + 1) 8) then
      some (0, M)
    else
      some (1, M)
  else if l1 = 1 then
    some (1, M)
  else 
    if l1 = 2 then
      if 6 ≤ (M.1 (rd0 + 1) 9) then
        some (0, M)
      else
        some (1, M)
    else
      some (0, M)
theorem hdX10_may : yX10_may.cls = RX10 ∧ yX10_may.cls ≠ "java/lang/invoke/MethodHandle" ∧ yX10_may.cls ≠ "java/lang/invoke/VarHandle" ∧ (parseMethodDescriptor yX10_may.desc).map (fun d => d.parameters.length) = some 1 := by decide +kernel
set_option maxHeartbeats 4000000 in
theorem mX10_may {l : Launch} {D : va_G} {dA : Nat → ClassId} {ad : Nat → Nat} {N bk : Nat} {n : Nat} {rd0 : Nat} (hrd0 : fm_isRd N rd0) (hN : 193 ≤ N) (hb : fm_isBk N bk) (inj : ∀ i j, i < N → j < N → ad i = ad j → i = j) {M M' : fm_M} {l1 : Int32} {r : Int32} (hf : fX10_may n bk rd0 M l1 = some (r, M')) : fm_C l yX10_may (ws_ yX10_may cX10_may 2 (some .boolean)) rmX10_may (YC D dA N ad bk) [.ref (ad rd0), .int l1] M (some (.int r)) M' := by
  refine fm_enter (by decide) rfl (fm_le rfl) inj ?_
  intro X hXl F E
  subst hXl
  unfold fX10_may at hf
  show fm_G X (YC D dA N ad bk) (0, 0) 2 M 0 [(0, .ref (ad rd0)), (1, .int l1)] []
  refine fm_iload_n (pc := 0) F dX10_may_0 1 rfl ?_
  rcases Decidable.em (l1 = 0) with c1 | c1
  · replace hf := fm_ip c1 hf
    refine fm_look (off := 27) (tgt := 28) (pc := 1) F dX10_may_1 (by decide) (by rw [c1]; rfl) (by decide) ?_
    refine fm_aload_n (pc := 28) F dX10_may_28 0 rfl ?_
    refine fm_get (v := .ref (ad (rd0 + 1))) (pc := 29) F (ci := 10) (T := TX10) (n := 6) rfl in_X10 4 (fm_lt rfl) dX10_may_29 q363 rd0 (hrd0.lt 0 (fm_lt rfl)) (hrd0.mk0 (ad := ad) (dA := dA) (bk := bk) _ M.2) rfl ?_
    refine fm_getN (v := .int (M.1 (rd0 + 1) 8)) (pc := 32) F (ci := 1) (T := TX1) (n := 11) rfl in_X1 8 (fm_lt rfl) dX10_may_32 q110 (rd0 + 1) (hrd0.bk.lt 0 (fm_lt rfl)) (hrd0.bk.mk0 (ad := ad) (dA := dA) (bk := bk) _ M.2) rfl ?_
    refine fm_bipush (v := 6) (pc := 35) F dX10_may_35 (by decide) ?_
    refine fm_icmp_ge (tgt := 44) (pc := 37) F dX10_may_37 (by decide) (fun c2 => ?_) (fun c2 => ?_)
    · replace hf := fm_ip c2 hf
      refine fm_iconst (v := 0) (pc := 44) F dX10_may_44 (by decide) ?_
      exact fm_zret (pc := 45) F E (Or.inl rfl) hf dX10_may_45
    · replace hf := fm_in c2 hf
      refine fm_iconst (v := 1) (pc := 40) F dX10_may_40 (by decide) ?_
      refine fm_goto (tgt := 45) (pc := 41) F dX10_may_41 (by decide) ?_
      exact fm_zret (pc := 45) F E (Or.inr rfl) hf dX10_may_45
  replace hf := fm_in c1 hf
  rcases Decidable.em (l1 = 1) with c3 | c3
  · replace hf := fm_ip c3 hf
    refine fm_look (off := 45) (tgt := 46) (pc := 1) F dX10_may_1 (by decide) (by rw [c3]; rfl) (by decide) ?_
    refine fm_iconst (v := 1) (pc := 46) F dX10_may_46 (by decide) ?_
    exact fm_zret (pc := 47) F E (Or.inr rfl) hf dX10_may_47
  replace hf := fm_in c3 hf
  refine fm_look (off := 47) (tgt := 48) (pc := 1) F dX10_may_1 (by decide) (by show Op.lookupswitch.offset [(0, 27), (1, 45)] _ _ = _; rw [lv_osw (a := 0) (k := 0) c1 rfl, lv_osw (a := 1) (k := 1) c3 rfl]; rfl) (by decide) ?_
  refine fm_iload_n (pc := 48) F dX10_may_48 1 rfl ?_
  refine fm_iconst (v := 2) (pc := 49) F dX10_may_49 (by decide) ?_
  refine fm_icmp_ne (tgt := 69) (pc := 50) F dX10_may_50 (by decide) (fun c4 => ?_) (fun c4 => ?_)
  · replace hf := fm_in c4 hf
    refine fm_iconst (v := 0) (pc := 69) F dX10_may_69 (by decide) ?_
    exact fm_zret (pc := 70) F E (Or.inl rfl) hf dX10_may_70
  · replace hf := fm_ip c4 hf
    refine fm_aload_n (pc := 53) F dX10_may_53 0 rfl ?_
    refine fm_get (v := .ref (ad (rd0 + 1))) (pc := 54) F (ci := 10) (T := TX10) (n := 6) rfl in_X10 4 (fm_lt rfl) dX10_may_54 q363 rd0 (hrd0.lt 0 (fm_lt rfl)) (hrd0.mk0 (ad := ad) (dA := dA) (bk := bk) _ M.2) rfl ?_
    refine fm_getN (v := .int (M.1 (rd0 + 1) 9)) (pc := 57) F (ci := 1) (T := TX1) (n := 11) rfl in_X1 9 (fm_lt rfl) dX10_may_57 q112 (rd0 + 1) (hrd0.bk.lt 0 (fm_lt rfl)) (hrd0.bk.mk0 (ad := ad) (dA := dA) (bk := bk) _ M.2) rfl ?_
    refine fm_bipush (v := 6) (pc := 60) F dX10_may_60 (by decide) ?_
    refine fm_icmp_ge (tgt := 69) (pc := 62) F dX10_may_62 (by decide) (fun c5 => ?_) (fun c5 => ?_)
    · replace hf := fm_ip c5 hf
      refine fm_iconst (v := 0) (pc := 69) F dX10_may_69 (by decide) ?_
      exact fm_zret (pc := 70) F E (Or.inl rfl) hf dX10_may_70
    · replace hf := fm_in c5 hf
      refine fm_iconst (v := 1) (pc := 65) F dX10_may_65 (by decide) ?_
      refine fm_goto (tgt := 70) (pc := 66) F dX10_may_66 (by decide) ?_
      exact fm_zret (pc := 70) F E (Or.inr rfl) hf dX10_may_70
