/-! the component: its methods as functions, and their walks (printed by gen/genC.py) -/
set_option maxRecDepth 100000
abbrev rmX0_type : Room := { frames := 3, cells := 0, slots := 0, locals := 102 }
def fX0_type (n bk : Nat) (M : fm_M) (l1 : Int32) : Option (Int32 × fm_M) :=
  fm_bi (fX0_in n bk M l1 0 255) fun r1 M2 =>
  if r1 = 0 then
    some ((-1), M2)
  else
    if (M2.1 0 10) = 200 then
      some ((-3), M2)
    else
      fm_b (M2.1 0 10) 200 <|
      fm_let (fm_wr M2 6 (M2.1 0 10).toNatClampNeg l1.toInt8.toInt32.toInt8.toInt32) fun M8 =>
      fm_let (fm_wr M8 0 10 ((M8.1 0 10) + 1)) fun M9 =>
      some ((M9.1 0 10), M9)
theorem hdX0_type : yX0_type.cls = RX0 ∧ yX0_type.cls ≠ "java/lang/invoke/MethodHandle" ∧ yX0_type.cls ≠ "java/lang/invoke/VarHandle" ∧ (parseMethodDescriptor yX0_type.desc).map (fun d => d.parameters.length) = some 1 := by decide +kernel
set_option maxHeartbeats 4000000 in
theorem mX0_type {l : Launch} {D : va_G} {dA : Nat → ClassId} {ad : Nat → Nat} {N bk : Nat} {n : Nat} (hN : 193 ≤ N) (hb : fm_isBk N bk) (inj : ∀ i j, i < N → j < N → ad i = ad j → i = j) {M M' : fm_M} {l1 : Int32} {r : Int32} (hf : fX0_type n bk M l1 = some (r, M')) : fm_C l yX0_type (ws_ yX0_type cX0_type 2 (some .int)) rmX0_type (YC D dA N ad bk) [.ref (ad 0), .int l1] M (some (.int r)) M' := by
  refine fm_enter (by decide) rfl (fm_le rfl) inj ?_
  intro X hXl F E
  subst hXl
  unfold fX0_type at hf
  show fm_G X (YC D dA N ad bk) (0, 0) 2 M 0 [(0, .ref (ad 0)), (1, .int l1)] []
  refine fm_iload_n (pc := 0) F dX0_type_0 1 rfl ?_
  refine fm_iconst (v := 0) (pc := 1) F dX0_type_1 (by decide) ?_
  refine fm_sipush (v := 255) (pc := 2) F dX0_type_2 (by decide) ?_
  obtain ⟨r1, M2, h3, hf⟩ := fm_bi_inv hf
  refine fm_callS (As := [.int l1, .int 0, .int 255]) (rest := []) (pc := 5) F (mX0_in hN hb F.inj h3) q339 q340 q39 q341 ⟨rfl, rfl⟩ hdX0_in.2 ⟨fm_le rfl, fm_le rfl, Nat.zero_le _, Nat.zero_le _⟩ rfl rfl (fm_le rfl) dX0_type_5 ?_
  refine fm_if_ne (tgt := 13) (pc := 8) F dX0_type_8 (by decide) (fun c5 => ?_) (fun c5 => ?_)
  · replace hf := fm_in c5 hf
    refine fm_aload_n (pc := 13) F dX0_type_13 0 rfl ?_
    refine fm_get (v := .int (M2.1 0 10)) (pc := 14) F (ci := 0) (T := TX0) (n := 19) rfl in_X0 10 (fm_lt rfl) dX0_type_14 q281 0 (fm_ltN hN rfl) rfl rfl ?_
    refine fm_sipush (v := 200) (pc := 17) F dX0_type_17 (by decide) ?_
    refine fm_icmp_ne (tgt := 26) (pc := 20) F dX0_type_20 (by decide) (fun c6 => ?_) (fun c6 => ?_)
    · replace hf := fm_in c6 hf
      refine fm_aload_n (pc := 26) F dX0_type_26 0 rfl ?_
      refine fm_get (v := .ref (ad 6)) (pc := 27) F (ci := 0) (T := TX0) (n := 19) rfl in_X0 9 (fm_lt rfl) dX0_type_27 q279 0 (fm_ltN hN rfl) rfl rfl ?_
      refine fm_aload_n (pc := 30) F dX0_type_30 0 rfl ?_
      refine fm_get (v := .int (M2.1 0 10)) (pc := 31) F (ci := 0) (T := TX0) (n := 19) rfl in_X0 10 (fm_lt rfl) dX0_type_31 q281 0 (fm_ltN hN rfl) rfl rfl ?_
      refine fm_iload_n (pc := 34) F dX0_type_34 1 rfl ?_
      refine fm_i2b (pc := 35) F dX0_type_35 ?_
      obtain ⟨b7, hf⟩ := fm_b_inv hf
      refine fm_bast (pc := 36) F dX0_type_36 6 (fm_ltN hN rfl) (fun _ => rfl) b7 ?_
      refine fm_nameM (fun M8 eM8 => ?_)
      replace hf := fm_let_inv eM8 hf
      refine fm_aload_n (pc := 37) F dX0_type_37 0 rfl ?_
      refine fm_dup (pc := 38) F dX0_type_38 rfl ?_
      refine fm_get (v := .int (M8.1 0 10)) (pc := 39) F (ci := 0) (T := TX0) (n := 19) rfl in_X0 10 (fm_lt rfl) dX0_type_39 q281 0 (fm_ltN hN rfl) rfl rfl ?_
      refine fm_iconst (v := 1) (pc := 42) F dX0_type_42 (by decide) ?_
      refine fm_iadd (pc := 43) F dX0_type_43 ?_
      refine fm_putI (v := ((M8.1 0 10) + 1)) (pc := 44) F clX0 10 (fm_lt rfl) dX0_type_44 q281 rfl rfl 0 (fm_ltN hN rfl) rfl (fm_lt rfl) rfl ?_
      refine fm_nameM (fun M9 eM9 => ?_)
      replace hf := fm_let_inv eM9 hf
      refine fm_aload_n (pc := 47) F dX0_type_47 0 rfl ?_
      refine fm_get (v := .int (M9.1 0 10)) (pc := 48) F (ci := 0) (T := TX0) (n := 19) rfl in_X0 10 (fm_lt rfl) dX0_type_48 q281 0 (fm_ltN hN rfl) rfl rfl ?_
      exact fm_iret (pc := 51) F E hf dX0_type_51
    · replace hf := fm_ip c6 hf
      refine fm_bipush (v := (-3)) (pc := 23) F dX0_type_23 (by decide) ?_
      exact fm_iret (pc := 25) F E hf dX0_type_25
  · replace hf := fm_ip c5 hf
    refine fm_iconst (v := (-1)) (pc := 11) F dX0_type_11 (by decide) ?_
    exact fm_iret (pc := 12) F E hf dX0_type_12
abbrev rmX0_clear : Room := { frames := 2, cells := 0, slots := 0, locals := 80 }
def fX0_clear (n bk : Nat) (M : fm_M) : Option (Int32 × fm_M) :=
  fm_let (fm_wr M 0 10 0) fun M1 =>
  some ((M.1 0 10), M1)
theorem hdX0_clear : yX0_clear.cls = RX0 ∧ yX0_clear.cls ≠ "java/lang/invoke/MethodHandle" ∧ yX0_clear.cls ≠ "java/lang/invoke/VarHandle" ∧ (parseMethodDescriptor yX0_clear.desc).map (fun d => d.parameters.length) = some 0 := by decide +kernel
set_option maxHeartbeats 4000000 in
theorem mX0_clear {l : Launch} {D : va_G} {dA : Nat → ClassId} {ad : Nat → Nat} {N bk : Nat} {n : Nat} (hN : 193 ≤ N) (hb : fm_isBk N bk) (inj : ∀ i j, i < N → j < N → ad i = ad j → i = j) {M M' : fm_M} {r : Int32} (hf : fX0_clear n bk M = some (r, M')) : fm_C l yX0_clear (ws_ yX0_clear cX0_clear 2 (some .int)) rmX0_clear (YC D dA N ad bk) [.ref (ad 0)] M (some (.int r)) M' := by
  refine fm_enter (by decide) rfl (fm_le rfl) inj ?_
  intro X hXl F E
  subst hXl
  unfold fX0_clear at hf
  show fm_G X (YC D dA N ad bk) (0, 0) 2 M 0 [(0, .ref (ad 0))] []
  refine fm_aload_n (pc := 0) F dX0_clear_0 0 rfl ?_
  refine fm_get (v := .int (M.1 0 10)) (pc := 1) F (ci := 0) (T := TX0) (n := 19) rfl in_X0 10 (fm_lt rfl) dX0_clear_1 q281 0 (fm_ltN hN rfl) rfl rfl ?_
  refine fm_istore_n (lv' := [(1, .int (M.1 0 10)), (0, .ref (ad 0))]) (pc := 4) F dX0_clear_4 rfl (fm_lt rfl) rfl ?_
  refine fm_aload_n (pc := 5) F dX0_clear_5 1 rfl ?_
  refine fm_iconst (v := 0) (pc := 6) F dX0_clear_6 (by decide) ?_
  refine fm_putI (v := 0) (pc := 7) F clX0 10 (fm_lt rfl) dX0_clear_7 q281 rfl rfl 0 (fm_ltN hN rfl) rfl (fm_lt rfl) rfl ?_
  refine fm_nameM (fun M1 eM1 => ?_)
  replace hf := fm_let_inv eM1 hf
  refine fm_iload_n (pc := 10) F dX0_clear_10 0 rfl ?_
  exact fm_iret (pc := 11) F E hf dX0_clear_11
abbrev rmX0_fits : Room := { frames := 2, cells := 0, slots := 0, locals := 80 }
def fX0_fits_4 (n bk : Nat) : Nat → fm_M → Int32 → Int32 → Int32 → Option (Int32 × fm_M)
  | 0, _, _, _, _ => none
  | k + 1, M, l1, l2, l3 =>
    if (M.1 bk 8) ≤ l3 then
      some (l2, M)
    else
      fm_b l3 6 <|
      fm_b l1 6 <|
      if (M.1 41 l3.toNatClampNeg) < (M.1 (bk + 2) l1.toNatClampNeg) then
        fX0_fits_4 n bk k M l1 (l2 ||| 0) (l3 + 1)
      else
        fm_let (l2 ||| (1 <<< (l3 &&& 31))) fun x5 =>
        fX0_fits_4 n bk k M l1 x5 (l3 + 1)
def fX0_fits (n bk : Nat) (M : fm_M) (l1 : Int32) : Option (Int32 × fm_M) :=
  fX0_fits_4 n bk n M l1 0 0
theorem hdX0_fits : yX0_fits.cls = RX0 ∧ yX0_fits.cls ≠ "java/lang/invoke/MethodHandle" ∧ yX0_fits.cls ≠ "java/lang/invoke/VarHandle" ∧ (parseMethodDescriptor yX0_fits.desc).map (fun d => d.parameters.length) = some 1 := by decide +kernel
set_option maxHeartbeats 4000000 in
theorem wX0_fits_4 {X : fm_X} {D : va_G} {dA : Nat → ClassId} {ad : Nat → Nat} {N bk : Nat} {n : Nat} (hN : 193 ≤ N) (hb : fm_isBk N bk) {r : Int32} (F : fm_F X (YC D dA N ad bk) cX0_fits 4 RX0 rmX0_fits) {M' : fm_M} (E : fm_E X (YC D dA N ad bk) (some (.int r)) M' (some .int)) : ∀ (k : Nat) (M : fm_M) (l1 : Int32) (l2 : Int32) (l3 : Int32), fX0_fits_4 n bk k M l1 l2 l3 = some (r, M') → fm_G X (YC D dA N ad bk) (0, 0) 4 M 4 [(0, .ref (ad 0)), (1, .int l1), (2, .int l2), (3, .int l3)] [] := by
  intro k
  induction k with
  | zero =>
    intro M l1 l2 l3 hf
    rw [fX0_fits_4] at hf
    cases hf
  | succ k ih =>
    intro M l1 l2 l3 hf
    rw [fX0_fits_4] at hf
    refine fm_iload_n (pc := 4) F dX0_fits_4 3 rfl ?_
    refine fm_aload_n (pc := 5) F dX0_fits_5 0 rfl ?_
    refine fm_get (v := .ref (ad bk)) (pc := 6) F (ci := 0) (T := TX0) (n := 19) rfl in_X0 0 (fm_lt rfl) dX0_fits_6 q262 0 (fm_ltN hN rfl) rfl rfl ?_
    refine fm_getN (v := .int (M.1 bk 8)) (pc := 9) F (ci := 1) (T := TX1) (n := 11) rfl in_X1 8 (fm_lt rfl) dX0_fits_9 q108 bk (hb.lt 0 (fm_lt rfl)) (hb.mk0 (ad := ad) (dA := dA) (bk := bk) _ M.2) rfl ?_
    refine fm_icmp_ge (tgt := 52) (pc := 12) F dX0_fits_12 (by decide) (fun c1 => ?_) (fun c1 => ?_)
    · replace hf := fm_ip c1 hf
      refine fm_iload_n (pc := 52) F dX0_fits_52 2 rfl ?_
      exact fm_iret (pc := 53) F E hf dX0_fits_53
    · replace hf := fm_in c1 hf
      refine fm_iload_n (pc := 15) F dX0_fits_15 2 rfl ?_
      refine fm_aload_n (pc := 16) F dX0_fits_16 0 rfl ?_
      refine fm_get (v := .ref (ad 39)) (pc := 17) F (ci := 0) (T := TX0) (n := 19) rfl in_X0 3 (fm_lt rfl) dX0_fits_17 q272 0 (fm_ltN hN rfl) rfl rfl ?_
      refine fm_getN (v := .ref (ad 41)) (pc := 20) F (ci := 2) (T := TX2) (n := 7) rfl in_X2 3 (fm_lt rfl) dX0_fits_20 q156 39 (fm_isPl.now.lt hN 0 (fm_lt rfl)) (fm_isPl.now.mk0 (ad := ad) (dA := dA) (bk := bk) _ M.2) rfl ?_
      refine fm_iload_n (pc := 23) F dX0_fits_23 3 rfl ?_
      obtain ⟨b2, hf⟩ := fm_b_inv hf
      refine fm_iald (pc := 24) F dX0_fits_24 41 (fm_isPl.now.lt hN 2 (fm_lt rfl)) (fm_isPl.now.mk2 (ad := ad) (dA := dA) (bk := bk) _ M.2) b2 ?_
      refine fm_aload_n (pc := 25) F dX0_fits_25 0 rfl ?_
      refine fm_get (v := .ref (ad bk)) (pc := 26) F (ci := 0) (T := TX0) (n := 19) rfl in_X0 0 (fm_lt rfl) dX0_fits_26 q262 0 (fm_ltN hN rfl) rfl rfl ?_
      refine fm_getN (v := .ref (ad (bk + 2))) (pc := 29) F (ci := 1) (T := TX1) (n := 11) rfl in_X1 1 (fm_lt rfl) dX0_fits_29 q85 bk (hb.lt 0 (fm_lt rfl)) (hb.mk0 (ad := ad) (dA := dA) (bk := bk) _ M.2) rfl ?_
      refine fm_iload_n (pc := 32) F dX0_fits_32 1 rfl ?_
      obtain ⟨b3, hf⟩ := fm_b_inv hf
      refine fm_iald (pc := 33) F dX0_fits_33 (bk + 2) (hb.lt 2 (fm_lt rfl)) (hb.mk2 (ad := ad) (dA := dA) (bk := bk) _ M.2) b3 ?_
      refine fm_icmp_lt (tgt := 43) (pc := 34) F dX0_fits_34 (by decide) (fun c4 => ?_) (fun c4 => ?_)
      · replace hf := fm_ip c4 hf
        refine fm_iconst (v := 0) (pc := 43) F dX0_fits_43 (by decide) ?_
        refine fm_ior (pc := 44) F dX0_fits_44 ?_
        refine fm_istore_n (lv' := [(2, .int (l2 ||| 0)), (0, .ref (ad 0)), (1, .int l1), (3, .int l3)]) (pc := 45) F dX0_fits_45 rfl (fm_lt rfl) rfl ?_
        refine fm_iinc (v := (l3 + 1)) (lv' := [(3, .int (l3 + 1)), (2, .int (l2 ||| 0)), (0, .ref (ad 0)), (1, .int l1)]) (pc := 46) F dX0_fits_46 3 rfl rfl (fm_lt rfl) rfl ?_
        refine fm_goto (tgt := 4) (pc := 49) F dX0_fits_49 (by decide) ?_
        refine fm_pick [2, 3, 1, 0] rfl ?_
        exact ih _ _ _ _ hf
      · replace hf := fm_in c4 hf
        refine fm_iconst (v := 1) (pc := 37) F dX0_fits_37 (by decide) ?_
        refine fm_iload_n (pc := 38) F dX0_fits_38 3 rfl ?_
        refine fm_ishl (pc := 39) F dX0_fits_39 ?_
        refine fm_goto (tgt := 44) (pc := 40) F dX0_fits_40 (by decide) ?_
        refine fm_ior (pc := 44) F dX0_fits_44 ?_
        refine fm_topi (fun x5 ex5 => ?_)
        replace hf := fm_let_inv ex5 hf
        refine fm_istore_n (lv' := [(2, .int x5), (0, .ref (ad 0)), (1, .int l1), (3, .int l3)]) (pc := 45) F dX0_fits_45 rfl (fm_lt rfl) rfl ?_
        refine fm_iinc (v := (l3 + 1)) (lv' := [(3, .int (l3 + 1)), (2, .int x5), (0, .ref (ad 0)), (1, .int l1)]) (pc := 46) F dX0_fits_46 3 rfl rfl (fm_lt rfl) rfl ?_
        refine fm_goto (tgt := 4) (pc := 49) F dX0_fits_49 (by decide) ?_
        refine fm_pick [2, 3, 1, 0] rfl ?_
        exact ih _ _ _ _ hf
set_option maxHeartbeats 4000000 in
theorem mX0_fits {l : Launch} {D : va_G} {dA : Nat → ClassId} {ad : Nat → Nat} {N bk : Nat} {n : Nat} (hN : 193 ≤ N) (hb : fm_isBk N bk) (inj : ∀ i j, i < N → j < N → ad i = ad j → i = j) {M M' : fm_M} {l1 : Int32} {r : Int32} (hf : fX0_fits n bk M l1 = some (r, M')) : fm_C l yX0_fits (ws_ yX0_fits cX0_fits 4 (some .int)) rmX0_fits (YC D dA N ad bk) [.ref (ad 0), .int l1] M (some (.int r)) M' := by
  refine fm_enter (by decide) rfl (fm_le rfl) inj ?_
  intro X hXl F E
  subst hXl
  unfold fX0_fits at hf
  show fm_G X (YC D dA N ad bk) (0, 0) 4 M 0 [(0, .ref (ad 0)), (1, .int l1)] []
  refine fm_iconst (v := 0) (pc := 0) F dX0_fits_0 (by decide) ?_
  refine fm_istore_n (lv' := [(2, .int 0), (0, .ref (ad 0)), (1, .int l1)]) (pc := 1) F dX0_fits_1 rfl (fm_lt rfl) rfl ?_
  refine fm_iconst (v := 0) (pc := 2) F dX0_fits_2 (by decide) ?_
  refine fm_istore_n (lv' := [(3, .int 0), (2, .int 0), (0, .ref (ad 0)), (1, .int l1)]) (pc := 3) F dX0_fits_3 rfl (fm_lt rfl) rfl ?_
  refine fm_pick [2, 3, 1, 0] rfl ?_
  exact wX0_fits_4 hN hb F E n _ _ _ _ hf
abbrev rmX0_town : Room := { frames := 4, cells := 0, slots := 0, locals := 123 }
def fX0_town (n bk : Nat) (M : fm_M) (l1 : Int32) (l2 : Int32) : Option (Int32 × fm_M) :=
  fm_bi (fX0_isTown n bk M l1) fun r1 M2 =>
  if r1 = 0 then
    some ((-1), M2)
  else
    if l2 = 0 then
      fm_b l1 6 <|
      some ((M2.1 41 l1.toNatClampNeg), M2)
    else if l2 = 1 then
      fm_b l1 6 <|
      some ((M2.1 40 l1.toNatClampNeg), M2)
    else if l2 = 2 then
      fm_bi (fX2_where n bk 39 M2 l1) fun r11 M12 =>
      some (r11, M12)
    else if l2 = 3 then
      fm_bi (fX2_dumb n bk 39 M2) fun r16 M17 =>
      some (((r16 >>> (l1 &&& 31)) &&& 1), M17)
    else 
      some ((-1), M2)
theorem hdX0_town : yX0_town.cls = RX0 ∧ yX0_town.cls ≠ "java/lang/invoke/MethodHandle" ∧ yX0_town.cls ≠ "java/lang/invoke/VarHandle" ∧ (parseMethodDescriptor yX0_town.desc).map (fun d => d.parameters.length) = some 2 := by decide +kernel
set_option maxHeartbeats 4000000 in
theorem mX0_town {l : Launch} {D : va_G} {dA : Nat → ClassId} {ad : Nat → Nat} {N bk : Nat} {n : Nat} (hN : 193 ≤ N) (hb : fm_isBk N bk) (inj : ∀ i j, i < N → j < N → ad i = ad j → i = j) {M M' : fm_M} {l1 : Int32} {l2 : Int32} {r : Int32} (hf : fX0_town n bk M l1 l2 = some (r, M')) : fm_C l yX0_town (ws_ yX0_town cX0_town 3 (some .int)) rmX0_town (YC D dA N ad bk) [.ref (ad 0), .int l1, .int l2] M (some (.int r)) M' := by
  refine fm_enter (by decide) rfl (fm_le rfl) inj ?_
  intro X hXl F E
  subst hXl
  unfold fX0_town at hf
  show fm_G X (YC D dA N ad bk) (0, 0) 3 M 0 [(0, .ref (ad 0)), (1, .int l1), (2, .int l2)] []
  refine fm_aload_n (pc := 0) F dX0_town_0 0 rfl ?_
  refine fm_iload_n (pc := 1) F dX0_town_1 1 rfl ?_
  obtain ⟨r1, M2, h3, hf⟩ := fm_bi_inv hf
  refine fm_callV (As := [.int l1]) (rest := []) (pc := 2) F (ci := 0) 0 (fm_ltN hN rfl) rfl rfl (mX0_isTown hN hb F.inj h3) q578 q580 qs9 q39 q581 ⟨rfl, rfl⟩ hdX0_isTown ⟨fm_le rfl, fm_le rfl, Nat.zero_le _, Nat.zero_le _⟩ rfl rfl (fm_le rfl) dX0_town_2 ?_
  refine fm_if_ne (tgt := 10) (pc := 5) F dX0_town_5 (by decide) (fun c5 => ?_) (fun c5 => ?_)
  · replace hf := fm_in c5 hf
    refine fm_iload_n (pc := 10) F dX0_town_10 2 rfl ?_
    rcases Decidable.em (l2 = 0) with c6 | c6
    · replace hf := fm_ip c6 hf
      refine fm_tableIn (v := 0) (tgt := 40) (pc := 11) F dX0_town_11 c6 ⟨by decide, by decide, rfl, by decide⟩ ?_
      refine fm_aload_n (pc := 40) F dX0_town_40 0 rfl ?_
      refine fm_get (v := .ref (ad 39)) (pc := 41) F (ci := 0) (T := TX0) (n := 19) rfl in_X0 3 (fm_lt rfl) dX0_town_41 q272 0 (fm_ltN hN rfl) rfl rfl ?_
      refine fm_getN (v := .ref (ad 41)) (pc := 44) F (ci := 2) (T := TX2) (n := 7) rfl in_X2 3 (fm_lt rfl) dX0_town_44 q156 39 (fm_isPl.now.lt hN 0 (fm_lt rfl)) (fm_isPl.now.mk0 (ad := ad) (dA := dA) (bk := bk) _ M2.2) rfl ?_
      refine fm_iload_n (pc := 47) F dX0_town_47 1 rfl ?_
      obtain ⟨b7, hf⟩ := fm_b_inv hf
      refine fm_iald (pc := 48) F dX0_town_48 41 (fm_isPl.now.lt hN 2 (fm_lt rfl)) (fm_isPl.now.mk2 (ad := ad) (dA := dA) (bk := bk) _ M2.2) b7 ?_
      exact fm_iret (pc := 49) F E hf dX0_town_49
    replace hf := fm_in c6 hf
    rcases Decidable.em (l2 = 1) with c8 | c8
    · replace hf := fm_ip c8 hf
      refine fm_tableIn (v := 1) (tgt := 50) (pc := 11) F dX0_town_11 c8 ⟨by decide, by decide, rfl, by decide⟩ ?_
      refine fm_aload_n (pc := 50) F dX0_town_50 0 rfl ?_
      refine fm_get (v := .ref (ad 39)) (pc := 51) F (ci := 0) (T := TX0) (n := 19) rfl in_X0 3 (fm_lt rfl) dX0_town_51 q272 0 (fm_ltN hN rfl) rfl rfl ?_
      refine fm_getN (v := .ref (ad 40)) (pc := 54) F (ci := 2) (T := TX2) (n := 7) rfl in_X2 2 (fm_lt rfl) dX0_town_54 q153 39 (fm_isPl.now.lt hN 0 (fm_lt rfl)) (fm_isPl.now.mk0 (ad := ad) (dA := dA) (bk := bk) _ M2.2) rfl ?_
      refine fm_iload_n (pc := 57) F dX0_town_57 1 rfl ?_
      obtain ⟨b9, hf⟩ := fm_b_inv hf
      refine fm_iald (pc := 58) F dX0_town_58 40 (fm_isPl.now.lt hN 1 (fm_lt rfl)) (fm_isPl.now.mk1 (ad := ad) (dA := dA) (bk := bk) _ M2.2) b9 ?_
      exact fm_iret (pc := 59) F E hf dX0_town_59
    replace hf := fm_in c8 hf
    rcases Decidable.em (l2 = 2) with c10 | c10
    · replace hf := fm_ip c10 hf
      refine fm_tableIn (v := 2) (tgt := 60) (pc := 11) F dX0_town_11 c10 ⟨by decide, by decide, rfl, by decide⟩ ?_
      refine fm_aload_n (pc := 60) F dX0_town_60 0 rfl ?_
      refine fm_get (v := .ref (ad 39)) (pc := 61) F (ci := 0) (T := TX0) (n := 19) rfl in_X0 3 (fm_lt rfl) dX0_town_61 q272 0 (fm_ltN hN rfl) rfl rfl ?_
      refine fm_iload_n (pc := 64) F dX0_town_64 1 rfl ?_
      obtain ⟨r11, M12, h13, hf⟩ := fm_bi_inv hf
      refine fm_callV (As := [.int l1]) (rest := []) (pc := 65) F (ci := 2) 39 (fm_isPl.now.lt hN 0 (fm_lt rfl)) (fm_isPl.now.mk0 (ad := ad) (dA := dA) (bk := bk) _ M2.2) rfl (mX2_where fm_isPl.now hN hb F.inj h13) q582 q583 q584 q41 q585 ⟨rfl, rfl⟩ hdX2_where ⟨fm_le rfl, fm_le rfl, Nat.zero_le _, Nat.zero_le _⟩ rfl rfl (fm_le rfl) dX0_town_65 ?_
      exact fm_iret (pc := 68) F E hf dX0_town_68
    replace hf := fm_in c10 hf
    rcases Decidable.em (l2 = 3) with c15 | c15
    · replace hf := fm_ip c15 hf
      refine fm_tableIn (v := 3) (tgt := 69) (pc := 11) F dX0_town_11 c15 ⟨by decide, by decide, rfl, by decide⟩ ?_
      refine fm_aload_n (pc := 69) F dX0_town_69 0 rfl ?_
      refine fm_get (v := .ref (ad 39)) (pc := 70) F (ci := 0) (T := TX0) (n := 19) rfl in_X0 3 (fm_lt rfl) dX0_town_70 q272 0 (fm_ltN hN rfl) rfl rfl ?_
      obtain ⟨r16, M17, h18, hf⟩ := fm_bi_inv hf
      refine fm_callV (As := []) (rest := []) (pc := 73) F (ci := 2) 39 (fm_isPl.now.lt hN 0 (fm_lt rfl)) (fm_isPl.now.mk0 (ad := ad) (dA := dA) (bk := bk) _ M2.2) rfl (mX2_dumb fm_isPl.now hN hb F.inj h18) q586 q587 q588 q41 q589 ⟨rfl, rfl⟩ hdX2_dumb ⟨fm_le rfl, fm_le rfl, Nat.zero_le _, Nat.zero_le _⟩ rfl rfl (fm_le rfl) dX0_town_73 ?_
      refine fm_iload_n (pc := 76) F dX0_town_76 1 rfl ?_
      refine fm_ishr (pc := 77) F dX0_town_77 ?_
      refine fm_iconst (v := 1) (pc := 78) F dX0_town_78 (by decide) ?_
      refine fm_iand (pc := 79) F dX0_town_79 ?_
      exact fm_iret (pc := 80) F E hf dX0_town_80
    replace hf := fm_in c15 hf
    have nc6 : l2.toInt ≠ 0 := fm_ne c6
    have nc8 : l2.toInt ≠ 1 := fm_ne c8
    have nc10 : l2.toInt ≠ 2 := fm_ne c10
    have nc15 : l2.toInt ≠ 3 := fm_ne c15
    refine fm_tableOut (tgt := 81) (pc := 11) F dX0_town_11 (by omega) (by decide) ?_
    refine fm_iconst (v := (-1)) (pc := 81) F dX0_town_81 (by decide) ?_
    exact fm_iret (pc := 82) F E hf dX0_town_82
  · replace hf := fm_ip c5 hf
    refine fm_iconst (v := (-1)) (pc := 8) F dX0_town_8 (by decide) ?_
    exact fm_iret (pc := 9) F E hf dX0_town_9
abbrev rmX0_bell : Room := { frames := 4, cells := 0, slots := 0, locals := 123 }
def fX0_bell (n bk : Nat) (M : fm_M) (l1 : Int32) (l2 : Int32) : Option (Int32 × fm_M) :=
  fm_bi (fX0_isTown n bk M l1) fun r1 M2 =>
  if r1 = 0 then
    some ((-1), M2)
  else
    if l2 = 0 then
      fm_b l1 6 <|
      some ((M2.1 (bk + 2) l1.toNatClampNeg), M2)
    else if l2 = 1 then
      fm_b l1 6 <|
      some ((M2.1 (bk + 3) l1.toNatClampNeg), M2)
    else if l2 = 2 then
      fm_bi (fX2_where n bk 39 M2 l1) fun r11 M12 =>
      some (r11, M12)
    else if l2 = 3 then
      fm_bi (fX0_fits n bk M2 l1) fun r16 M17 =>
      some (r16, M17)
    else 
      some ((-1), M2)
theorem hdX0_bell : yX0_bell.cls = RX0 ∧ yX0_bell.cls ≠ "java/lang/invoke/MethodHandle" ∧ yX0_bell.cls ≠ "java/lang/invoke/VarHandle" ∧ (parseMethodDescriptor yX0_bell.desc).map (fun d => d.parameters.length) = some 2 := by decide +kernel
set_option maxHeartbeats 4000000 in
theorem mX0_bell {l : Launch} {D : va_G} {dA : Nat → ClassId} {ad : Nat → Nat} {N bk : Nat} {n : Nat} (hN : 193 ≤ N) (hb : fm_isBk N bk) (inj : ∀ i j, i < N → j < N → ad i = ad j → i = j) {M M' : fm_M} {l1 : Int32} {l2 : Int32} {r : Int32} (hf : fX0_bell n bk M l1 l2 = some (r, M')) : fm_C l yX0_bell (ws_ yX0_bell cX0_bell 3 (some .int)) rmX0_bell (YC D dA N ad bk) [.ref (ad 0), .int l1, .int l2] M (some (.int r)) M' := by
  refine fm_enter (by decide) rfl (fm_le rfl) inj ?_
  intro X hXl F E
  subst hXl
  unfold fX0_bell at hf
  show fm_G X (YC D dA N ad bk) (0, 0) 3 M 0 [(0, .ref (ad 0)), (1, .int l1), (2, .int l2)] []
  refine fm_aload_n (pc := 0) F dX0_bell_0 0 rfl ?_
  refine fm_iload_n (pc := 1) F dX0_bell_1 1 rfl ?_
  obtain ⟨r1, M2, h3, hf⟩ := fm_bi_inv hf
  refine fm_callV (As := [.int l1]) (rest := []) (pc := 2) F (ci := 0) 0 (fm_ltN hN rfl) rfl rfl (mX0_isTown hN hb F.inj h3) q578 q580 qs9 q39 q581 ⟨rfl, rfl⟩ hdX0_isTown ⟨fm_le rfl, fm_le rfl, Nat.zero_le _, Nat.zero_le _⟩ rfl rfl (fm_le rfl) dX0_bell_2 ?_
  refine fm_if_ne (tgt := 10) (pc := 5) F dX0_bell_5 (by decide) (fun c5 => ?_) (fun c5 => ?_)
  · replace hf := fm_in c5 hf
    refine fm_iload_n (pc := 10) F dX0_bell_10 2 rfl ?_
    rcases Decidable.em (l2 = 0) with c6 | c6
    · replace hf := fm_ip c6 hf
      refine fm_tableIn (v := 0) (tgt := 40) (pc := 11) F dX0_bell_11 c6 ⟨by decide, by decide, rfl, by decide⟩ ?_
      refine fm_aload_n (pc := 40) F dX0_bell_40 0 rfl ?_
      refine fm_get (v := .ref (ad bk)) (pc := 41) F (ci := 0) (T := TX0) (n := 19) rfl in_X0 0 (fm_lt rfl) dX0_bell_41 q262 0 (fm_ltN hN rfl) rfl rfl ?_
      refine fm_getN (v := .ref (ad (bk + 2))) (pc := 44) F (ci := 1) (T := TX1) (n := 11) rfl in_X1 1 (fm_lt rfl) dX0_bell_44 q85 bk (hb.lt 0 (fm_lt rfl)) (hb.mk0 (ad := ad) (dA := dA) (bk := bk) _ M2.2) rfl ?_
      refine fm_iload_n (pc := 47) F dX0_bell_47 1 rfl ?_
      obtain ⟨b7, hf⟩ := fm_b_inv hf
      refine fm_iald (pc := 48) F dX0_bell_48 (bk + 2) (hb.lt 2 (fm_lt rfl)) (hb.mk2 (ad := ad) (dA := dA) (bk := bk) _ M2.2) b7 ?_
      exact fm_iret (pc := 49) F E hf dX0_bell_49
    replace hf := fm_in c6 hf
    rcases Decidable.em (l2 = 1) with c8 | c8
    · replace hf := fm_ip c8 hf
      refine fm_tableIn (v := 1) (tgt := 50) (pc := 11) F dX0_bell_11 c8 ⟨by decide, by decide, rfl, by decide⟩ ?_
      refine fm_aload_n (pc := 50) F dX0_bell_50 0 rfl ?_
      refine fm_get (v := .ref (ad bk)) (pc := 51) F (ci := 0) (T := TX0) (n := 19) rfl in_X0 0 (fm_lt rfl) dX0_bell_51 q262 0 (fm_ltN hN rfl) rfl rfl ?_
      refine fm_getN (v := .ref (ad (bk + 3))) (pc := 54) F (ci := 1) (T := TX1) (n := 11) rfl in_X1 2 (fm_lt rfl) dX0_bell_54 q90 bk (hb.lt 0 (fm_lt rfl)) (hb.mk0 (ad := ad) (dA := dA) (bk := bk) _ M2.2) rfl ?_
      refine fm_iload_n (pc := 57) F dX0_bell_57 1 rfl ?_
      obtain ⟨b9, hf⟩ := fm_b_inv hf
      refine fm_iald (pc := 58) F dX0_bell_58 (bk + 3) (hb.lt 3 (fm_lt rfl)) (hb.mk3 (ad := ad) (dA := dA) (bk := bk) _ M2.2) b9 ?_
      exact fm_iret (pc := 59) F E hf dX0_bell_59
    replace hf := fm_in c8 hf
    rcases Decidable.em (l2 = 2) with c10 | c10
    · replace hf := fm_ip c10 hf
      refine fm_tableIn (v := 2) (tgt := 60) (pc := 11) F dX0_bell_11 c10 ⟨by decide, by decide, rfl, by decide⟩ ?_
      refine fm_aload_n (pc := 60) F dX0_bell_60 0 rfl ?_
      refine fm_get (v := .ref (ad 39)) (pc := 61) F (ci := 0) (T := TX0) (n := 19) rfl in_X0 3 (fm_lt rfl) dX0_bell_61 q272 0 (fm_ltN hN rfl) rfl rfl ?_
      refine fm_iload_n (pc := 64) F dX0_bell_64 1 rfl ?_
      obtain ⟨r11, M12, h13, hf⟩ := fm_bi_inv hf
      refine fm_callV (As := [.int l1]) (rest := []) (pc := 65) F (ci := 2) 39 (fm_isPl.now.lt hN 0 (fm_lt rfl)) (fm_isPl.now.mk0 (ad := ad) (dA := dA) (bk := bk) _ M2.2) rfl (mX2_where fm_isPl.now hN hb F.inj h13) q582 q583 q584 q41 q585 ⟨rfl, rfl⟩ hdX2_where ⟨fm_le rfl, fm_le rfl, Nat.zero_le _, Nat.zero_le _⟩ rfl rfl (fm_le rfl) dX0_bell_65 ?_
      exact fm_iret (pc := 68) F E hf dX0_bell_68
    replace hf := fm_in c10 hf
    rcases Decidable.em (l2 = 3) with c15 | c15
    · replace hf := fm_ip c15 hf
      refine fm_tableIn (v := 3) (tgt := 69) (pc := 11) F dX0_bell_11 c15 ⟨by decide, by decide, rfl, by decide⟩ ?_
      refine fm_aload_n (pc := 69) F dX0_bell_69 0 rfl ?_
      refine fm_iload_n (pc := 70) F dX0_bell_70 1 rfl ?_
      obtain ⟨r16, M17, h18, hf⟩ := fm_bi_inv hf
      refine fm_callV (As := [.int l1]) (rest := []) (pc := 71) F (ci := 0) 0 (fm_ltN hN rfl) rfl rfl (mX0_fits hN hb F.inj h18) q594 q596 qs10 q39 q597 ⟨rfl, rfl⟩ hdX0_fits ⟨fm_le rfl, fm_le rfl, Nat.zero_le _, Nat.zero_le _⟩ rfl rfl (fm_le rfl) dX0_bell_71 ?_
      exact fm_iret (pc := 74) F E hf dX0_bell_74
    replace hf := fm_in c15 hf
    have nc6 : l2.toInt ≠ 0 := fm_ne c6
    have nc8 : l2.toInt ≠ 1 := fm_ne c8
    have nc10 : l2.toInt ≠ 2 := fm_ne c10
    have nc15 : l2.toInt ≠ 3 := fm_ne c15
    refine fm_tableOut (tgt := 75) (pc := 11) F dX0_bell_11 (by omega) (by decide) ?_
    refine fm_iconst (v := (-1)) (pc := 75) F dX0_bell_75 (by decide) ?_
    exact fm_iret (pc := 76) F E hf dX0_bell_76
  · replace hf := fm_ip c5 hf
    refine fm_iconst (v := (-1)) (pc := 8) F dX0_bell_8 (by decide) ?_
    exact fm_iret (pc := 9) F E hf dX0_bell_9
abbrev rmX0_far : Room := { frames := 4, cells := 0, slots := 0, locals := 123 }
def fX0_far (n bk : Nat) (M : fm_M) (l1 : Int32) (l2 : Int32) : Option (Int32 × fm_M) :=
  fm_bi (fX0_isTown n bk M l1) fun r1 M2 =>
  if r1 = 0 then
    some ((-1), M2)
  else
    fm_bi (fX0_isTown n bk M2 l2) fun r6 M7 =>
    if r6 = 0 then
      some ((-1), M7)
    else
      fm_b l1 6 <|
      fm_b l2 6 <|
      if (M7.1 (bk + 12 + l1.toNatClampNeg) l2.toNatClampNeg) < 100000 then
        fm_b l1 6 <|
        fm_b l2 6 <|
        some ((M7.1 (bk + 12 + l1.toNatClampNeg) l2.toNatClampNeg), M7)
      else
        some ((-9), M7)
theorem hdX0_far : yX0_far.cls = RX0 ∧ yX0_far.cls ≠ "java/lang/invoke/MethodHandle" ∧ yX0_far.cls ≠ "java/lang/invoke/VarHandle" ∧ (parseMethodDescriptor yX0_far.desc).map (fun d => d.parameters.length) = some 2 := by decide +kernel
set_option maxHeartbeats 4000000 in
theorem mX0_far {l : Launch} {D : va_G} {dA : Nat → ClassId} {ad : Nat → Nat} {N bk : Nat} {n : Nat} (hN : 193 ≤ N) (hb : fm_isBk N bk) (inj : ∀ i j, i < N → j < N → ad i = ad j → i = j) {M M' : fm_M} {l1 : Int32} {l2 : Int32} {r : Int32} (hf : fX0_far n bk M l1 l2 = some (r, M')) : fm_C l yX0_far (ws_ yX0_far cX0_far 3 (some .int)) rmX0_far (YC D dA N ad bk) [.ref (ad 0), .int l1, .int l2] M (some (.int r)) M' := by
  refine fm_enter (by decide) rfl (fm_le rfl) inj ?_
  intro X hXl F E
  subst hXl
  unfold fX0_far at hf
  show fm_G X (YC D dA N ad bk) (0, 0) 3 M 0 [(0, .ref (ad 0)), (1, .int l1), (2, .int l2)] []
  refine fm_aload_n (pc := 0) F dX0_far_0 0 rfl ?_
  refine fm_iload_n (pc := 1) F dX0_far_1 1 rfl ?_
  obtain ⟨r1, M2, h3, hf⟩ := fm_bi_inv hf
  refine fm_callV (As := [.int l1]) (rest := []) (pc := 2) F (ci := 0) 0 (fm_ltN hN rfl) rfl rfl (mX0_isTown hN hb F.inj h3) q578 q580 qs9 q39 q581 ⟨rfl, rfl⟩ hdX0_isTown ⟨fm_le rfl, fm_le rfl, Nat.zero_le _, Nat.zero_le _⟩ rfl rfl (fm_le rfl) dX0_far_2 ?_
  refine fm_if_eq (tgt := 16) (pc := 5) F dX0_far_5 (by decide) (fun c5 => ?_) (fun c5 => ?_)
  · replace hf := fm_ip c5 hf
    refine fm_iconst (v := (-1)) (pc := 16) F dX0_far_16 (by decide) ?_
    exact fm_iret (pc := 17) F E hf dX0_far_17
  · replace hf := fm_in c5 hf
    refine fm_aload_n (pc := 8) F dX0_far_8 0 rfl ?_
    refine fm_iload_n (pc := 9) F dX0_far_9 2 rfl ?_
    obtain ⟨r6, M7, h8, hf⟩ := fm_bi_inv hf
    refine fm_callV (As := [.int l2]) (rest := []) (pc := 10) F (ci := 0) 0 (fm_ltN hN rfl) rfl rfl (mX0_isTown hN hb F.inj h8) q578 q580 qs9 q39 q581 ⟨rfl, rfl⟩ hdX0_isTown ⟨fm_le rfl, fm_le rfl, Nat.zero_le _, Nat.zero_le _⟩ rfl rfl (fm_le rfl) dX0_far_10 ?_
    refine fm_if_ne (tgt := 18) (pc := 13) F dX0_far_13 (by decide) (fun c10 => ?_) (fun c10 => ?_)
    · replace hf := fm_in c10 hf
      refine fm_aload_n (pc := 18) F dX0_far_18 0 rfl ?_
      refine fm_get (v := .ref (ad bk)) (pc := 19) F (ci := 0) (T := TX0) (n := 19) rfl in_X0 0 (fm_lt rfl) dX0_far_19 q262 0 (fm_ltN hN rfl) rfl rfl ?_
      refine fm_getN (v := .ref (ad (bk + 11))) (pc := 22) F (ci := 1) (T := TX1) (n := 11) rfl in_X1 4 (fm_lt rfl) dX0_far_22 q95 bk (hb.lt 0 (fm_lt rfl)) (hb.mk0 (ad := ad) (dA := dA) (bk := bk) _ M7.2) rfl ?_
      refine fm_iload_n (pc := 25) F dX0_far_25 1 rfl ?_
      obtain ⟨b11, hf⟩ := fm_b_inv hf
      refine fm_aald (pc := 26) F dX0_far_26 (bk + 11) (hb.lt 11 (fm_lt rfl)) 5 (fun j => bk + 12 + j) (hb.mk11 (ad := ad) (dA := dA) (bk := bk) (M7.1 (bk + 11)) M7.2) rfl rfl b11 ?_
      refine fm_iload_n (pc := 27) F dX0_far_27 2 rfl ?_
      obtain ⟨b12, hf⟩ := fm_b_inv hf
      refine fm_iald (pc := 28) F dX0_far_28 (bk + 12 + l1.toNatClampNeg) (hb.ltr 12 (fm_le rfl) (fm_vlt b11)) (hb.mkr12 (ad := ad) (dA := dA) (bk := bk) (fm_vlt b11) _ M7.2) b12 ?_
      refine fm_ldc (pc := 29) F dX0_far_29 q602 ?_
      refine fm_icmp_lt (tgt := 39) (pc := 31) F dX0_far_31 (by decide) (fun c13 => ?_) (fun c13 => ?_)
      · replace hf := fm_ip c13 hf
        refine fm_aload_n (pc := 39) F dX0_far_39 0 rfl ?_
        refine fm_get (v := .ref (ad bk)) (pc := 40) F (ci := 0) (T := TX0) (n := 19) rfl in_X0 0 (fm_lt rfl) dX0_far_40 q262 0 (fm_ltN hN rfl) rfl rfl ?_
        refine fm_getN (v := .ref (ad (bk + 11))) (pc := 43) F (ci := 1) (T := TX1) (n := 11) rfl in_X1 4 (fm_lt rfl) dX0_far_43 q95 bk (hb.lt 0 (fm_lt rfl)) (hb.mk0 (ad := ad) (dA := dA) (bk := bk) _ M7.2) rfl ?_
        refine fm_iload_n (pc := 46) F dX0_far_46 1 rfl ?_
        obtain ⟨b14, hf⟩ := fm_b_inv hf
        refine fm_aald (pc := 47) F dX0_far_47 (bk + 11) (hb.lt 11 (fm_lt rfl)) 5 (fun j => bk + 12 + j) (hb.mk11 (ad := ad) (dA := dA) (bk := bk) (M7.1 (bk + 11)) M7.2) rfl rfl b14 ?_
        refine fm_iload_n (pc := 48) F dX0_far_48 2 rfl ?_
        obtain ⟨b15, hf⟩ := fm_b_inv hf
        refine fm_iald (pc := 49) F dX0_far_49 (bk + 12 + l1.toNatClampNeg) (hb.ltr 12 (fm_le rfl) (fm_vlt b14)) (hb.mkr12 (ad := ad) (dA := dA) (bk := bk) (fm_vlt b14) _ M7.2) b15 ?_
        exact fm_iret (pc := 50) F E hf dX0_far_50
      · replace hf := fm_in c13 hf
        refine fm_bipush (v := (-9)) (pc := 34) F dX0_far_34 (by decide) ?_
        refine fm_goto (tgt := 50) (pc := 36) F dX0_far_36 (by decide) ?_
        exact fm_iret (pc := 50) F E hf dX0_far_50
    · replace hf := fm_ip c10 hf
      refine fm_iconst (v := (-1)) (pc := 16) F dX0_far_16 (by decide) ?_
      exact fm_iret (pc := 17) F E hf dX0_far_17
abbrev rmX0_oath : Room := { frames := 3, cells := 0, slots := 0, locals := 102 }
def fX0_oath (n bk : Nat) (M : fm_M) (l1 : Int32) (l2 : Int32) : Option (Int32 × fm_M) :=
  fm_bi (fX0_in n bk M l1 0 ((M.1 bk 9) - 1)) fun r1 M2 =>
  if r1 = 0 then
    some ((-1), M2)
  else
    fm_bi (fX0_in n bk M2 l2 0 3) fun r6 M7 =>
    if r6 = 0 then
      some ((-1), M7)
    else
      if l2 = 0 then
        fm_b l1 6 <|
        some ((M7.1 (bk + 18) l1.toNatClampNeg), M7)
      else
        if l2 = 1 then
          fm_b l1 6 <|
          some ((M7.1 (bk + 19) l1.toNatClampNeg), M7)
        else
          if l2 = 2 then
            fm_b l1 6 <|
            some ((M7.1 (bk + 20) l1.toNatClampNeg), M7)
          else
            fm_b l1 6 <|
            some ((M7.1 42 l1.toNatClampNeg), M7)
theorem hdX0_oath : yX0_oath.cls = RX0 ∧ yX0_oath.cls ≠ "java/lang/invoke/MethodHandle" ∧ yX0_oath.cls ≠ "java/lang/invoke/VarHandle" ∧ (parseMethodDescriptor yX0_oath.desc).map (fun d => d.parameters.length) = some 2 := by decide +kernel
set_option maxHeartbeats 4000000 in
theorem mX0_oath {l : Launch} {D : va_G} {dA : Nat → ClassId} {ad : Nat → Nat} {N bk : Nat} {n : Nat} (hN : 193 ≤ N) (hb : fm_isBk N bk) (inj : ∀ i j, i < N → j < N → ad i = ad j → i = j) {M M' : fm_M} {l1 : Int32} {l2 : Int32} {r : Int32} (hf : fX0_oath n bk M l1 l2 = some (r, M')) : fm_C l yX0_oath (ws_ yX0_oath cX0_oath 3 (some .int)) rmX0_oath (YC D dA N ad bk) [.ref (ad 0), .int l1, .int l2] M (some (.int r)) M' := by
  refine fm_enter (by decide) rfl (fm_le rfl) inj ?_
  intro X hXl F E
  subst hXl
  unfold fX0_oath at hf
  show fm_G X (YC D dA N ad bk) (0, 0) 3 M 0 [(0, .ref (ad 0)), (1, .int l1), (2, .int l2)] []
  refine fm_iload_n (pc := 0) F dX0_oath_0 1 rfl ?_
  refine fm_iconst (v := 0) (pc := 1) F dX0_oath_1 (by decide) ?_
  refine fm_aload_n (pc := 2) F dX0_oath_2 0 rfl ?_
  refine fm_get (v := .ref (ad bk)) (pc := 3) F (ci := 0) (T := TX0) (n := 19) rfl in_X0 0 (fm_lt rfl) dX0_oath_3 q262 0 (fm_ltN hN rfl) rfl rfl ?_
  refine fm_getN (v := .int (M.1 bk 9)) (pc := 6) F (ci := 1) (T := TX1) (n := 11) rfl in_X1 9 (fm_lt rfl) dX0_oath_6 q113 bk (hb.lt 0 (fm_lt rfl)) (hb.mk0 (ad := ad) (dA := dA) (bk := bk) _ M.2) rfl ?_
  refine fm_iconst (v := 1) (pc := 9) F dX0_oath_9 (by decide) ?_
  refine fm_isub (pc := 10) F dX0_oath_10 ?_
  obtain ⟨r1, M2, h3, hf⟩ := fm_bi_inv hf
  refine fm_callS (As := [.int l1, .int 0, .int ((M.1 bk 9) - 1)]) (rest := []) (pc := 11) F (mX0_in hN hb F.inj h3) q339 q340 q39 q341 ⟨rfl, rfl⟩ hdX0_in.2 ⟨fm_le rfl, fm_le rfl, Nat.zero_le _, Nat.zero_le _⟩ rfl rfl (fm_le rfl) dX0_oath_11 ?_
  refine fm_if_eq (tgt := 26) (pc := 14) F dX0_oath_14 (by decide) (fun c5 => ?_) (fun c5 => ?_)
  · replace hf := fm_ip c5 hf
    refine fm_iconst (v := (-1)) (pc := 26) F dX0_oath_26 (by decide) ?_
    exact fm_iret (pc := 27) F E hf dX0_oath_27
  · replace hf := fm_in c5 hf
    refine fm_iload_n (pc := 17) F dX0_oath_17 2 rfl ?_
    refine fm_iconst (v := 0) (pc := 18) F dX0_oath_18 (by decide) ?_
    refine fm_iconst (v := 3) (pc := 19) F dX0_oath_19 (by decide) ?_
    obtain ⟨r6, M7, h8, hf⟩ := fm_bi_inv hf
    refine fm_callS (As := [.int l2, .int 0, .int 3]) (rest := []) (pc := 20) F (mX0_in hN hb F.inj h8) q339 q340 q39 q341 ⟨rfl, rfl⟩ hdX0_in.2 ⟨fm_le rfl, fm_le rfl, Nat.zero_le _, Nat.zero_le _⟩ rfl rfl (fm_le rfl) dX0_oath_20 ?_
    refine fm_if_ne (tgt := 28) (pc := 23) F dX0_oath_23 (by decide) (fun c10 => ?_) (fun c10 => ?_)
    · replace hf := fm_in c10 hf
      refine fm_iload_n (pc := 28) F dX0_oath_28 2 rfl ?_
      refine fm_if_ne (tgt := 44) (pc := 29) F dX0_oath_29 (by decide) (fun c11 => ?_) (fun c11 => ?_)
      · replace hf := fm_in c11 hf
        refine fm_iload_n (pc := 44) F dX0_oath_44 2 rfl ?_
        refine fm_iconst (v := 1) (pc := 45) F dX0_oath_45 (by decide) ?_
        refine fm_icmp_ne (tgt := 61) (pc := 46) F dX0_oath_46 (by decide) (fun c12 => ?_) (fun c12 => ?_)
        · replace hf := fm_in c12 hf
          refine fm_iload_n (pc := 61) F dX0_oath_61 2 rfl ?_
          refine fm_iconst (v := 2) (pc := 62) F dX0_oath_62 (by decide) ?_
          refine fm_icmp_ne (tgt := 78) (pc := 63) F dX0_oath_63 (by decide) (fun c13 => ?_) (fun c13 => ?_)
          · replace hf := fm_in c13 hf
            refine fm_aload_n (pc := 78) F dX0_oath_78 0 rfl ?_
            refine fm_get (v := .ref (ad 39)) (pc := 79) F (ci := 0) (T := TX0) (n := 19) rfl in_X0 3 (fm_lt rfl) dX0_oath_79 q272 0 (fm_ltN hN rfl) rfl rfl ?_
            refine fm_getN (v := .ref (ad 42)) (pc := 82) F (ci := 2) (T := TX2) (n := 7) rfl in_X2 4 (fm_lt rfl) dX0_oath_82 q158 39 (fm_isPl.now.lt hN 0 (fm_lt rfl)) (fm_isPl.now.mk0 (ad := ad) (dA := dA) (bk := bk) _ M7.2) rfl ?_
            refine fm_iload_n (pc := 85) F dX0_oath_85 1 rfl ?_
            obtain ⟨b14, hf⟩ := fm_b_inv hf
            refine fm_iald (pc := 86) F dX0_oath_86 42 (fm_isPl.now.lt hN 3 (fm_lt rfl)) (fm_isPl.now.mk3 (ad := ad) (dA := dA) (bk := bk) _ M7.2) b14 ?_
            exact fm_iret (pc := 87) F E hf dX0_oath_87
          · replace hf := fm_ip c13 hf
            refine fm_aload_n (pc := 66) F dX0_oath_66 0 rfl ?_
            refine fm_get (v := .ref (ad bk)) (pc := 67) F (ci := 0) (T := TX0) (n := 19) rfl in_X0 0 (fm_lt rfl) dX0_oath_67 q262 0 (fm_ltN hN rfl) rfl rfl ?_
            refine fm_getN (v := .ref (ad (bk + 20))) (pc := 70) F (ci := 1) (T := TX1) (n := 11) rfl in_X1 7 (fm_lt rfl) dX0_oath_70 q107 bk (hb.lt 0 (fm_lt rfl)) (hb.mk0 (ad := ad) (dA := dA) (bk := bk) _ M7.2) rfl ?_
            refine fm_iload_n (pc := 73) F dX0_oath_73 1 rfl ?_
            obtain ⟨b15, hf⟩ := fm_b_inv hf
            refine fm_iald (pc := 74) F dX0_oath_74 (bk + 20) (hb.lt 20 (fm_lt rfl)) (hb.mk20 (ad := ad) (dA := dA) (bk := bk) _ M7.2) b15 ?_
            refine fm_goto (tgt := 87) (pc := 75) F dX0_oath_75 (by decide) ?_
            exact fm_iret (pc := 87) F E hf dX0_oath_87
        · replace hf := fm_ip c12 hf
          refine fm_aload_n (pc := 49) F dX0_oath_49 0 rfl ?_
          refine fm_get (v := .ref (ad bk)) (pc := 50) F (ci := 0) (T := TX0) (n := 19) rfl in_X0 0 (fm_lt rfl) dX0_oath_50 q262 0 (fm_ltN hN rfl) rfl rfl ?_
          refine fm_getN (v := .ref (ad (bk + 19))) (pc := 53) F (ci := 1) (T := TX1) (n := 11) rfl in_X1 6 (fm_lt rfl) dX0_oath_53 q103 bk (hb.lt 0 (fm_lt rfl)) (hb.mk0 (ad := ad) (dA := dA) (bk := bk) _ M7.2) rfl ?_
          refine fm_iload_n (pc := 56) F dX0_oath_56 1 rfl ?_
          obtain ⟨b16, hf⟩ := fm_b_inv hf
          refine fm_iald (pc := 57) F dX0_oath_57 (bk + 19) (hb.lt 19 (fm_lt rfl)) (hb.mk19 (ad := ad) (dA := dA) (bk := bk) _ M7.2) b16 ?_
          refine fm_goto (tgt := 87) (pc := 58) F dX0_oath_58 (by decide) ?_
          exact fm_iret (pc := 87) F E hf dX0_oath_87
      · replace hf := fm_ip c11 hf
        refine fm_aload_n (pc := 32) F dX0_oath_32 0 rfl ?_
        refine fm_get (v := .ref (ad bk)) (pc := 33) F (ci := 0) (T := TX0) (n := 19) rfl in_X0 0 (fm_lt rfl) dX0_oath_33 q262 0 (fm_ltN hN rfl) rfl rfl ?_
        refine fm_getN (v := .ref (ad (bk + 18))) (pc := 36) F (ci := 1) (T := TX1) (n := 11) rfl in_X1 5 (fm_lt rfl) dX0_oath_36 q99 bk (hb.lt 0 (fm_lt rfl)) (hb.mk0 (ad := ad) (dA := dA) (bk := bk) _ M7.2) rfl ?_
        refine fm_iload_n (pc := 39) F dX0_oath_39 1 rfl ?_
        obtain ⟨b17, hf⟩ := fm_b_inv hf
        refine fm_iald (pc := 40) F dX0_oath_40 (bk + 18) (hb.lt 18 (fm_lt rfl)) (hb.mk18 (ad := ad) (dA := dA) (bk := bk) _ M7.2) b17 ?_
        refine fm_goto (tgt := 87) (pc := 41) F dX0_oath_41 (by decide) ?_
        exact fm_iret (pc := 87) F E hf dX0_oath_87
    · replace hf := fm_ip c10 hf
      refine fm_iconst (v := (-1)) (pc := 26) F dX0_oath_26 (by decide) ?_
      exact fm_iret (pc := 27) F E hf dX0_oath_27
abbrev rmX0_now : Room := { frames := 3, cells := 0, slots := 0, locals := 103 }
def fX0_now (n bk : Nat) (M : fm_M) (l1 : Int32) : Option (Int32 × fm_M) :=
  if l1 = 0 then
    some ((M.1 39 0), M)
  else if l1 = 1 then
    some ((M.1 39 1), M)
  else if l1 = 2 then
    fm_bi (fX2_homes n bk 39 M) fun r4 M5 =>
    some (r4, M5)
  else if l1 = 3 then
    fm_bi (fX2_dumb n bk 39 M) fun r9 M10 =>
    some (r9, M10)
  else if l1 = 4 then
    some ((M.1 0 6), M)
  else 
    some ((-1), M)
theorem hdX0_now : yX0_now.cls = RX0 ∧ yX0_now.cls ≠ "java/lang/invoke/MethodHandle" ∧ yX0_now.cls ≠ "java/lang/invoke/VarHandle" ∧ (parseMethodDescriptor yX0_now.desc).map (fun d => d.parameters.length) = some 1 := by decide +kernel
set_option maxHeartbeats 4000000 in
theorem mX0_now {l : Launch} {D : va_G} {dA : Nat → ClassId} {ad : Nat → Nat} {N bk : Nat} {n : Nat} (hN : 193 ≤ N) (hb : fm_isBk N bk) (inj : ∀ i j, i < N → j < N → ad i = ad j → i = j) {M M' : fm_M} {l1 : Int32} {r : Int32} (hf : fX0_now n bk M l1 = some (r, M')) : fm_C l yX0_now (ws_ yX0_now cX0_now 2 (some .int)) rmX0_now (YC D dA N ad bk) [.ref (ad 0), .int l1] M (some (.int r)) M' := by
  refine fm_enter (by decide) rfl (fm_le rfl) inj ?_
  intro X hXl F E
  subst hXl
  unfold fX0_now at hf
  show fm_G X (YC D dA N ad bk) (0, 0) 2 M 0 [(0, .ref (ad 0)), (1, .int l1)] []
  refine fm_iload_n (pc := 0) F dX0_now_0 1 rfl ?_
  rcases Decidable.em (l1 = 0) with c1 | c1
  · replace hf := fm_ip c1 hf
    refine fm_tableIn (v := 0) (tgt := 36) (pc := 1) F dX0_now_1 c1 ⟨by decide, by decide, rfl, by decide⟩ ?_
    refine fm_aload_n (pc := 36) F dX0_now_36 0 rfl ?_
    refine fm_get (v := .ref (ad 39)) (pc := 37) F (ci := 0) (T := TX0) (n := 19) rfl in_X0 3 (fm_lt rfl) dX0_now_37 q272 0 (fm_ltN hN rfl) rfl rfl ?_
    refine fm_getN (v := .int (M.1 39 0)) (pc := 40) F (ci := 2) (T := TX2) (n := 7) rfl in_X2 0 (fm_lt rfl) dX0_now_40 q149 39 (fm_isPl.now.lt hN 0 (fm_lt rfl)) (fm_isPl.now.mk0 (ad := ad) (dA := dA) (bk := bk) _ M.2) rfl ?_
    exact fm_iret (pc := 43) F E hf dX0_now_43
  replace hf := fm_in c1 hf
  rcases Decidable.em (l1 = 1) with c2 | c2
  · replace hf := fm_ip c2 hf
    refine fm_tableIn (v := 1) (tgt := 44) (pc := 1) F dX0_now_1 c2 ⟨by decide, by decide, rfl, by decide⟩ ?_
    refine fm_aload_n (pc := 44) F dX0_now_44 0 rfl ?_
    refine fm_get (v := .ref (ad 39)) (pc := 45) F (ci := 0) (T := TX0) (n := 19) rfl in_X0 3 (fm_lt rfl) dX0_now_45 q272 0 (fm_ltN hN rfl) rfl rfl ?_
    refine fm_getN (v := .int (M.1 39 1)) (pc := 48) F (ci := 2) (T := TX2) (n := 7) rfl in_X2 1 (fm_lt rfl) dX0_now_48 q151 39 (fm_isPl.now.lt hN 0 (fm_lt rfl)) (fm_isPl.now.mk0 (ad := ad) (dA := dA) (bk := bk) _ M.2) rfl ?_
    exact fm_iret (pc := 51) F E hf dX0_now_51
  replace hf := fm_in c2 hf
  rcases Decidable.em (l1 = 2) with c3 | c3
  · replace hf := fm_ip c3 hf
    refine fm_tableIn (v := 2) (tgt := 52) (pc := 1) F dX0_now_1 c3 ⟨by decide, by decide, rfl, by decide⟩ ?_
    refine fm_aload_n (pc := 52) F dX0_now_52 0 rfl ?_
    refine fm_get (v := .ref (ad 39)) (pc := 53) F (ci := 0) (T := TX0) (n := 19) rfl in_X0 3 (fm_lt rfl) dX0_now_53 q272 0 (fm_ltN hN rfl) rfl rfl ?_
    obtain ⟨r4, M5, h6, hf⟩ := fm_bi_inv hf
    refine fm_callV (As := []) (rest := []) (pc := 56) F (ci := 2) 39 (fm_isPl.now.lt hN 0 (fm_lt rfl)) (fm_isPl.now.mk0 (ad := ad) (dA := dA) (bk := bk) _ M.2) rfl (mX2_homes fm_isPl.now hN hb F.inj h6) q611 q612 q613 q41 q614 ⟨rfl, rfl⟩ hdX2_homes ⟨fm_le rfl, fm_le rfl, Nat.zero_le _, Nat.zero_le _⟩ rfl rfl (fm_le rfl) dX0_now_56 ?_
    exact fm_iret (pc := 59) F E hf dX0_now_59
  replace hf := fm_in c3 hf
  rcases Decidable.em (l1 = 3) with c8 | c8
  · replace hf := fm_ip c8 hf
    refine fm_tableIn (v := 3) (tgt := 60) (pc := 1) F dX0_now_1 c8 ⟨by decide, by decide, rfl, by decide⟩ ?_
    refine fm_aload_n (pc := 60) F dX0_now_60 0 rfl ?_
    refine fm_get (v := .ref (ad 39)) (pc := 61) F (ci := 0) (T := TX0) (n := 19) rfl in_X0 3 (fm_lt rfl) dX0_now_61 q272 0 (fm_ltN hN rfl) rfl rfl ?_
    obtain ⟨r9, M10, h11, hf⟩ := fm_bi_inv hf
    refine fm_callV (As := []) (rest := []) (pc := 64) F (ci := 2) 39 (fm_isPl.now.lt hN 0 (fm_lt rfl)) (fm_isPl.now.mk0 (ad := ad) (dA := dA) (bk := bk) _ M.2) rfl (mX2_dumb fm_isPl.now hN hb F.inj h11) q586 q587 q588 q41 q589 ⟨rfl, rfl⟩ hdX2_dumb ⟨fm_le rfl, fm_le rfl, Nat.zero_le _, Nat.zero_le _⟩ rfl rfl (fm_le rfl) dX0_now_64 ?_
    exact fm_iret (pc := 67) F E hf dX0_now_67
  replace hf := fm_in c8 hf
  rcases Decidable.em (l1 = 4) with c13 | c13
  · replace hf := fm_ip c13 hf
    refine fm_tableIn (v := 4) (tgt := 68) (pc := 1) F dX0_now_1 c13 ⟨by decide, by decide, rfl, by decide⟩ ?_
    refine fm_aload_n (pc := 68) F dX0_now_68 0 rfl ?_
    refine fm_get (v := .int (M.1 0 6)) (pc := 69) F (ci := 0) (T := TX0) (n := 19) rfl in_X0 6 (fm_lt rfl) dX0_now_69 q275 0 (fm_ltN hN rfl) rfl rfl ?_
    exact fm_iret (pc := 72) F E hf dX0_now_72
  replace hf := fm_in c13 hf
  have nc1 : l1.toInt ≠ 0 := fm_ne c1
  have nc2 : l1.toInt ≠ 1 := fm_ne c2
  have nc3 : l1.toInt ≠ 2 := fm_ne c3
  have nc8 : l1.toInt ≠ 3 := fm_ne c8
  have nc13 : l1.toInt ≠ 4 := fm_ne c13
  refine fm_tableOut (tgt := 73) (pc := 1) F dX0_now_1 (by omega) (by decide) ?_
  refine fm_iconst (v := (-1)) (pc := 73) F dX0_now_73 (by decide) ?_
  exact fm_iret (pc := 74) F E hf dX0_now_74
abbrev rmX0_undo : Room := { frames := 3, cells := 0, slots := 0, locals := 102 }
def fX0_undo (n bk : Nat) (M : fm_M) : Option (Int32 × fm_M) :=
  if (M.1 0 6) = 0 then
    some ((-2), M)
  else
    fm_let (fm_wr M 0 6 ((M.1 0 6) - 1)) fun M2 =>
    fm_b (M2.1 0 6) 10 <|
    fm_gd (Nat.blt (M2.1 3 (M2.1 0 6).toNatClampNeg).toNatClampNeg 14) <|
    fm_bv (fX2_copyOf n bk 39 (39 + 11 * (M2.1 3 (M2.1 0 6).toNatClampNeg).toNatClampNeg) M2) fun M6 =>
    some ((M6.1 0 6), M6)
theorem hdX0_undo : yX0_undo.cls = RX0 ∧ yX0_undo.cls ≠ "java/lang/invoke/MethodHandle" ∧ yX0_undo.cls ≠ "java/lang/invoke/VarHandle" ∧ (parseMethodDescriptor yX0_undo.desc).map (fun d => d.parameters.length) = some 0 := by decide +kernel
set_option maxHeartbeats 4000000 in
theorem mX0_undo {l : Launch} {D : va_G} {dA : Nat → ClassId} {ad : Nat → Nat} {N bk : Nat} {n : Nat} (hN : 193 ≤ N) (hb : fm_isBk N bk) (inj : ∀ i j, i < N → j < N → ad i = ad j → i = j) {M M' : fm_M} {r : Int32} (hf : fX0_undo n bk M = some (r, M')) : fm_C l yX0_undo (ws_ yX0_undo cX0_undo 1 (some .int)) rmX0_undo (YC D dA N ad bk) [.ref (ad 0)] M (some (.int r)) M' := by
  refine fm_enter (by decide) rfl (fm_le rfl) inj ?_
  intro X hXl F E
  subst hXl
  unfold fX0_undo at hf
  show fm_G X (YC D dA N ad bk) (0, 0) 1 M 0 [(0, .ref (ad 0))] []
  refine fm_aload_n (pc := 0) F dX0_undo_0 0 rfl ?_
  refine fm_get (v := .int (M.1 0 6)) (pc := 1) F (ci := 0) (T := TX0) (n := 19) rfl in_X0 6 (fm_lt rfl) dX0_undo_1 q275 0 (fm_ltN hN rfl) rfl rfl ?_
  refine fm_if_ne (tgt := 10) (pc := 4) F dX0_undo_4 (by decide) (fun c1 => ?_) (fun c1 => ?_)
  · replace hf := fm_in c1 hf
    refine fm_aload_n (pc := 10) F dX0_undo_10 0 rfl ?_
    refine fm_dup (pc := 11) F dX0_undo_11 rfl ?_
    refine fm_get (v := .int (M.1 0 6)) (pc := 12) F (ci := 0) (T := TX0) (n := 19) rfl in_X0 6 (fm_lt rfl) dX0_undo_12 q275 0 (fm_ltN hN rfl) rfl rfl ?_
    refine fm_iconst (v := 1) (pc := 15) F dX0_undo_15 (by decide) ?_
    refine fm_isub (pc := 16) F dX0_undo_16 ?_
    refine fm_putI (v := ((M.1 0 6) - 1)) (pc := 17) F clX0 6 (fm_lt rfl) dX0_undo_17 q275 rfl rfl 0 (fm_ltN hN rfl) rfl (fm_lt rfl) rfl ?_
    refine fm_nameM (fun M2 eM2 => ?_)
    replace hf := fm_let_inv eM2 hf
    refine fm_aload_n (pc := 20) F dX0_undo_20 0 rfl ?_
    refine fm_get (v := .ref (ad 39)) (pc := 21) F (ci := 0) (T := TX0) (n := 19) rfl in_X0 3 (fm_lt rfl) dX0_undo_21 q272 0 (fm_ltN hN rfl) rfl rfl ?_
    refine fm_aload_n (pc := 24) F dX0_undo_24 0 rfl ?_
    refine fm_get (v := .ref (ad 3)) (pc := 25) F (ci := 0) (T := TX0) (n := 19) rfl in_X0 5 (fm_lt rfl) dX0_undo_25 q274 0 (fm_ltN hN rfl) rfl rfl ?_
    refine fm_aload_n (pc := 28) F dX0_undo_28 0 rfl ?_
    refine fm_get (v := .int (M2.1 0 6)) (pc := 29) F (ci := 0) (T := TX0) (n := 19) rfl in_X0 6 (fm_lt rfl) dX0_undo_29 q275 0 (fm_ltN hN rfl) rfl rfl ?_
    obtain ⟨b3, hf⟩ := fm_b_inv hf
    obtain ⟨g4, hf⟩ := fm_gd_inv hf
    refine fm_aald (pc := 32) F dX0_undo_32 3 (fm_ltN hN rfl) 3 (fun j => 39 + 11 * (M2.1 3 j).toNatClampNeg) rfl rfl rfl b3 ?_
    obtain ⟨M6, h7, hf⟩ := fm_bv_inv hf
    refine fm_callV (As := [.ref (ad (39 + 11 * (M2.1 3 (M2.1 0 6).toNatClampNeg).toNatClampNeg))]) (rest := []) (pc := 33) F (ci := 2) 39 (fm_isPl.now.lt hN 0 (fm_lt rfl)) (fm_isPl.now.mk0 (ad := ad) (dA := dA) (bk := bk) _ M2.2) rfl (mX2_copyOf fm_isPl.now (fm_isPl.of g4) hN hb F.inj h7) q629 q630 q631 q41 q632 ⟨rfl, rfl⟩ hdX2_copyOf ⟨fm_le rfl, fm_le rfl, Nat.zero_le _, Nat.zero_le _⟩ rfl rfl (fm_le rfl) dX0_undo_33 ?_
    refine fm_aload_n (pc := 36) F dX0_undo_36 0 rfl ?_
    refine fm_get (v := .int (M6.1 0 6)) (pc := 37) F (ci := 0) (T := TX0) (n := 19) rfl in_X0 6 (fm_lt rfl) dX0_undo_37 q275 0 (fm_ltN hN rfl) rfl rfl ?_
    exact fm_iret (pc := 40) F E hf dX0_undo_40
  · replace hf := fm_ip c1 hf
    refine fm_bipush (v := (-2)) (pc := 7) F dX0_undo_7 (by decide) ?_
    exact fm_iret (pc := 9) F E hf dX0_undo_9
abbrev rmX0_inLots : Room := { frames := 4, cells := 0, slots := 0, locals := 129 }
def fX0_inLots_46 (n bk : Nat) : Nat → fm_M → Int32 → Int32 → Int32 → Int32 → Option (Int32 × fm_M)
  | 0, _, _, _, _, _ => none
  | k + 1, M, l1, l2, l3, l4 =>
    if l2 ≤ l4 then
      if l3 = (-1) then
        some (((M.1 50 1) - (M.1 39 1)), M)
      else
        fm_b l3 6 <|
        some ((M.1 51 l3.toNatClampNeg), M)
    else
      fm_let ((l1 + l4) - (l1 + l4) / 10000 * 10000) fun x4 =>
      fm_bi (fX2_draw n bk 50 M x4) fun r5 M6 =>
      fX0_inLots_46 n bk k M6 l1 l2 l3 (l4 + 1)
def fX0_inLots_32 (n bk : Nat) (M : fm_M) (l1 : Int32) (l2 : Int32) (l3 : Int32) : Option (Int32 × fm_M) :=
  fm_bv (fX2_copyOf n bk 50 39 M) fun M2 =>
  fX0_inLots_46 n bk n M2 l1 l2 l3 0
def fX0_inLots (n bk : Nat) (M : fm_M) (l1 : Int32) (l2 : Int32) (l3 : Int32) : Option (Int32 × fm_M) :=
  fm_bi (fX0_isSeed n bk M l1) fun r1 M2 =>
  if r1 = 0 then
    some ((-1), M2)
  else
    fm_bi (fX0_in n bk M2 l2 0 20) fun r6 M7 =>
    if r6 = 0 then
      some ((-1), M7)
    else
      if l3 = (-1) then
        fX0_inLots_32 n bk M7 l1 l2 l3
      else
        fm_bi (fX0_isTown n bk M7 l3) fun r12 M13 =>
        if r12 = 0 then
          some ((-1), M13)
        else
          fX0_inLots_32 n bk M13 l1 l2 l3
theorem hdX0_inLots : yX0_inLots.cls = RX0 ∧ yX0_inLots.cls ≠ "java/lang/invoke/MethodHandle" ∧ yX0_inLots.cls ≠ "java/lang/invoke/VarHandle" ∧ (parseMethodDescriptor yX0_inLots.desc).map (fun d => d.parameters.length) = some 3 := by decide +kernel
set_option maxHeartbeats 4000000 in
theorem wX0_inLots_46 {X : fm_X} {D : va_G} {dA : Nat → ClassId} {ad : Nat → Nat} {N bk : Nat} {n : Nat} (hN : 193 ≤ N) (hb : fm_isBk N bk) {r : Int32} (F : fm_F X (YC D dA N ad bk) cX0_inLots 5 RX0 rmX0_inLots) {M' : fm_M} (E : fm_E X (YC D dA N ad bk) (some (.int r)) M' (some .int)) : ∀ (k : Nat) (M : fm_M) (l1 : Int32) (l2 : Int32) (l3 : Int32) (l4 : Int32), fX0_inLots_46 n bk k M l1 l2 l3 l4 = some (r, M') → fm_G X (YC D dA N ad bk) (0, 0) 5 M 46 [(0, .ref (ad 0)), (1, .int l1), (2, .int l2), (3, .int l3), (4, .int l4)] [] := by
  intro k
  induction k with
  | zero =>
    intro M l1 l2 l3 l4 hf
    rw [fX0_inLots_46] at hf
    cases hf
  | succ k ih =>
    intro M l1 l2 l3 l4 hf
    rw [fX0_inLots_46] at hf
    refine fm_iload (pc := 46) F dX0_inLots_46 4 rfl ?_
    refine fm_iload_n (pc := 48) F dX0_inLots_48 2 rfl ?_
    refine fm_icmp_ge (tgt := 74) (pc := 49) F dX0_inLots_49 (by decide) (fun c1 => ?_) (fun c1 => ?_)
    · replace hf := fm_ip c1 hf
      refine fm_iload_n (pc := 74) F dX0_inLots_74 3 rfl ?_
      refine fm_iconst (v := (-1)) (pc := 75) F dX0_inLots_75 (by decide) ?_
      refine fm_icmp_ne (tgt := 97) (pc := 76) F dX0_inLots_76 (by decide) (fun c2 => ?_) (fun c2 => ?_)
      · replace hf := fm_in c2 hf
        refine fm_aload_n (pc := 97) F dX0_inLots_97 0 rfl ?_
        refine fm_get (v := .ref (ad 50)) (pc := 98) F (ci := 0) (T := TX0) (n := 19) rfl in_X0 4 (fm_lt rfl) dX0_inLots_98 q273 0 (fm_ltN hN rfl) rfl rfl ?_
        refine fm_getN (v := .ref (ad 51)) (pc := 101) F (ci := 2) (T := TX2) (n := 7) rfl in_X2 2 (fm_lt rfl) dX0_inLots_101 q153 50 (fm_isPl.tried.lt hN 0 (fm_lt rfl)) (fm_isPl.tried.mk0 (ad := ad) (dA := dA) (bk := bk) _ M.2) rfl ?_
        refine fm_iload_n (pc := 104) F dX0_inLots_104 3 rfl ?_
        obtain ⟨b3, hf⟩ := fm_b_inv hf
        refine fm_iald (pc := 105) F dX0_inLots_105 51 (fm_isPl.tried.lt hN 1 (fm_lt rfl)) (fm_isPl.tried.mk1 (ad := ad) (dA := dA) (bk := bk) _ M.2) b3 ?_
        exact fm_iret (pc := 106) F E hf dX0_inLots_106
      · replace hf := fm_ip c2 hf
        refine fm_aload_n (pc := 79) F dX0_inLots_79 0 rfl ?_
        refine fm_get (v := .ref (ad 50)) (pc := 80) F (ci := 0) (T := TX0) (n := 19) rfl in_X0 4 (fm_lt rfl) dX0_inLots_80 q273 0 (fm_ltN hN rfl) rfl rfl ?_
        refine fm_getN (v := .int (M.1 50 1)) (pc := 83) F (ci := 2) (T := TX2) (n := 7) rfl in_X2 1 (fm_lt rfl) dX0_inLots_83 q151 50 (fm_isPl.tried.lt hN 0 (fm_lt rfl)) (fm_isPl.tried.mk0 (ad := ad) (dA := dA) (bk := bk) _ M.2) rfl ?_
        refine fm_aload_n (pc := 86) F dX0_inLots_86 0 rfl ?_
        refine fm_get (v := .ref (ad 39)) (pc := 87) F (ci := 0) (T := TX0) (n := 19) rfl in_X0 3 (fm_lt rfl) dX0_inLots_87 q272 0 (fm_ltN hN rfl) rfl rfl ?_
        refine fm_getN (v := .int (M.1 39 1)) (pc := 90) F (ci := 2) (T := TX2) (n := 7) rfl in_X2 1 (fm_lt rfl) dX0_inLots_90 q151 39 (fm_isPl.now.lt hN 0 (fm_lt rfl)) (fm_isPl.now.mk0 (ad := ad) (dA := dA) (bk := bk) _ M.2) rfl ?_
        refine fm_isub (pc := 93) F dX0_inLots_93 ?_
        refine fm_goto (tgt := 106) (pc := 94) F dX0_inLots_94 (by decide) ?_
        exact fm_iret (pc := 106) F E hf dX0_inLots_106
    · replace hf := fm_in c1 hf
      refine fm_aload_n (pc := 52) F dX0_inLots_52 0 rfl ?_
      refine fm_get (v := .ref (ad 50)) (pc := 53) F (ci := 0) (T := TX0) (n := 19) rfl in_X0 4 (fm_lt rfl) dX0_inLots_53 q273 0 (fm_ltN hN rfl) rfl rfl ?_
      refine fm_iload_n (pc := 56) F dX0_inLots_56 1 rfl ?_
      refine fm_iload (pc := 57) F dX0_inLots_57 4 rfl ?_
      refine fm_iadd (pc := 59) F dX0_inLots_59 ?_
      refine fm_sipush (v := 10000) (pc := 60) F dX0_inLots_60 (by decide) ?_
      refine fm_irem (pc := 63) F dX0_inLots_63 (by decide) ?_
      refine fm_topi (fun x4 ex4 => ?_)
      replace hf := fm_let_inv ex4 hf
      obtain ⟨r5, M6, h7, hf⟩ := fm_bi_inv hf
      refine fm_callV (As := [.int x4]) (rest := []) (pc := 64) F (ci := 2) 50 (fm_isPl.tried.lt hN 0 (fm_lt rfl)) (fm_isPl.tried.mk0 (ad := ad) (dA := dA) (bk := bk) _ M.2) rfl (mX2_draw fm_isPl.tried hN hb F.inj h7) q634 q635 q636 q41 q637 ⟨rfl, rfl⟩ hdX2_draw ⟨fm_le rfl, fm_le rfl, Nat.zero_le _, Nat.zero_le _⟩ rfl rfl (fm_le rfl) dX0_inLots_64 ?_
      refine fm_pop (pc := 67) F dX0_inLots_67 rfl ?_
      refine fm_iinc (v := (l4 + 1)) (lv' := [(4, .int (l4 + 1)), (0, .ref (ad 0)), (1, .int l1), (2, .int l2), (3, .int l3)]) (pc := 68) F dX0_inLots_68 4 rfl rfl (fm_lt rfl) rfl ?_
      refine fm_goto (tgt := 46) (pc := 71) F dX0_inLots_71 (by decide) ?_
      refine fm_pick [1, 2, 3, 4, 0] rfl ?_
      exact ih _ _ _ _ _ hf
set_option maxHeartbeats 4000000 in
theorem wX0_inLots_32 {X : fm_X} {D : va_G} {dA : Nat → ClassId} {ad : Nat → Nat} {N bk : Nat} {n : Nat} (hN : 193 ≤ N) (hb : fm_isBk N bk) {r : Int32} (F : fm_F X (YC D dA N ad bk) cX0_inLots 5 RX0 rmX0_inLots) {M' : fm_M} (E : fm_E X (YC D dA N ad bk) (some (.int r)) M' (some .int)) : ∀ (M : fm_M) (l1 : Int32) (l2 : Int32) (l3 : Int32), fX0_inLots_32 n bk M l1 l2 l3 = some (r, M') → fm_G X (YC D dA N ad bk) (0, 0) 5 M 32 [(0, .ref (ad 0)), (1, .int l1), (2, .int l2), (3, .int l3)] [] := by
  intro M l1 l2 l3 hf
  unfold fX0_inLots_32 at hf
  refine fm_aload_n (pc := 32) F dX0_inLots_32 0 rfl ?_
  refine fm_get (v := .ref (ad 50)) (pc := 33) F (ci := 0) (T := TX0) (n := 19) rfl in_X0 4 (fm_lt rfl) dX0_inLots_33 q273 0 (fm_ltN hN rfl) rfl rfl ?_
  refine fm_aload_n (pc := 36) F dX0_inLots_36 0 rfl ?_
  refine fm_get (v := .ref (ad 39)) (pc := 37) F (ci := 0) (T := TX0) (n := 19) rfl in_X0 3 (fm_lt rfl) dX0_inLots_37 q272 0 (fm_ltN hN rfl) rfl rfl ?_
  obtain ⟨M2, h3, hf⟩ := fm_bv_inv hf
  refine fm_callV (As := [.ref (ad 39)]) (rest := []) (pc := 40) F (ci := 2) 50 (fm_isPl.tried.lt hN 0 (fm_lt rfl)) (fm_isPl.tried.mk0 (ad := ad) (dA := dA) (bk := bk) _ M.2) rfl (mX2_copyOf fm_isPl.tried fm_isPl.now hN hb F.inj h3) q629 q630 q631 q41 q632 ⟨rfl, rfl⟩ hdX2_copyOf ⟨fm_le rfl, fm_le rfl, Nat.zero_le _, Nat.zero_le _⟩ rfl rfl (fm_le rfl) dX0_inLots_40 ?_
  refine fm_iconst (v := 0) (pc := 43) F dX0_inLots_43 (by decide) ?_
  refine fm_istore (lv' := [(4, .int 0), (0, .ref (ad 0)), (1, .int l1), (2, .int l2), (3, .int l3)]) (pc := 44) F dX0_inLots_44 (fm_lt rfl) rfl ?_
  refine fm_pick [1, 2, 3, 4, 0] rfl ?_
  exact wX0_inLots_46 hN hb F E n _ _ _ _ _ hf
set_option maxHeartbeats 4000000 in
theorem mX0_inLots {l : Launch} {D : va_G} {dA : Nat → ClassId} {ad : Nat → Nat} {N bk : Nat} {n : Nat} (hN : 193 ≤ N) (hb : fm_isBk N bk) (inj : ∀ i j, i < N → j < N → ad i = ad j → i = j) {M M' : fm_M} {l1 : Int32} {l2 : Int32} {l3 : Int32} {r : Int32} (hf : fX0_inLots n bk M l1 l2 l3 = some (r, M')) : fm_C l yX0_inLots (ws_ yX0_inLots cX0_inLots 5 (some .int)) rmX0_inLots (YC D dA N ad bk) [.ref (ad 0), .int l1, .int l2, .int l3] M (some (.int r)) M' := by
  refine fm_enter (by decide) rfl (fm_le rfl) inj ?_
  intro X hXl F E
  subst hXl
  unfold fX0_inLots at hf
  show fm_G X (YC D dA N ad bk) (0, 0) 5 M 0 [(0, .ref (ad 0)), (1, .int l1), (2, .int l2), (3, .int l3)] []
  refine fm_iload_n (pc := 0) F dX0_inLots_0 1 rfl ?_
  obtain ⟨r1, M2, h3, hf⟩ := fm_bi_inv hf
  refine fm_callS (As := [.int l1]) (rest := []) (pc := 1) F (mX0_isSeed hN hb F.inj h3) q619 q620 q39 q621 ⟨rfl, rfl⟩ hdX0_isSeed.2 ⟨fm_le rfl, fm_le rfl, Nat.zero_le _, Nat.zero_le _⟩ rfl rfl (fm_le rfl) dX0_inLots_1 ?_
  refine fm_if_eq (tgt := 30) (pc := 4) F dX0_inLots_4 (by decide) (fun c5 => ?_) (fun c5 => ?_)
  · replace hf := fm_ip c5 hf
    refine fm_iconst (v := (-1)) (pc := 30) F dX0_inLots_30 (by decide) ?_
    exact fm_iret (pc := 31) F E hf dX0_inLots_31
  · replace hf := fm_in c5 hf
    refine fm_iload_n (pc := 7) F dX0_inLots_7 2 rfl ?_
    refine fm_iconst (v := 0) (pc := 8) F dX0_inLots_8 (by decide) ?_
    refine fm_bipush (v := 20) (pc := 9) F dX0_inLots_9 (by decide) ?_
    obtain ⟨r6, M7, h8, hf⟩ := fm_bi_inv hf
    refine fm_callS (As := [.int l2, .int 0, .int 20]) (rest := []) (pc := 11) F (mX0_in hN hb F.inj h8) q339 q340 q39 q341 ⟨rfl, rfl⟩ hdX0_in.2 ⟨fm_le rfl, fm_le rfl, Nat.zero_le _, Nat.zero_le _⟩ rfl rfl (fm_le rfl) dX0_inLots_11 ?_
    refine fm_if_eq (tgt := 30) (pc := 14) F dX0_inLots_14 (by decide) (fun c10 => ?_) (fun c10 => ?_)
    · replace hf := fm_ip c10 hf
      refine fm_iconst (v := (-1)) (pc := 30) F dX0_inLots_30 (by decide) ?_
      exact fm_iret (pc := 31) F E hf dX0_inLots_31
    · replace hf := fm_in c10 hf
      refine fm_iload_n (pc := 17) F dX0_inLots_17 3 rfl ?_
      refine fm_iconst (v := (-1)) (pc := 18) F dX0_inLots_18 (by decide) ?_
      refine fm_icmp_eq (tgt := 32) (pc := 19) F dX0_inLots_19 (by decide) (fun c11 => ?_) (fun c11 => ?_)
      · replace hf := fm_ip c11 hf
        exact wX0_inLots_32 hN hb F E _ _ _ _ hf
      · replace hf := fm_in c11 hf
        refine fm_aload_n (pc := 22) F dX0_inLots_22 0 rfl ?_
        refine fm_iload_n (pc := 23) F dX0_inLots_23 3 rfl ?_
        obtain ⟨r12, M13, h14, hf⟩ := fm_bi_inv hf
        refine fm_callV (As := [.int l3]) (rest := []) (pc := 24) F (ci := 0) 0 (fm_ltN hN rfl) rfl rfl (mX0_isTown hN hb F.inj h14) q578 q580 qs9 q39 q581 ⟨rfl, rfl⟩ hdX0_isTown ⟨fm_le rfl, fm_le rfl, Nat.zero_le _, Nat.zero_le _⟩ rfl rfl (fm_le rfl) dX0_inLots_24 ?_
        refine fm_if_ne (tgt := 32) (pc := 27) F dX0_inLots_27 (by decide) (fun c16 => ?_) (fun c16 => ?_)
        · replace hf := fm_in c16 hf
          exact wX0_inLots_32 hN hb F E _ _ _ _ hf
        · replace hf := fm_ip c16 hf
          refine fm_iconst (v := (-1)) (pc := 30) F dX0_inLots_30 (by decide) ?_
          exact fm_iret (pc := 31) F E hf dX0_inLots_31
abbrev rmX0_cost : Room := { frames := 4, cells := 0, slots := 0, locals := 122 }
def fX0_cost_18 (n bk : Nat) : Nat → fm_M → Int32 → Int32 → Option (Int32 × fm_M)
  | 0, _, _, _ => none
  | k + 1, M, l2, l3 =>
    if (M.1 bk 8) ≤ l3 then
      some (l2, M)
    else
      fm_b l3 6 <|
      fm_b (M.1 2 l3.toNatClampNeg) 6 <|
      fm_b l3 6 <|
      fm_let (M.1 (bk + 12 + (M.1 2 l3.toNatClampNeg).toNatClampNeg) l3.toNatClampNeg) fun x5 =>
      if 100000 ≤ x5 then
        fX0_cost_18 n bk k M (-9) (l3 + 1)
      else
        if l2 = (-9) then
          fX0_cost_18 n bk k M (-9) (l3 + 1)
        else
          fm_b l3 6 <|
          fm_b (M.1 2 l3.toNatClampNeg) 6 <|
          fm_b (M.1 40 (M.1 2 l3.toNatClampNeg).toNatClampNeg) 6 <|
          fm_let (M.1 (bk + 2) (M.1 40 (M.1 2 l3.toNatClampNeg).toNatClampNeg).toNatClampNeg) fun x11 =>
          fm_let (l2 + (x5 * x11)) fun x12 =>
          fX0_cost_18 n bk k M x12 (l3 + 1)
def fX0_cost (n bk : Nat) (M : fm_M) (l1 : Int32) : Option (Int32 × fm_M) :=
  fm_bi (fX0_isSeed n bk M l1) fun r1 M2 =>
  if r1 = 0 then
    some ((-1), M2)
  else
    fm_bv (fX0_lotOf n bk M2 l1) fun M7 =>
    fX0_cost_18 n bk n M7 0 0
theorem hdX0_cost : yX0_cost.cls = RX0 ∧ yX0_cost.cls ≠ "java/lang/invoke/MethodHandle" ∧ yX0_cost.cls ≠ "java/lang/invoke/VarHandle" ∧ (parseMethodDescriptor yX0_cost.desc).map (fun d => d.parameters.length) = some 1 := by decide +kernel
set_option maxHeartbeats 4000000 in
theorem wX0_cost_18 {X : fm_X} {D : va_G} {dA : Nat → ClassId} {ad : Nat → Nat} {N bk : Nat} {n : Nat} (hN : 193 ≤ N) (hb : fm_isBk N bk) {r : Int32} (F : fm_F X (YC D dA N ad bk) cX0_cost 5 RX0 rmX0_cost) {M' : fm_M} (E : fm_E X (YC D dA N ad bk) (some (.int r)) M' (some .int)) : ∀ (k : Nat) (M : fm_M) (l2 : Int32) (l3 : Int32), fX0_cost_18 n bk k M l2 l3 = some (r, M') → fm_G X (YC D dA N ad bk) (0, 0) 5 M 18 [(0, .ref (ad 0)), (2, .int l2), (3, .int l3)] [] := by
  intro k
  induction k with
  | zero =>
    intro M l2 l3 hf
    rw [fX0_cost_18] at hf
    cases hf
  | succ k ih =>
    intro M l2 l3 hf
    rw [fX0_cost_18] at hf
    refine fm_iload_n (pc := 18) F dX0_cost_18 2 rfl ?_
    refine fm_aload_n (pc := 19) F dX0_cost_19 0 rfl ?_
    refine fm_get (v := .ref (ad bk)) (pc := 20) F (ci := 0) (T := TX0) (n := 19) rfl in_X0 0 (fm_lt rfl) dX0_cost_20 q262 0 (fm_ltN hN rfl) rfl rfl ?_
    refine fm_getN (v := .int (M.1 bk 8)) (pc := 23) F (ci := 1) (T := TX1) (n := 11) rfl in_X1 8 (fm_lt rfl) dX0_cost_23 q108 bk (hb.lt 0 (fm_lt rfl)) (hb.mk0 (ad := ad) (dA := dA) (bk := bk) _ M.2) rfl ?_
    refine fm_icmp_ge (tgt := 99) (pc := 26) F dX0_cost_26 (by decide) (fun c1 => ?_) (fun c1 => ?_)
    · replace hf := fm_ip c1 hf
      refine fm_iload_n (pc := 99) F dX0_cost_99 1 rfl ?_
      exact fm_iret (pc := 100) F E hf dX0_cost_100
    · replace hf := fm_in c1 hf
      refine fm_aload_n (pc := 29) F dX0_cost_29 0 rfl ?_
      refine fm_get (v := .ref (ad bk)) (pc := 30) F (ci := 0) (T := TX0) (n := 19) rfl in_X0 0 (fm_lt rfl) dX0_cost_30 q262 0 (fm_ltN hN rfl) rfl rfl ?_
      refine fm_getN (v := .ref (ad (bk + 11))) (pc := 33) F (ci := 1) (T := TX1) (n := 11) rfl in_X1 4 (fm_lt rfl) dX0_cost_33 q95 bk (hb.lt 0 (fm_lt rfl)) (hb.mk0 (ad := ad) (dA := dA) (bk := bk) _ M.2) rfl ?_
      refine fm_aload_n (pc := 36) F dX0_cost_36 0 rfl ?_
      refine fm_get (v := .ref (ad 2)) (pc := 37) F (ci := 0) (T := TX0) (n := 19) rfl in_X0 2 (fm_lt rfl) dX0_cost_37 q268 0 (fm_ltN hN rfl) rfl rfl ?_
      refine fm_iload_n (pc := 40) F dX0_cost_40 2 rfl ?_
      obtain ⟨b2, hf⟩ := fm_b_inv hf
      refine fm_iald (pc := 41) F dX0_cost_41 2 (fm_ltN hN rfl) rfl b2 ?_
      obtain ⟨b3, hf⟩ := fm_b_inv hf
      refine fm_aald (pc := 42) F dX0_cost_42 (bk + 11) (hb.lt 11 (fm_lt rfl)) 5 (fun j => bk + 12 + j) (hb.mk11 (ad := ad) (dA := dA) (bk := bk) (M.1 (bk + 11)) M.2) rfl rfl b3 ?_
      refine fm_iload_n (pc := 43) F dX0_cost_43 2 rfl ?_
      obtain ⟨b4, hf⟩ := fm_b_inv hf
      refine fm_iald (pc := 44) F dX0_cost_44 (bk + 12 + (M.1 2 l3.toNatClampNeg).toNatClampNeg) (hb.ltr 12 (fm_le rfl) (fm_vlt b3)) (hb.mkr12 (ad := ad) (dA := dA) (bk := bk) (fm_vlt b3) _ M.2) b4 ?_
      refine fm_topi (fun x5 ex5 => ?_)
      replace hf := fm_let_inv ex5 hf
      refine fm_istore (lv' := [(4, .int x5), (0, .ref (ad 0)), (2, .int l2), (3, .int l3)]) (pc := 45) F dX0_cost_45 (fm_lt rfl) rfl ?_
      refine fm_iload (pc := 47) F dX0_cost_47 0 rfl ?_
      refine fm_ldc (pc := 49) F dX0_cost_49 q602 ?_
      refine fm_icmp_ge (tgt := 60) (pc := 51) F dX0_cost_51 (by decide) (fun c6 => ?_) (fun c6 => ?_)
      · replace hf := fm_ip c6 hf
        refine fm_bipush (v := (-9)) (pc := 60) F dX0_cost_60 (by decide) ?_
        refine fm_goto (tgt := 92) (pc := 62) F dX0_cost_62 (by decide) ?_
        refine fm_istore_n (lv' := [(2, .int (-9)), (4, .int x5), (0, .ref (ad 0)), (3, .int l3)]) (pc := 92) F dX0_cost_92 rfl (fm_lt rfl) rfl ?_
        refine fm_iinc (v := (l3 + 1)) (lv' := [(3, .int (l3 + 1)), (2, .int (-9)), (4, .int x5), (0, .ref (ad 0))]) (pc := 93) F dX0_cost_93 3 rfl rfl (fm_lt rfl) rfl ?_
        refine fm_goto (tgt := 18) (pc := 96) F dX0_cost_96 (by decide) ?_
        refine fm_pick [3, 1, 0] rfl ?_
        exact ih _ _ _ hf
      · replace hf := fm_in c6 hf
        refine fm_iload_n (pc := 54) F dX0_cost_54 2 rfl ?_
        refine fm_bipush (v := (-9)) (pc := 55) F dX0_cost_55 (by decide) ?_
        refine fm_icmp_ne (tgt := 65) (pc := 57) F dX0_cost_57 (by decide) (fun c7 => ?_) (fun c7 => ?_)
        · replace hf := fm_in c7 hf
          refine fm_iload_n (pc := 65) F dX0_cost_65 2 rfl ?_
          refine fm_iload (pc := 66) F dX0_cost_66 0 rfl ?_
          refine fm_aload_n (pc := 68) F dX0_cost_68 1 rfl ?_
          refine fm_get (v := .ref (ad bk)) (pc := 69) F (ci := 0) (T := TX0) (n := 19) rfl in_X0 0 (fm_lt rfl) dX0_cost_69 q262 0 (fm_ltN hN rfl) rfl rfl ?_
          refine fm_getN (v := .ref (ad (bk + 2))) (pc := 72) F (ci := 1) (T := TX1) (n := 11) rfl in_X1 1 (fm_lt rfl) dX0_cost_72 q85 bk (hb.lt 0 (fm_lt rfl)) (hb.mk0 (ad := ad) (dA := dA) (bk := bk) _ M.2) rfl ?_
          refine fm_aload_n (pc := 75) F dX0_cost_75 1 rfl ?_
          refine fm_get (v := .ref (ad 39)) (pc := 76) F (ci := 0) (T := TX0) (n := 19) rfl in_X0 3 (fm_lt rfl) dX0_cost_76 q272 0 (fm_ltN hN rfl) rfl rfl ?_
          refine fm_getN (v := .ref (ad 40)) (pc := 79) F (ci := 2) (T := TX2) (n := 7) rfl in_X2 2 (fm_lt rfl) dX0_cost_79 q153 39 (fm_isPl.now.lt hN 0 (fm_lt rfl)) (fm_isPl.now.mk0 (ad := ad) (dA := dA) (bk := bk) _ M.2) rfl ?_
          refine fm_aload_n (pc := 82) F dX0_cost_82 1 rfl ?_
          refine fm_get (v := .ref (ad 2)) (pc := 83) F (ci := 0) (T := TX0) (n := 19) rfl in_X0 2 (fm_lt rfl) dX0_cost_83 q268 0 (fm_ltN hN rfl) rfl rfl ?_
          refine fm_iload_n (pc := 86) F dX0_cost_86 3 rfl ?_
          obtain ⟨b8, hf⟩ := fm_b_inv hf
          refine fm_iald (pc := 87) F dX0_cost_87 2 (fm_ltN hN rfl) rfl b8 ?_
          obtain ⟨b9, hf⟩ := fm_b_inv hf
          refine fm_iald (pc := 88) F dX0_cost_88 40 (fm_isPl.now.lt hN 1 (fm_lt rfl)) (fm_isPl.now.mk1 (ad := ad) (dA := dA) (bk := bk) _ M.2) b9 ?_
          obtain ⟨b10, hf⟩ := fm_b_inv hf
          refine fm_iald (pc := 89) F dX0_cost_89 (bk + 2) (hb.lt 2 (fm_lt rfl)) (hb.mk2 (ad := ad) (dA := dA) (bk := bk) _ M.2) b10 ?_
          refine fm_topi (fun x11 ex11 => ?_)
          replace hf := fm_let_inv ex11 hf
          refine fm_imul (pc := 90) F dX0_cost_90 ?_
          refine fm_iadd (pc := 91) F dX0_cost_91 ?_
          refine fm_topi (fun x12 ex12 => ?_)
          replace hf := fm_let_inv ex12 hf
          refine fm_istore_n (lv' := [(2, .int x12), (4, .int x5), (0, .ref (ad 0)), (3, .int l3)]) (pc := 92) F dX0_cost_92 rfl (fm_lt rfl) rfl ?_
          refine fm_iinc (v := (l3 + 1)) (lv' := [(3, .int (l3 + 1)), (2, .int x12), (4, .int x5), (0, .ref (ad 0))]) (pc := 93) F dX0_cost_93 3 rfl rfl (fm_lt rfl) rfl ?_
          refine fm_goto (tgt := 18) (pc := 96) F dX0_cost_96 (by decide) ?_
          refine fm_pick [3, 1, 0] rfl ?_
          exact ih _ _ _ hf
        · replace hf := fm_ip c7 hf
          refine fm_bipush (v := (-9)) (pc := 60) F dX0_cost_60 (by decide) ?_
          refine fm_goto (tgt := 92) (pc := 62) F dX0_cost_62 (by decide) ?_
          refine fm_istore_n (lv' := [(2, .int (-9)), (4, .int x5), (0, .ref (ad 0)), (3, .int l3)]) (pc := 92) F dX0_cost_92 rfl (fm_lt rfl) rfl ?_
          refine fm_iinc (v := (l3 + 1)) (lv' := [(3, .int (l3 + 1)), (2, .int (-9)), (4, .int x5), (0, .ref (ad 0))]) (pc := 93) F dX0_cost_93 3 rfl rfl (fm_lt rfl) rfl ?_
          refine fm_goto (tgt := 18) (pc := 96) F dX0_cost_96 (by decide) ?_
          refine fm_pick [3, 1, 0] rfl ?_
          exact ih _ _ _ hf
set_option maxHeartbeats 4000000 in
theorem mX0_cost {l : Launch} {D : va_G} {dA : Nat → ClassId} {ad : Nat → Nat} {N bk : Nat} {n : Nat} (hN : 193 ≤ N) (hb : fm_isBk N bk) (inj : ∀ i j, i < N → j < N → ad i = ad j → i = j) {M M' : fm_M} {l1 : Int32} {r : Int32} (hf : fX0_cost n bk M l1 = some (r, M')) : fm_C l yX0_cost (ws_ yX0_cost cX0_cost 5 (some .int)) rmX0_cost (YC D dA N ad bk) [.ref (ad 0), .int l1] M (some (.int r)) M' := by
  refine fm_enter (by decide) rfl (fm_le rfl) inj ?_
  intro X hXl F E
  subst hXl
  unfold fX0_cost at hf
  show fm_G X (YC D dA N ad bk) (0, 0) 5 M 0 [(0, .ref (ad 0)), (1, .int l1)] []
  refine fm_iload_n (pc := 0) F dX0_cost_0 1 rfl ?_
  obtain ⟨r1, M2, h3, hf⟩ := fm_bi_inv hf
  refine fm_callS (As := [.int l1]) (rest := []) (pc := 1) F (mX0_isSeed hN hb F.inj h3) q619 q620 q39 q621 ⟨rfl, rfl⟩ hdX0_isSeed.2 ⟨fm_le rfl, fm_le rfl, Nat.zero_le _, Nat.zero_le _⟩ rfl rfl (fm_le rfl) dX0_cost_1 ?_
  refine fm_if_ne (tgt := 9) (pc := 4) F dX0_cost_4 (by decide) (fun c5 => ?_) (fun c5 => ?_)
  · replace hf := fm_in c5 hf
    refine fm_aload_n (pc := 9) F dX0_cost_9 0 rfl ?_
    refine fm_iload_n (pc := 10) F dX0_cost_10 1 rfl ?_
    obtain ⟨M7, h8, hf⟩ := fm_bv_inv hf
    refine fm_callV (As := [.int l1]) (rest := []) (pc := 11) F (ci := 0) 0 (fm_ltN hN rfl) rfl rfl (mX0_lotOf hN hb F.inj h8) q677 q644 qs13 q39 q645 ⟨rfl, rfl⟩ hdX0_lotOf ⟨fm_le rfl, fm_le rfl, Nat.zero_le _, Nat.zero_le _⟩ rfl rfl (fm_le rfl) dX0_cost_11 ?_
    refine fm_iconst (v := 0) (pc := 14) F dX0_cost_14 (by decide) ?_
    refine fm_istore_n (lv' := [(2, .int 0), (0, .ref (ad 0)), (1, .int l1)]) (pc := 15) F dX0_cost_15 rfl (fm_lt rfl) rfl ?_
    refine fm_iconst (v := 0) (pc := 16) F dX0_cost_16 (by decide) ?_
    refine fm_istore_n (lv' := [(3, .int 0), (2, .int 0), (0, .ref (ad 0)), (1, .int l1)]) (pc := 17) F dX0_cost_17 rfl (fm_lt rfl) rfl ?_
    refine fm_pick [2, 1, 0] rfl ?_
    exact wX0_cost_18 hN hb F E n _ _ _ hf
  · replace hf := fm_ip c5 hf
    refine fm_iconst (v := (-1)) (pc := 7) F dX0_cost_7 (by decide) ?_
    exact fm_iret (pc := 8) F E hf dX0_cost_8
abbrev rmX0_home : Room := { frames := 3, cells := 0, slots := 0, locals := 102 }
def fX0_home_84 (n bk : Nat) (k30 : fm_M → Int32 → Int32 → Int32 → Int32 → Option (Int32 × fm_M)) (M : fm_M) (l1 : Int32) (l2 : Int32) (l4 : Int32) (l5 : Int32) (s0 : Int32) : Option (Int32 × fm_M) :=
  fm_b l4 6 <|
  fm_b l5 6 <|
  fm_let (fm_wr M 51 l5.toNatClampNeg (M.1 51 l4.toNatClampNeg)) fun M3 =>
  fm_b l4 6 <|
  fm_let (fm_wr M3 51 l4.toNatClampNeg l4) fun M5 =>
  k30 M5 l1 (l2 + 1) s0 (l4 + 1)
def fX0_home_30 (n bk : Nat) : Nat → fm_M → Int32 → Int32 → Int32 → Int32 → Option (Int32 × fm_M)
  | 0, _, _, _, _, _ => none
  | k + 1, M, l1, l2, l3, l4 =>
    if (M.1 bk 8) ≤ l4 then
      if l1 = 0 then
        some (l2, M)
      else
        some (l3, M)
    else
      fm_b l4 6 <|
      if (M.1 51 l4.toNatClampNeg) = l4 then
        fX0_home_30 n bk k M l1 l2 l3 (l4 + 1)
      else
        fm_bi (fX2_where n bk 50 M l4) fun r5 M6 =>
        if l2 = 0 then
          fX0_home_84 n bk (fX0_home_30 n bk k) M6 l1 l2 l4 r5 ((10 * l4) + r5)
        else
          fX0_home_84 n bk (fX0_home_30 n bk k) M6 l1 l2 l4 r5 l3
def fX0_home (n bk : Nat) (M : fm_M) (l1 : Int32) : Option (Int32 × fm_M) :=
  fm_bi (fX0_in n bk M l1 0 1) fun r1 M2 =>
  if r1 = 0 then
    some ((-1), M2)
  else
    fm_bv (fX2_copyOf n bk 50 39 M2) fun M7 =>
    fX0_home_30 n bk n M7 l1 0 (-9) 0
theorem hdX0_home : yX0_home.cls = RX0 ∧ yX0_home.cls ≠ "java/lang/invoke/MethodHandle" ∧ yX0_home.cls ≠ "java/lang/invoke/VarHandle" ∧ (parseMethodDescriptor yX0_home.desc).map (fun d => d.parameters.length) = some 1 := by decide +kernel
set_option maxHeartbeats 4000000 in
theorem wX0_home_84 {X : fm_X} {D : va_G} {dA : Nat → ClassId} {ad : Nat → Nat} {N bk : Nat} {n : Nat} (hN : 193 ≤ N) (hb : fm_isBk N bk) {r : Int32} (F : fm_F X (YC D dA N ad bk) cX0_home 6 RX0 rmX0_home) {M' : fm_M} (E : fm_E X (YC D dA N ad bk) (some (.int r)) M' (some .int)) {k30 : fm_M → Int32 → Int32 → Int32 → Int32 → Option (Int32 × fm_M)} (hk30 : ∀ (M : fm_M) (l1 : Int32) (l2 : Int32) (l3 : Int32) (l4 : Int32), k30 M l1 l2 l3 l4 = some (r, M') → fm_G X (YC D dA N ad bk) (0, 0) 6 M 30 [(0, .ref (ad 0)), (1, .int l1), (2, .int l2), (3, .int l3), (4, .int l4)] []) : ∀ (M : fm_M) (l1 : Int32) (l2 : Int32) (l4 : Int32) (l5 : Int32) (s0 : Int32), fX0_home_84 n bk k30 M l1 l2 l4 l5 s0 = some (r, M') → fm_G X (YC D dA N ad bk) (0, 0) 6 M 84 [(0, .ref (ad 0)), (1, .int l1), (2, .int l2), (4, .int l4), (5, .int l5)] [.int s0] := by
  intro M l1 l2 l4 l5 s0 hf
  unfold fX0_home_84 at hf
  refine fm_istore_n (lv' := [(3, .int s0), (0, .ref (ad 0)), (1, .int l1), (2, .int l2), (4, .int l4), (5, .int l5)]) (pc := 84) F dX0_home_84 rfl (fm_lt rfl) rfl ?_
  refine fm_aload_n (pc := 85) F dX0_home_85 1 rfl ?_
  refine fm_get (v := .ref (ad 50)) (pc := 86) F (ci := 0) (T := TX0) (n := 19) rfl in_X0 4 (fm_lt rfl) dX0_home_86 q273 0 (fm_ltN hN rfl) rfl rfl ?_
  refine fm_getN (v := .ref (ad 51)) (pc := 89) F (ci := 2) (T := TX2) (n := 7) rfl in_X2 2 (fm_lt rfl) dX0_home_89 q153 50 (fm_isPl.tried.lt hN 0 (fm_lt rfl)) (fm_isPl.tried.mk0 (ad := ad) (dA := dA) (bk := bk) _ M.2) rfl ?_
  refine fm_iload (pc := 92) F dX0_home_92 5 rfl ?_
  refine fm_aload_n (pc := 94) F dX0_home_94 1 rfl ?_
  refine fm_get (v := .ref (ad 50)) (pc := 95) F (ci := 0) (T := TX0) (n := 19) rfl in_X0 4 (fm_lt rfl) dX0_home_95 q273 0 (fm_ltN hN rfl) rfl rfl ?_
  refine fm_getN (v := .ref (ad 51)) (pc := 98) F (ci := 2) (T := TX2) (n := 7) rfl in_X2 2 (fm_lt rfl) dX0_home_98 q153 50 (fm_isPl.tried.lt hN 0 (fm_lt rfl)) (fm_isPl.tried.mk0 (ad := ad) (dA := dA) (bk := bk) _ M.2) rfl ?_
  refine fm_iload (pc := 101) F dX0_home_101 4 rfl ?_
  obtain ⟨b1, hf⟩ := fm_b_inv hf
  refine fm_iald (pc := 103) F dX0_home_103 51 (fm_isPl.tried.lt hN 1 (fm_lt rfl)) (fm_isPl.tried.mk1 (ad := ad) (dA := dA) (bk := bk) _ M.2) b1 ?_
  obtain ⟨b2, hf⟩ := fm_b_inv hf
  refine fm_iast (pc := 104) F dX0_home_104 51 (fm_isPl.tried.lt hN 1 (fm_lt rfl)) (fun _ => fm_isPl.tried.mk1 (ad := ad) (dA := dA) (bk := bk) _ M.2) b2 ?_
  refine fm_nameM (fun M3 eM3 => ?_)
  replace hf := fm_let_inv eM3 hf
  refine fm_aload_n (pc := 105) F dX0_home_105 1 rfl ?_
  refine fm_get (v := .ref (ad 50)) (pc := 106) F (ci := 0) (T := TX0) (n := 19) rfl in_X0 4 (fm_lt rfl) dX0_home_106 q273 0 (fm_ltN hN rfl) rfl rfl ?_
  refine fm_getN (v := .ref (ad 51)) (pc := 109) F (ci := 2) (T := TX2) (n := 7) rfl in_X2 2 (fm_lt rfl) dX0_home_109 q153 50 (fm_isPl.tried.lt hN 0 (fm_lt rfl)) (fm_isPl.tried.mk0 (ad := ad) (dA := dA) (bk := bk) _ M3.2) rfl ?_
  refine fm_iload (pc := 112) F dX0_home_112 4 rfl ?_
  refine fm_iload (pc := 114) F dX0_home_114 4 rfl ?_
  obtain ⟨b4, hf⟩ := fm_b_inv hf
  refine fm_iast (pc := 116) F dX0_home_116 51 (fm_isPl.tried.lt hN 1 (fm_lt rfl)) (fun _ => fm_isPl.tried.mk1 (ad := ad) (dA := dA) (bk := bk) _ M3.2) b4 ?_
  refine fm_nameM (fun M5 eM5 => ?_)
  replace hf := fm_let_inv eM5 hf
  refine fm_iinc (v := (l2 + 1)) (lv' := [(2, .int (l2 + 1)), (3, .int s0), (0, .ref (ad 0)), (1, .int l1), (4, .int l4), (5, .int l5)]) (pc := 117) F dX0_home_117 3 rfl rfl (fm_lt rfl) rfl ?_
  refine fm_iinc (v := (l4 + 1)) (lv' := [(4, .int (l4 + 1)), (2, .int (l2 + 1)), (3, .int s0), (0, .ref (ad 0)), (1, .int l1), (5, .int l5)]) (pc := 120) F dX0_home_120 4 rfl rfl (fm_lt rfl) rfl ?_
  refine fm_goto (tgt := 30) (pc := 123) F dX0_home_123 (by decide) ?_
  refine fm_pick [3, 4, 1, 2, 0] rfl ?_
  exact hk30 _ _ _ _ _ hf
set_option maxHeartbeats 4000000 in
theorem wX0_home_30 {X : fm_X} {D : va_G} {dA : Nat → ClassId} {ad : Nat → Nat} {N bk : Nat} {n : Nat} (hN : 193 ≤ N) (hb : fm_isBk N bk) {r : Int32} (F : fm_F X (YC D dA N ad bk) cX0_home 6 RX0 rmX0_home) {M' : fm_M} (E : fm_E X (YC D dA N ad bk) (some (.int r)) M' (some .int)) : ∀ (k : Nat) (M : fm_M) (l1 : Int32) (l2 : Int32) (l3 : Int32) (l4 : Int32), fX0_home_30 n bk k M l1 l2 l3 l4 = some (r, M') → fm_G X (YC D dA N ad bk) (0, 0) 6 M 30 [(0, .ref (ad 0)), (1, .int l1), (2, .int l2), (3, .int l3), (4, .int l4)] [] := by
  intro k
  induction k with
  | zero =>
    intro M l1 l2 l3 l4 hf
    rw [fX0_home_30] at hf
    cases hf
  | succ k ih =>
    intro M l1 l2 l3 l4 hf
    rw [fX0_home_30] at hf
    refine fm_iload (pc := 30) F dX0_home_30 4 rfl ?_
    refine fm_aload_n (pc := 32) F dX0_home_32 0 rfl ?_
    refine fm_get (v := .ref (ad bk)) (pc := 33) F (ci := 0) (T := TX0) (n := 19) rfl in_X0 0 (fm_lt rfl) dX0_home_33 q262 0 (fm_ltN hN rfl) rfl rfl ?_
    refine fm_getN (v := .int (M.1 bk 8)) (pc := 36) F (ci := 1) (T := TX1) (n := 11) rfl in_X1 8 (fm_lt rfl) dX0_home_36 q108 bk (hb.lt 0 (fm_lt rfl)) (hb.mk0 (ad := ad) (dA := dA) (bk := bk) _ M.2) rfl ?_
    refine fm_icmp_ge (tgt := 126) (pc := 39) F dX0_home_39 (by decide) (fun c1 => ?_) (fun c1 => ?_)
    · replace hf := fm_ip c1 hf
      refine fm_iload_n (pc := 126) F dX0_home_126 1 rfl ?_
      refine fm_if_ne (tgt := 134) (pc := 127) F dX0_home_127 (by decide) (fun c2 => ?_) (fun c2 => ?_)
      · replace hf := fm_in c2 hf
        refine fm_iload_n (pc := 134) F dX0_home_134 3 rfl ?_
        exact fm_iret (pc := 135) F E hf dX0_home_135
      · replace hf := fm_ip c2 hf
        refine fm_iload_n (pc := 130) F dX0_home_130 2 rfl ?_
        refine fm_goto (tgt := 135) (pc := 131) F dX0_home_131 (by decide) ?_
        exact fm_iret (pc := 135) F E hf dX0_home_135
    · replace hf := fm_in c1 hf
      refine fm_aload_n (pc := 42) F dX0_home_42 0 rfl ?_
      refine fm_get (v := .ref (ad 50)) (pc := 43) F (ci := 0) (T := TX0) (n := 19) rfl in_X0 4 (fm_lt rfl) dX0_home_43 q273 0 (fm_ltN hN rfl) rfl rfl ?_
      refine fm_getN (v := .ref (ad 51)) (pc := 46) F (ci := 2) (T := TX2) (n := 7) rfl in_X2 2 (fm_lt rfl) dX0_home_46 q153 50 (fm_isPl.tried.lt hN 0 (fm_lt rfl)) (fm_isPl.tried.mk0 (ad := ad) (dA := dA) (bk := bk) _ M.2) rfl ?_
      refine fm_iload (pc := 49) F dX0_home_49 4 rfl ?_
      obtain ⟨b3, hf⟩ := fm_b_inv hf
      refine fm_iald (pc := 51) F dX0_home_51 51 (fm_isPl.tried.lt hN 1 (fm_lt rfl)) (fm_isPl.tried.mk1 (ad := ad) (dA := dA) (bk := bk) _ M.2) b3 ?_
      refine fm_iload (pc := 52) F dX0_home_52 4 rfl ?_
      refine fm_icmp_eq (tgt := 120) (pc := 54) F dX0_home_54 (by decide) (fun c4 => ?_) (fun c4 => ?_)
      · replace hf := fm_ip c4 hf
        refine fm_iinc (v := (l4 + 1)) (lv' := [(4, .int (l4 + 1)), (0, .ref (ad 0)), (1, .int l1), (2, .int l2), (3, .int l3)]) (pc := 120) F dX0_home_120 4 rfl rfl (fm_lt rfl) rfl ?_
        refine fm_goto (tgt := 30) (pc := 123) F dX0_home_123 (by decide) ?_
        refine fm_pick [1, 2, 3, 4, 0] rfl ?_
        exact ih _ _ _ _ _ hf
      · replace hf := fm_in c4 hf
        refine fm_aload_n (pc := 57) F dX0_home_57 0 rfl ?_
        refine fm_get (v := .ref (ad 50)) (pc := 58) F (ci := 0) (T := TX0) (n := 19) rfl in_X0 4 (fm_lt rfl) dX0_home_58 q273 0 (fm_ltN hN rfl) rfl rfl ?_
        refine fm_iload (pc := 61) F dX0_home_61 4 rfl ?_
        obtain ⟨r5, M6, h7, hf⟩ := fm_bi_inv hf
        refine fm_callV (As := [.int l4]) (rest := []) (pc := 63) F (ci := 2) 50 (fm_isPl.tried.lt hN 0 (fm_lt rfl)) (fm_isPl.tried.mk0 (ad := ad) (dA := dA) (bk := bk) _ M.2) rfl (mX2_where fm_isPl.tried hN hb F.inj h7) q582 q583 q584 q41 q585 ⟨rfl, rfl⟩ hdX2_where ⟨fm_le rfl, fm_le rfl, Nat.zero_le _, Nat.zero_le _⟩ rfl rfl (fm_le rfl) dX0_home_63 ?_
        refine fm_istore (lv' := [(5, .int r5), (0, .ref (ad 0)), (1, .int l1), (2, .int l2), (3, .int l3), (4, .int l4)]) (pc := 66) F dX0_home_66 (fm_lt rfl) rfl ?_
        refine fm_iload_n (pc := 68) F dX0_home_68 3 rfl ?_
        refine fm_if_ne (tgt := 83) (pc := 69) F dX0_home_69 (by decide) (fun c9 => ?_) (fun c9 => ?_)
        · replace hf := fm_in c9 hf
          refine fm_iload_n (pc := 83) F dX0_home_83 4 rfl ?_
          refine fm_pick [1, 2, 3, 5, 0] rfl ?_
          exact wX0_home_84 hN hb F E ih _ _ _ _ _ _ hf
        · replace hf := fm_ip c9 hf
          refine fm_bipush (v := 10) (pc := 72) F dX0_home_72 (by decide) ?_
          refine fm_iload (pc := 74) F dX0_home_74 5 rfl ?_
          refine fm_imul (pc := 76) F dX0_home_76 ?_
          refine fm_iload (pc := 77) F dX0_home_77 0 rfl ?_
          refine fm_iadd (pc := 79) F dX0_home_79 ?_
          refine fm_goto (tgt := 84) (pc := 80) F dX0_home_80 (by decide) ?_
          refine fm_pick [1, 2, 3, 5, 0] rfl ?_
          exact wX0_home_84 hN hb F E ih _ _ _ _ _ _ hf
set_option maxHeartbeats 4000000 in
theorem mX0_home {l : Launch} {D : va_G} {dA : Nat → ClassId} {ad : Nat → Nat} {N bk : Nat} {n : Nat} (hN : 193 ≤ N) (hb : fm_isBk N bk) (inj : ∀ i j, i < N → j < N → ad i = ad j → i = j) {M M' : fm_M} {l1 : Int32} {r : Int32} (hf : fX0_home n bk M l1 = some (r, M')) : fm_C l yX0_home (ws_ yX0_home cX0_home 6 (some .int)) rmX0_home (YC D dA N ad bk) [.ref (ad 0), .int l1] M (some (.int r)) M' := by
  refine fm_enter (by decide) rfl (fm_le rfl) inj ?_
  intro X hXl F E
  subst hXl
  unfold fX0_home at hf
  show fm_G X (YC D dA N ad bk) (0, 0) 6 M 0 [(0, .ref (ad 0)), (1, .int l1)] []
  refine fm_iload_n (pc := 0) F dX0_home_0 1 rfl ?_
  refine fm_iconst (v := 0) (pc := 1) F dX0_home_1 (by decide) ?_
  refine fm_iconst (v := 1) (pc := 2) F dX0_home_2 (by decide) ?_
  obtain ⟨r1, M2, h3, hf⟩ := fm_bi_inv hf
  refine fm_callS (As := [.int l1, .int 0, .int 1]) (rest := []) (pc := 3) F (mX0_in hN hb F.inj h3) q339 q340 q39 q341 ⟨rfl, rfl⟩ hdX0_in.2 ⟨fm_le rfl, fm_le rfl, Nat.zero_le _, Nat.zero_le _⟩ rfl rfl (fm_le rfl) dX0_home_3 ?_
  refine fm_if_ne (tgt := 11) (pc := 6) F dX0_home_6 (by decide) (fun c5 => ?_) (fun c5 => ?_)
  · replace hf := fm_in c5 hf
    refine fm_aload_n (pc := 11) F dX0_home_11 0 rfl ?_
    refine fm_get (v := .ref (ad 50)) (pc := 12) F (ci := 0) (T := TX0) (n := 19) rfl in_X0 4 (fm_lt rfl) dX0_home_12 q273 0 (fm_ltN hN rfl) rfl rfl ?_
    refine fm_aload_n (pc := 15) F dX0_home_15 0 rfl ?_
    refine fm_get (v := .ref (ad 39)) (pc := 16) F (ci := 0) (T := TX0) (n := 19) rfl in_X0 3 (fm_lt rfl) dX0_home_16 q272 0 (fm_ltN hN rfl) rfl rfl ?_
    obtain ⟨M7, h8, hf⟩ := fm_bv_inv hf
    refine fm_callV (As := [.ref (ad 39)]) (rest := []) (pc := 19) F (ci := 2) 50 (fm_isPl.tried.lt hN 0 (fm_lt rfl)) (fm_isPl.tried.mk0 (ad := ad) (dA := dA) (bk := bk) _ M2.2) rfl (mX2_copyOf fm_isPl.tried fm_isPl.now hN hb F.inj h8) q629 q630 q631 q41 q632 ⟨rfl, rfl⟩ hdX2_copyOf ⟨fm_le rfl, fm_le rfl, Nat.zero_le _, Nat.zero_le _⟩ rfl rfl (fm_le rfl) dX0_home_19 ?_
    refine fm_iconst (v := 0) (pc := 22) F dX0_home_22 (by decide) ?_
    refine fm_istore_n (lv' := [(2, .int 0), (0, .ref (ad 0)), (1, .int l1)]) (pc := 23) F dX0_home_23 rfl (fm_lt rfl) rfl ?_
    refine fm_bipush (v := (-9)) (pc := 24) F dX0_home_24 (by decide) ?_
    refine fm_istore_n (lv' := [(3, .int (-9)), (2, .int 0), (0, .ref (ad 0)), (1, .int l1)]) (pc := 26) F dX0_home_26 rfl (fm_lt rfl) rfl ?_
    refine fm_iconst (v := 0) (pc := 27) F dX0_home_27 (by decide) ?_
    refine fm_istore (lv' := [(4, .int 0), (3, .int (-9)), (2, .int 0), (0, .ref (ad 0)), (1, .int l1)]) (pc := 28) F dX0_home_28 (fm_lt rfl) rfl ?_
    refine fm_pick [3, 4, 2, 1, 0] rfl ?_
    exact wX0_home_30 hN hb F E n _ _ _ _ _ hf
  · replace hf := fm_ip c5 hf
    refine fm_iconst (v := (-1)) (pc := 9) F dX0_home_9 (by decide) ?_
    exact fm_iret (pc := 10) F E hf dX0_home_10
abbrev rmX0_round : Room := { frames := 4, cells := 0, slots := 0, locals := 122 }
def fX0_round_53 (n bk : Nat) (k44 : fm_M → Int32 → Int32 → Option (Int32 × fm_M)) : Nat → fm_M → Int32 → Int32 → Int32 → Option (Int32 × fm_M)
  | 0, _, _, _, _ => none
  | k + 1, M, l2, l3, l4 =>
    if (M.1 bk 8) ≤ l4 then
      k44 M (l2 + 1) l3
    else
      fm_b l4 6 <|
      fm_b (M.1 7 l4.toNatClampNeg) 6 <|
      fm_b l4 6 <|
      fm_let (fm_wr M 7 l4.toNatClampNeg (M.1 2 (M.1 7 l4.toNatClampNeg).toNatClampNeg)) fun M5 =>
      if l3 = 0 then
        fX0_round_53 n bk k44 k M5 l2 0 (l4 + 1)
      else
        fm_b l4 6 <|
        if (M5.1 7 l4.toNatClampNeg) = l4 then
          fX0_round_53 n bk k44 k M5 l2 1 (l4 + 1)
        else
          fX0_round_53 n bk k44 k M5 l2 0 (l4 + 1)
def fX0_round_44 (n bk : Nat) : Nat → fm_M → Int32 → Int32 → Option (Int32 × fm_M)
  | 0, _, _, _ => none
  | k + 1, M, l2, l3 =>
    if l3 = 0 then
      fX0_round_53 n bk (fX0_round_44 n bk k) n M l2 1 0
    else
      some (l2, M)
def fX0_round_16 (n bk : Nat) : Nat → fm_M → Int32 → Option (Int32 × fm_M)
  | 0, _, _ => none
  | k + 1, M, l2 =>
    if (M.1 bk 8) ≤ l2 then
      fX0_round_44 n bk n M 0 0
    else
      fm_b l2 6 <|
      fm_let (fm_wr M 7 l2.toNatClampNeg l2) fun M3 =>
      fX0_round_16 n bk k M3 (l2 + 1)
def fX0_round (n bk : Nat) (M : fm_M) (l1 : Int32) : Option (Int32 × fm_M) :=
  fm_bi (fX0_isSeed n bk M l1) fun r1 M2 =>
  if r1 = 0 then
    some ((-1), M2)
  else
    fm_bv (fX0_lotOf n bk M2 l1) fun M7 =>
    fX0_round_16 n bk n M7 0
theorem hdX0_round : yX0_round.cls = RX0 ∧ yX0_round.cls ≠ "java/lang/invoke/MethodHandle" ∧ yX0_round.cls ≠ "java/lang/invoke/VarHandle" ∧ (parseMethodDescriptor yX0_round.desc).map (fun d => d.parameters.length) = some 1 := by decide +kernel
set_option maxHeartbeats 4000000 in
theorem wX0_round_53 {X : fm_X} {D : va_G} {dA : Nat → ClassId} {ad : Nat → Nat} {N bk : Nat} {n : Nat} (hN : 193 ≤ N) (hb : fm_isBk N bk) {r : Int32} (F : fm_F X (YC D dA N ad bk) cX0_round 5 RX0 rmX0_round) {M' : fm_M} (E : fm_E X (YC D dA N ad bk) (some (.int r)) M' (some .int)) {k44 : fm_M → Int32 → Int32 → Option (Int32 × fm_M)} (hk44 : ∀ (M : fm_M) (l2 : Int32) (l3 : Int32), k44 M l2 l3 = some (r, M') → fm_G X (YC D dA N ad bk) (0, 0) 5 M 44 [(0, .ref (ad 0)), (2, .int l2), (3, .int l3)] []) : ∀ (k : Nat) (M : fm_M) (l2 : Int32) (l3 : Int32) (l4 : Int32), fX0_round_53 n bk k44 k M l2 l3 l4 = some (r, M') → fm_G X (YC D dA N ad bk) (0, 0) 5 M 53 [(0, .ref (ad 0)), (2, .int l2), (3, .int l3), (4, .int l4)] [] := by
  intro k
  induction k with
  | zero =>
    intro M l2 l3 l4 hf
    rw [fX0_round_53] at hf
    cases hf
  | succ k ih =>
    intro M l2 l3 l4 hf
    rw [fX0_round_53] at hf
    refine fm_iload (pc := 53) F dX0_round_53 3 rfl ?_
    refine fm_aload_n (pc := 55) F dX0_round_55 0 rfl ?_
    refine fm_get (v := .ref (ad bk)) (pc := 56) F (ci := 0) (T := TX0) (n := 19) rfl in_X0 0 (fm_lt rfl) dX0_round_56 q262 0 (fm_ltN hN rfl) rfl rfl ?_
    refine fm_getN (v := .int (M.1 bk 8)) (pc := 59) F (ci := 1) (T := TX1) (n := 11) rfl in_X1 8 (fm_lt rfl) dX0_round_59 q108 bk (hb.lt 0 (fm_lt rfl)) (hb.mk0 (ad := ad) (dA := dA) (bk := bk) _ M.2) rfl ?_
    refine fm_icmp_ge (tgt := 112) (pc := 62) F dX0_round_62 (by decide) (fun c1 => ?_) (fun c1 => ?_)
    · replace hf := fm_ip c1 hf
      refine fm_iinc (v := (l2 + 1)) (lv' := [(2, .int (l2 + 1)), (0, .ref (ad 0)), (3, .int l3), (4, .int l4)]) (pc := 112) F dX0_round_112 1 rfl rfl (fm_lt rfl) rfl ?_
      refine fm_goto (tgt := 44) (pc := 115) F dX0_round_115 (by decide) ?_
      refine fm_pick [1, 0, 2] rfl ?_
      exact hk44 _ _ _ hf
    · replace hf := fm_in c1 hf
      refine fm_aload_n (pc := 65) F dX0_round_65 0 rfl ?_
      refine fm_get (v := .ref (ad 7)) (pc := 66) F (ci := 0) (T := TX0) (n := 19) rfl in_X0 12 (fm_lt rfl) dX0_round_66 q283 0 (fm_ltN hN rfl) rfl rfl ?_
      refine fm_iload (pc := 69) F dX0_round_69 3 rfl ?_
      refine fm_aload_n (pc := 71) F dX0_round_71 0 rfl ?_
      refine fm_get (v := .ref (ad 2)) (pc := 72) F (ci := 0) (T := TX0) (n := 19) rfl in_X0 2 (fm_lt rfl) dX0_round_72 q268 0 (fm_ltN hN rfl) rfl rfl ?_
      refine fm_aload_n (pc := 75) F dX0_round_75 0 rfl ?_
      refine fm_get (v := .ref (ad 7)) (pc := 76) F (ci := 0) (T := TX0) (n := 19) rfl in_X0 12 (fm_lt rfl) dX0_round_76 q283 0 (fm_ltN hN rfl) rfl rfl ?_
      refine fm_iload (pc := 79) F dX0_round_79 3 rfl ?_
      obtain ⟨b2, hf⟩ := fm_b_inv hf
      refine fm_iald (pc := 81) F dX0_round_81 7 (fm_ltN hN rfl) rfl b2 ?_
      obtain ⟨b3, hf⟩ := fm_b_inv hf
      refine fm_iald (pc := 82) F dX0_round_82 2 (fm_ltN hN rfl) rfl b3 ?_
      obtain ⟨b4, hf⟩ := fm_b_inv hf
      refine fm_iast (pc := 83) F dX0_round_83 7 (fm_ltN hN rfl) (fun _ => rfl) b4 ?_
      refine fm_nameM (fun M5 eM5 => ?_)
      replace hf := fm_let_inv eM5 hf
      refine fm_iload_n (pc := 84) F dX0_round_84 2 rfl ?_
      refine fm_if_eq (tgt := 104) (pc := 85) F dX0_round_85 (by decide) (fun c6 => ?_) (fun c6 => ?_)
      · replace hf := fm_ip c6 hf
        refine fm_iconst (v := 0) (pc := 104) F dX0_round_104 (by decide) ?_
        refine fm_istore_n (lv' := [(3, .int 0), (0, .ref (ad 0)), (2, .int l2), (4, .int l4)]) (pc := 105) F dX0_round_105 rfl (fm_lt rfl) rfl ?_
        refine fm_iinc (v := (l4 + 1)) (lv' := [(4, .int (l4 + 1)), (3, .int 0), (0, .ref (ad 0)), (2, .int l2)]) (pc := 106) F dX0_round_106 3 rfl rfl (fm_lt rfl) rfl ?_
        refine fm_goto (tgt := 53) (pc := 109) F dX0_round_109 (by decide) ?_
        refine fm_pick [2, 3, 1, 0] rfl ?_
        exact ih _ _ _ _ hf
      · replace hf := fm_in c6 hf
        refine fm_aload_n (pc := 88) F dX0_round_88 0 rfl ?_
        refine fm_get (v := .ref (ad 7)) (pc := 89) F (ci := 0) (T := TX0) (n := 19) rfl in_X0 12 (fm_lt rfl) dX0_round_89 q283 0 (fm_ltN hN rfl) rfl rfl ?_
        refine fm_iload (pc := 92) F dX0_round_92 3 rfl ?_
        obtain ⟨b7, hf⟩ := fm_b_inv hf
        refine fm_iald (pc := 94) F dX0_round_94 7 (fm_ltN hN rfl) rfl b7 ?_
        refine fm_iload (pc := 95) F dX0_round_95 3 rfl ?_
        refine fm_icmp_ne (tgt := 104) (pc := 97) F dX0_round_97 (by decide) (fun c8 => ?_) (fun c8 => ?_)
        · replace hf := fm_in c8 hf
          refine fm_iconst (v := 0) (pc := 104) F dX0_round_104 (by decide) ?_
          refine fm_istore_n (lv' := [(3, .int 0), (0, .ref (ad 0)), (2, .int l2), (4, .int l4)]) (pc := 105) F dX0_round_105 rfl (fm_lt rfl) rfl ?_
          refine fm_iinc (v := (l4 + 1)) (lv' := [(4, .int (l4 + 1)), (3, .int 0), (0, .ref (ad 0)), (2, .int l2)]) (pc := 106) F dX0_round_106 3 rfl rfl (fm_lt rfl) rfl ?_
          refine fm_goto (tgt := 53) (pc := 109) F dX0_round_109 (by decide) ?_
          refine fm_pick [2, 3, 1, 0] rfl ?_
          exact ih _ _ _ _ hf
        · replace hf := fm_ip c8 hf
          refine fm_iconst (v := 1) (pc := 100) F dX0_round_100 (by decide) ?_
          refine fm_goto (tgt := 105) (pc := 101) F dX0_round_101 (by decide) ?_
          refine fm_istore_n (lv' := [(3, .int 1), (0, .ref (ad 0)), (2, .int l2), (4, .int l4)]) (pc := 105) F dX0_round_105 rfl (fm_lt rfl) rfl ?_
          refine fm_iinc (v := (l4 + 1)) (lv' := [(4, .int (l4 + 1)), (3, .int 1), (0, .ref (ad 0)), (2, .int l2)]) (pc := 106) F dX0_round_106 3 rfl rfl (fm_lt rfl) rfl ?_
          refine fm_goto (tgt := 53) (pc := 109) F dX0_round_109 (by decide) ?_
          refine fm_pick [2, 3, 1, 0] rfl ?_
          exact ih _ _ _ _ hf
set_option maxHeartbeats 4000000 in
theorem wX0_round_44 {X : fm_X} {D : va_G} {dA : Nat → ClassId} {ad : Nat → Nat} {N bk : Nat} {n : Nat} (hN : 193 ≤ N) (hb : fm_isBk N bk) {r : Int32} (F : fm_F X (YC D dA N ad bk) cX0_round 5 RX0 rmX0_round) {M' : fm_M} (E : fm_E X (YC D dA N ad bk) (some (.int r)) M' (some .int)) : ∀ (k : Nat) (M : fm_M) (l2 : Int32) (l3 : Int32), fX0_round_44 n bk k M l2 l3 = some (r, M') → fm_G X (YC D dA N ad bk) (0, 0) 5 M 44 [(0, .ref (ad 0)), (2, .int l2), (3, .int l3)] [] := by
  intro k
  induction k with
  | zero =>
    intro M l2 l3 hf
    rw [fX0_round_44] at hf
    cases hf
  | succ k ih =>
    intro M l2 l3 hf
    rw [fX0_round_44] at hf
    refine fm_iload_n (pc := 44) F dX0_round_44 2 rfl ?_
    refine fm_if_ne (tgt := 118) (pc := 45) F dX0_round_45 (by decide) (fun c1 => ?_) (fun c1 => ?_)
    · replace hf := fm_in c1 hf
      refine fm_iload_n (pc := 118) F dX0_round_118 1 rfl ?_
      exact fm_iret (pc := 119) F E hf dX0_round_119
    · replace hf := fm_ip c1 hf
      refine fm_iconst (v := 1) (pc := 48) F dX0_round_48 (by decide) ?_
      refine fm_istore_n (lv' := [(3, .int 1), (0, .ref (ad 0)), (2, .int l2)]) (pc := 49) F dX0_round_49 rfl (fm_lt rfl) rfl ?_
      refine fm_iconst (v := 0) (pc := 50) F dX0_round_50 (by decide) ?_
      refine fm_istore (lv' := [(4, .int 0), (3, .int 1), (0, .ref (ad 0)), (2, .int l2)]) (pc := 51) F dX0_round_51 (fm_lt rfl) rfl ?_
      refine fm_pick [2, 3, 1, 0] rfl ?_
      exact wX0_round_53 hN hb F E ih n _ _ _ _ hf
set_option maxHeartbeats 4000000 in
theorem wX0_round_16 {X : fm_X} {D : va_G} {dA : Nat → ClassId} {ad : Nat → Nat} {N bk : Nat} {n : Nat} (hN : 193 ≤ N) (hb : fm_isBk N bk) {r : Int32} (F : fm_F X (YC D dA N ad bk) cX0_round 5 RX0 rmX0_round) {M' : fm_M} (E : fm_E X (YC D dA N ad bk) (some (.int r)) M' (some .int)) : ∀ (k : Nat) (M : fm_M) (l2 : Int32), fX0_round_16 n bk k M l2 = some (r, M') → fm_G X (YC D dA N ad bk) (0, 0) 5 M 16 [(0, .ref (ad 0)), (2, .int l2)] [] := by
  intro k
  induction k with
  | zero =>
    intro M l2 hf
    rw [fX0_round_16] at hf
    cases hf
  | succ k ih =>
    intro M l2 hf
    rw [fX0_round_16] at hf
    refine fm_iload_n (pc := 16) F dX0_round_16 1 rfl ?_
    refine fm_aload_n (pc := 17) F dX0_round_17 0 rfl ?_
    refine fm_get (v := .ref (ad bk)) (pc := 18) F (ci := 0) (T := TX0) (n := 19) rfl in_X0 0 (fm_lt rfl) dX0_round_18 q262 0 (fm_ltN hN rfl) rfl rfl ?_
    refine fm_getN (v := .int (M.1 bk 8)) (pc := 21) F (ci := 1) (T := TX1) (n := 11) rfl in_X1 8 (fm_lt rfl) dX0_round_21 q108 bk (hb.lt 0 (fm_lt rfl)) (hb.mk0 (ad := ad) (dA := dA) (bk := bk) _ M.2) rfl ?_
    refine fm_icmp_ge (tgt := 40) (pc := 24) F dX0_round_24 (by decide) (fun c1 => ?_) (fun c1 => ?_)
    · replace hf := fm_ip c1 hf
      refine fm_iconst (v := 0) (pc := 40) F dX0_round_40 (by decide) ?_
      refine fm_istore_n (lv' := [(2, .int 0), (0, .ref (ad 0))]) (pc := 41) F dX0_round_41 rfl (fm_lt rfl) rfl ?_
      refine fm_iconst (v := 0) (pc := 42) F dX0_round_42 (by decide) ?_
      refine fm_istore_n (lv' := [(3, .int 0), (2, .int 0), (0, .ref (ad 0))]) (pc := 43) F dX0_round_43 rfl (fm_lt rfl) rfl ?_
      refine fm_pick [2, 1, 0] rfl ?_
      exact wX0_round_44 hN hb F E n _ _ _ hf
    · replace hf := fm_in c1 hf
      refine fm_aload_n (pc := 27) F dX0_round_27 0 rfl ?_
      refine fm_get (v := .ref (ad 7)) (pc := 28) F (ci := 0) (T := TX0) (n := 19) rfl in_X0 12 (fm_lt rfl) dX0_round_28 q283 0 (fm_ltN hN rfl) rfl rfl ?_
      refine fm_iload_n (pc := 31) F dX0_round_31 1 rfl ?_
      refine fm_iload_n (pc := 32) F dX0_round_32 1 rfl ?_
      obtain ⟨b2, hf⟩ := fm_b_inv hf
      refine fm_iast (pc := 33) F dX0_round_33 7 (fm_ltN hN rfl) (fun _ => rfl) b2 ?_
      refine fm_nameM (fun M3 eM3 => ?_)
      replace hf := fm_let_inv eM3 hf
      refine fm_iinc (v := (l2 + 1)) (lv' := [(2, .int (l2 + 1)), (0, .ref (ad 0))]) (pc := 34) F dX0_round_34 1 rfl rfl (fm_lt rfl) rfl ?_
      refine fm_goto (tgt := 16) (pc := 37) F dX0_round_37 (by decide) ?_
      refine fm_pick [1, 0] rfl ?_
      exact ih _ _ hf
set_option maxHeartbeats 4000000 in
theorem mX0_round {l : Launch} {D : va_G} {dA : Nat → ClassId} {ad : Nat → Nat} {N bk : Nat} {n : Nat} (hN : 193 ≤ N) (hb : fm_isBk N bk) (inj : ∀ i j, i < N → j < N → ad i = ad j → i = j) {M M' : fm_M} {l1 : Int32} {r : Int32} (hf : fX0_round n bk M l1 = some (r, M')) : fm_C l yX0_round (ws_ yX0_round cX0_round 5 (some .int)) rmX0_round (YC D dA N ad bk) [.ref (ad 0), .int l1] M (some (.int r)) M' := by
  refine fm_enter (by decide) rfl (fm_le rfl) inj ?_
  intro X hXl F E
  subst hXl
  unfold fX0_round at hf
  show fm_G X (YC D dA N ad bk) (0, 0) 5 M 0 [(0, .ref (ad 0)), (1, .int l1)] []
  refine fm_iload_n (pc := 0) F dX0_round_0 1 rfl ?_
  obtain ⟨r1, M2, h3, hf⟩ := fm_bi_inv hf
  refine fm_callS (As := [.int l1]) (rest := []) (pc := 1) F (mX0_isSeed hN hb F.inj h3) q619 q620 q39 q621 ⟨rfl, rfl⟩ hdX0_isSeed.2 ⟨fm_le rfl, fm_le rfl, Nat.zero_le _, Nat.zero_le _⟩ rfl rfl (fm_le rfl) dX0_round_1 ?_
  refine fm_if_ne (tgt := 9) (pc := 4) F dX0_round_4 (by decide) (fun c5 => ?_) (fun c5 => ?_)
  · replace hf := fm_in c5 hf
    refine fm_aload_n (pc := 9) F dX0_round_9 0 rfl ?_
    refine fm_iload_n (pc := 10) F dX0_round_10 1 rfl ?_
    obtain ⟨M7, h8, hf⟩ := fm_bv_inv hf
    refine fm_callV (As := [.int l1]) (rest := []) (pc := 11) F (ci := 0) 0 (fm_ltN hN rfl) rfl rfl (mX0_lotOf hN hb F.inj h8) q677 q644 qs13 q39 q645 ⟨rfl, rfl⟩ hdX0_lotOf ⟨fm_le rfl, fm_le rfl, Nat.zero_le _, Nat.zero_le _⟩ rfl rfl (fm_le rfl) dX0_round_11 ?_
    refine fm_iconst (v := 0) (pc := 14) F dX0_round_14 (by decide) ?_
    refine fm_istore_n (lv' := [(2, .int 0), (0, .ref (ad 0)), (1, .int l1)]) (pc := 15) F dX0_round_15 rfl (fm_lt rfl) rfl ?_
    refine fm_pick [1, 0] rfl ?_
    exact wX0_round_16 hN hb F E n _ _ hf
  · replace hf := fm_ip c5 hf
    refine fm_iconst (v := (-1)) (pc := 7) F dX0_round_7 (by decide) ?_
    exact fm_iret (pc := 8) F E hf dX0_round_8
abbrev rmX0_areCrossed : Room := { frames := 2, cells := 0, slots := 0, locals := 80 }
def fX0_areCrossed_53 (n bk : Nat) (M : fm_M) (l1 : Int32) (l2 : Int32) (l3 : Int32) (s0 : Int32) : Option (Int32 × fm_M) :=
  fm_b l1 6 <|
  fm_b l2 6 <|
  if (M.1 (bk + 20) l1.toNatClampNeg) = (M.1 (bk + 20) l2.toNatClampNeg) then
    if l3 = s0 then
      some (0, M)
    else
      some (1, M)
  else
    some (0, M)
def fX0_areCrossed_26 (n bk : Nat) (M : fm_M) (l1 : Int32) (l2 : Int32) (s0 : Int32) : Option (Int32 × fm_M) :=
  fm_b l1 6 <|
  fm_b l2 6 <|
  if (M.1 (bk + 19) l1.toNatClampNeg) = (M.1 (bk + 19) l2.toNatClampNeg) then
    fX0_areCrossed_53 n bk M l1 l2 s0 1
  else
    fX0_areCrossed_53 n bk M l1 l2 s0 0
def fX0_areCrossed (n bk : Nat) (M : fm_M) (l1 : Int32) (l2 : Int32) : Option (Int32 × fm_M) :=
  fm_b l1 6 <|
  fm_b l2 6 <|
  if (M.1 (bk + 18) l1.toNatClampNeg) = (M.1 (bk + 18) l2.toNatClampNeg) then
    fX0_areCrossed_26 n bk M l1 l2 1
  else
    fX0_areCrossed_26 n bk M l1 l2 0
theorem hdX0_areCrossed : yX0_areCrossed.cls = RX0 ∧ yX0_areCrossed.cls ≠ "java/lang/invoke/MethodHandle" ∧ yX0_areCrossed.cls ≠ "java/lang/invoke/VarHandle" ∧ (parseMethodDescriptor yX0_areCrossed.desc).map (fun d => d.parameters.length) = some 2 := by decide +kernel
set_option maxHeartbeats 4000000 in
theorem wX0_areCrossed_53 {X : fm_X} {D : va_G} {dA : Nat → ClassId} {ad : Nat → Nat} {N bk : Nat} {n : Nat} (hN : 193 ≤ N) (hb : fm_isBk N bk) {r : Int32} (F : fm_F X (YC D dA N ad bk) cX0_areCrossed 5 RX0 rmX0_areCrossed) {M' : fm_M} (E : fm_E X (YC D dA N ad bk) (some (.int r)) M' (some .boolean)) : ∀ (M : fm_M) (l1 : Int32) (l2 : Int32) (l3 : Int32) (s0 : Int32), fX0_areCrossed_53 n bk M l1 l2 l3 s0 = some (r, M') → fm_G X (YC D dA N ad bk) (0, 0) 5 M 53 [(0, .ref (ad 0)), (1, .int l1), (2, .int l2), (3, .int l3)] [.int s0] := by
  intro M l1 l2 l3 s0 hf
  unfold fX0_areCrossed_53 at hf
  refine fm_istore (lv' := [(4, .int s0), (0, .ref (ad 0)), (1, .int l1), (2, .int l2), (3, .int l3)]) (pc := 53) F dX0_areCrossed_53 (fm_lt rfl) rfl ?_
  refine fm_aload_n (pc := 55) F dX0_areCrossed_55 1 rfl ?_
  refine fm_get (v := .ref (ad bk)) (pc := 56) F (ci := 0) (T := TX0) (n := 19) rfl in_X0 0 (fm_lt rfl) dX0_areCrossed_56 q262 0 (fm_ltN hN rfl) rfl rfl ?_
  refine fm_getN (v := .ref (ad (bk + 20))) (pc := 59) F (ci := 1) (T := TX1) (n := 11) rfl in_X1 7 (fm_lt rfl) dX0_areCrossed_59 q107 bk (hb.lt 0 (fm_lt rfl)) (hb.mk0 (ad := ad) (dA := dA) (bk := bk) _ M.2) rfl ?_
  refine fm_iload_n (pc := 62) F dX0_areCrossed_62 2 rfl ?_
  obtain ⟨b1, hf⟩ := fm_b_inv hf
  refine fm_iald (pc := 63) F dX0_areCrossed_63 (bk + 20) (hb.lt 20 (fm_lt rfl)) (hb.mk20 (ad := ad) (dA := dA) (bk := bk) _ M.2) b1 ?_
  refine fm_aload_n (pc := 64) F dX0_areCrossed_64 1 rfl ?_
  refine fm_get (v := .ref (ad bk)) (pc := 65) F (ci := 0) (T := TX0) (n := 19) rfl in_X0 0 (fm_lt rfl) dX0_areCrossed_65 q262 0 (fm_ltN hN rfl) rfl rfl ?_
  refine fm_getN (v := .ref (ad (bk + 20))) (pc := 68) F (ci := 1) (T := TX1) (n := 11) rfl in_X1 7 (fm_lt rfl) dX0_areCrossed_68 q107 bk (hb.lt 0 (fm_lt rfl)) (hb.mk0 (ad := ad) (dA := dA) (bk := bk) _ M.2) rfl ?_
  refine fm_iload_n (pc := 71) F dX0_areCrossed_71 3 rfl ?_
  obtain ⟨b2, hf⟩ := fm_b_inv hf
  refine fm_iald (pc := 72) F dX0_areCrossed_72 (bk + 20) (hb.lt 20 (fm_lt rfl)) (hb.mk20 (ad := ad) (dA := dA) (bk := bk) _ M.2) b2 ?_
  refine fm_icmp_ne (tgt := 86) (pc := 73) F dX0_areCrossed_73 (by decide) (fun c3 => ?_) (fun c3 => ?_)
  · replace hf := fm_in c3 hf
    refine fm_iconst (v := 0) (pc := 86) F dX0_areCrossed_86 (by decide) ?_
    exact fm_zret (pc := 87) F E (Or.inl rfl) hf dX0_areCrossed_87
  · replace hf := fm_ip c3 hf
    refine fm_iload_n (pc := 76) F dX0_areCrossed_76 4 rfl ?_
    refine fm_iload (pc := 77) F dX0_areCrossed_77 0 rfl ?_
    refine fm_icmp_eq (tgt := 86) (pc := 79) F dX0_areCrossed_79 (by decide) (fun c4 => ?_) (fun c4 => ?_)
    · replace hf := fm_ip c4 hf
      refine fm_iconst (v := 0) (pc := 86) F dX0_areCrossed_86 (by decide) ?_
      exact fm_zret (pc := 87) F E (Or.inl rfl) hf dX0_areCrossed_87
    · replace hf := fm_in c4 hf
      refine fm_iconst (v := 1) (pc := 82) F dX0_areCrossed_82 (by decide) ?_
      refine fm_goto (tgt := 87) (pc := 83) F dX0_areCrossed_83 (by decide) ?_
      exact fm_zret (pc := 87) F E (Or.inr rfl) hf dX0_areCrossed_87
set_option maxHeartbeats 4000000 in
theorem wX0_areCrossed_26 {X : fm_X} {D : va_G} {dA : Nat → ClassId} {ad : Nat → Nat} {N bk : Nat} {n : Nat} (hN : 193 ≤ N) (hb : fm_isBk N bk) {r : Int32} (F : fm_F X (YC D dA N ad bk) cX0_areCrossed 5 RX0 rmX0_areCrossed) {M' : fm_M} (E : fm_E X (YC D dA N ad bk) (some (.int r)) M' (some .boolean)) : ∀ (M : fm_M) (l1 : Int32) (l2 : Int32) (s0 : Int32), fX0_areCrossed_26 n bk M l1 l2 s0 = some (r, M') → fm_G X (YC D dA N ad bk) (0, 0) 5 M 26 [(0, .ref (ad 0)), (1, .int l1), (2, .int l2)] [.int s0] := by
  intro M l1 l2 s0 hf
  unfold fX0_areCrossed_26 at hf
  refine fm_istore_n (lv' := [(3, .int s0), (0, .ref (ad 0)), (1, .int l1), (2, .int l2)]) (pc := 26) F dX0_areCrossed_26 rfl (fm_lt rfl) rfl ?_
  refine fm_aload_n (pc := 27) F dX0_areCrossed_27 1 rfl ?_
  refine fm_get (v := .ref (ad bk)) (pc := 28) F (ci := 0) (T := TX0) (n := 19) rfl in_X0 0 (fm_lt rfl) dX0_areCrossed_28 q262 0 (fm_ltN hN rfl) rfl rfl ?_
  refine fm_getN (v := .ref (ad (bk + 19))) (pc := 31) F (ci := 1) (T := TX1) (n := 11) rfl in_X1 6 (fm_lt rfl) dX0_areCrossed_31 q103 bk (hb.lt 0 (fm_lt rfl)) (hb.mk0 (ad := ad) (dA := dA) (bk := bk) _ M.2) rfl ?_
  refine fm_iload_n (pc := 34) F dX0_areCrossed_34 2 rfl ?_
  obtain ⟨b1, hf⟩ := fm_b_inv hf
  refine fm_iald (pc := 35) F dX0_areCrossed_35 (bk + 19) (hb.lt 19 (fm_lt rfl)) (hb.mk19 (ad := ad) (dA := dA) (bk := bk) _ M.2) b1 ?_
  refine fm_aload_n (pc := 36) F dX0_areCrossed_36 1 rfl ?_
  refine fm_get (v := .ref (ad bk)) (pc := 37) F (ci := 0) (T := TX0) (n := 19) rfl in_X0 0 (fm_lt rfl) dX0_areCrossed_37 q262 0 (fm_ltN hN rfl) rfl rfl ?_
  refine fm_getN (v := .ref (ad (bk + 19))) (pc := 40) F (ci := 1) (T := TX1) (n := 11) rfl in_X1 6 (fm_lt rfl) dX0_areCrossed_40 q103 bk (hb.lt 0 (fm_lt rfl)) (hb.mk0 (ad := ad) (dA := dA) (bk := bk) _ M.2) rfl ?_
  refine fm_iload_n (pc := 43) F dX0_areCrossed_43 3 rfl ?_
  obtain ⟨b2, hf⟩ := fm_b_inv hf
  refine fm_iald (pc := 44) F dX0_areCrossed_44 (bk + 19) (hb.lt 19 (fm_lt rfl)) (hb.mk19 (ad := ad) (dA := dA) (bk := bk) _ M.2) b2 ?_
  refine fm_icmp_ne (tgt := 52) (pc := 45) F dX0_areCrossed_45 (by decide) (fun c3 => ?_) (fun c3 => ?_)
  · replace hf := fm_in c3 hf
    refine fm_iconst (v := 0) (pc := 52) F dX0_areCrossed_52 (by decide) ?_
    refine fm_pick [1, 2, 3, 0] rfl ?_
    exact wX0_areCrossed_53 hN hb F E _ _ _ _ _ hf
  · replace hf := fm_ip c3 hf
    refine fm_iconst (v := 1) (pc := 48) F dX0_areCrossed_48 (by decide) ?_
    refine fm_goto (tgt := 53) (pc := 49) F dX0_areCrossed_49 (by decide) ?_
    refine fm_pick [1, 2, 3, 0] rfl ?_
    exact wX0_areCrossed_53 hN hb F E _ _ _ _ _ hf
set_option maxHeartbeats 4000000 in
theorem mX0_areCrossed {l : Launch} {D : va_G} {dA : Nat → ClassId} {ad : Nat → Nat} {N bk : Nat} {n : Nat} (hN : 193 ≤ N) (hb : fm_isBk N bk) (inj : ∀ i j, i < N → j < N → ad i = ad j → i = j) {M M' : fm_M} {l1 : Int32} {l2 : Int32} {r : Int32} (hf : fX0_areCrossed n bk M l1 l2 = some (r, M')) : fm_C l yX0_areCrossed (ws_ yX0_areCrossed cX0_areCrossed 5 (some .boolean)) rmX0_areCrossed (YC D dA N ad bk) [.ref (ad 0), .int l1, .int l2] M (some (.int r)) M' := by
  refine fm_enter (by decide) rfl (fm_le rfl) inj ?_
  intro X hXl F E
  subst hXl
  unfold fX0_areCrossed at hf
  show fm_G X (YC D dA N ad bk) (0, 0) 5 M 0 [(0, .ref (ad 0)), (1, .int l1), (2, .int l2)] []
  refine fm_aload_n (pc := 0) F dX0_areCrossed_0 0 rfl ?_
  refine fm_get (v := .ref (ad bk)) (pc := 1) F (ci := 0) (T := TX0) (n := 19) rfl in_X0 0 (fm_lt rfl) dX0_areCrossed_1 q262 0 (fm_ltN hN rfl) rfl rfl ?_
  refine fm_getN (v := .ref (ad (bk + 18))) (pc := 4) F (ci := 1) (T := TX1) (n := 11) rfl in_X1 5 (fm_lt rfl) dX0_areCrossed_4 q99 bk (hb.lt 0 (fm_lt rfl)) (hb.mk0 (ad := ad) (dA := dA) (bk := bk) _ M.2) rfl ?_
  refine fm_iload_n (pc := 7) F dX0_areCrossed_7 1 rfl ?_
  obtain ⟨b1, hf⟩ := fm_b_inv hf
  refine fm_iald (pc := 8) F dX0_areCrossed_8 (bk + 18) (hb.lt 18 (fm_lt rfl)) (hb.mk18 (ad := ad) (dA := dA) (bk := bk) _ M.2) b1 ?_
  refine fm_aload_n (pc := 9) F dX0_areCrossed_9 0 rfl ?_
  refine fm_get (v := .ref (ad bk)) (pc := 10) F (ci := 0) (T := TX0) (n := 19) rfl in_X0 0 (fm_lt rfl) dX0_areCrossed_10 q262 0 (fm_ltN hN rfl) rfl rfl ?_
  refine fm_getN (v := .ref (ad (bk + 18))) (pc := 13) F (ci := 1) (T := TX1) (n := 11) rfl in_X1 5 (fm_lt rfl) dX0_areCrossed_13 q99 bk (hb.lt 0 (fm_lt rfl)) (hb.mk0 (ad := ad) (dA := dA) (bk := bk) _ M.2) rfl ?_
  refine fm_iload_n (pc := 16) F dX0_areCrossed_16 2 rfl ?_
  obtain ⟨b2, hf⟩ := fm_b_inv hf
  refine fm_iald (pc := 17) F dX0_areCrossed_17 (bk + 18) (hb.lt 18 (fm_lt rfl)) (hb.mk18 (ad := ad) (dA := dA) (bk := bk) _ M.2) b2 ?_
  refine fm_icmp_ne (tgt := 25) (pc := 18) F dX0_areCrossed_18 (by decide) (fun c3 => ?_) (fun c3 => ?_)
  · replace hf := fm_in c3 hf
    refine fm_iconst (v := 0) (pc := 25) F dX0_areCrossed_25 (by decide) ?_
    exact wX0_areCrossed_26 hN hb F E _ _ _ _ hf
  · replace hf := fm_ip c3 hf
    refine fm_iconst (v := 1) (pc := 21) F dX0_areCrossed_21 (by decide) ?_
    refine fm_goto (tgt := 26) (pc := 22) F dX0_areCrossed_22 (by decide) ?_
    exact wX0_areCrossed_26 hN hb F E _ _ _ _ hf
abbrev rmX0_crossed : Room := { frames := 3, cells := 0, slots := 0, locals := 104 }
def fX0_crossed_17 (n bk : Nat) (k2 : fm_M → Int32 → Option (Int32 × fm_M)) : Nat → fm_M → Int32 → Int32 → Option (Int32 × fm_M)
  | 0, _, _, _ => none
  | k + 1, M, l1, l2 =>
    if (M.1 bk 9) ≤ l2 then
      k2 M (l1 + 1)
    else
      fm_bi (fX0_areCrossed n bk M l1 l2) fun r2 M3 =>
      if r2 = 0 then
        fX0_crossed_17 n bk k2 k M3 l1 (l2 + 1)
      else
        some (((10 * l1) + l2), M3)
def fX0_crossed_2 (n bk : Nat) : Nat → fm_M → Int32 → Option (Int32 × fm_M)
  | 0, _, _ => none
  | k + 1, M, l1 =>
    if (M.1 bk 9) ≤ l1 then
      some ((-9), M)
    else
      fX0_crossed_17 n bk (fX0_crossed_2 n bk k) n M l1 (l1 + 1)
def fX0_crossed (n bk : Nat) (M : fm_M) : Option (Int32 × fm_M) :=
  fX0_crossed_2 n bk n M 0
theorem hdX0_crossed : yX0_crossed.cls = RX0 ∧ yX0_crossed.cls ≠ "java/lang/invoke/MethodHandle" ∧ yX0_crossed.cls ≠ "java/lang/invoke/VarHandle" ∧ (parseMethodDescriptor yX0_crossed.desc).map (fun d => d.parameters.length) = some 0 := by decide +kernel
set_option maxHeartbeats 4000000 in
theorem wX0_crossed_17 {X : fm_X} {D : va_G} {dA : Nat → ClassId} {ad : Nat → Nat} {N bk : Nat} {n : Nat} (hN : 193 ≤ N) (hb : fm_isBk N bk) {r : Int32} (F : fm_F X (YC D dA N ad bk) cX0_crossed 3 RX0 rmX0_crossed) {M' : fm_M} (E : fm_E X (YC D dA N ad bk) (some (.int r)) M' (some .int)) {k2 : fm_M → Int32 → Option (Int32 × fm_M)} (hk2 : ∀ (M : fm_M) (l1 : Int32), k2 M l1 = some (r, M') → fm_G X (YC D dA N ad bk) (0, 0) 3 M 2 [(0, .ref (ad 0)), (1, .int l1)] []) : ∀ (k : Nat) (M : fm_M) (l1 : Int32) (l2 : Int32), fX0_crossed_17 n bk k2 k M l1 l2 = some (r, M') → fm_G X (YC D dA N ad bk) (0, 0) 3 M 17 [(0, .ref (ad 0)), (1, .int l1), (2, .int l2)] [] := by
  intro k
  induction k with
  | zero =>
    intro M l1 l2 hf
    rw [fX0_crossed_17] at hf
    cases hf
  | succ k ih =>
    intro M l1 l2 hf
    rw [fX0_crossed_17] at hf
    refine fm_iload_n (pc := 17) F dX0_crossed_17 2 rfl ?_
    refine fm_aload_n (pc := 18) F dX0_crossed_18 0 rfl ?_
    refine fm_get (v := .ref (ad bk)) (pc := 19) F (ci := 0) (T := TX0) (n := 19) rfl in_X0 0 (fm_lt rfl) dX0_crossed_19 q262 0 (fm_ltN hN rfl) rfl rfl ?_
    refine fm_getN (v := .int (M.1 bk 9)) (pc := 22) F (ci := 1) (T := TX1) (n := 11) rfl in_X1 9 (fm_lt rfl) dX0_crossed_22 q113 bk (hb.lt 0 (fm_lt rfl)) (hb.mk0 (ad := ad) (dA := dA) (bk := bk) _ M.2) rfl ?_
    refine fm_icmp_ge (tgt := 50) (pc := 25) F dX0_crossed_25 (by decide) (fun c1 => ?_) (fun c1 => ?_)
    · replace hf := fm_ip c1 hf
      refine fm_iinc (v := (l1 + 1)) (lv' := [(1, .int (l1 + 1)), (0, .ref (ad 0)), (2, .int l2)]) (pc := 50) F dX0_crossed_50 1 rfl rfl (fm_lt rfl) rfl ?_
      refine fm_goto (tgt := 2) (pc := 53) F dX0_crossed_53 (by decide) ?_
      refine fm_pick [1, 0] rfl ?_
      exact hk2 _ _ hf
    · replace hf := fm_in c1 hf
      refine fm_aload_n (pc := 28) F dX0_crossed_28 0 rfl ?_
      refine fm_iload_n (pc := 29) F dX0_crossed_29 1 rfl ?_
      refine fm_iload_n (pc := 30) F dX0_crossed_30 2 rfl ?_
      obtain ⟨r2, M3, h4, hf⟩ := fm_bi_inv hf
      refine fm_callV (As := [.int l1, .int l2]) (rest := []) (pc := 31) F (ci := 0) 0 (fm_ltN hN rfl) rfl rfl (mX0_areCrossed hN hb F.inj h4) q698 q700 qs16 q39 q701 ⟨rfl, rfl⟩ hdX0_areCrossed ⟨fm_le rfl, fm_le rfl, Nat.zero_le _, Nat.zero_le _⟩ rfl rfl (fm_le rfl) dX0_crossed_31 ?_
      refine fm_if_eq (tgt := 44) (pc := 34) F dX0_crossed_34 (by decide) (fun c6 => ?_) (fun c6 => ?_)
      · replace hf := fm_ip c6 hf
        refine fm_iinc (v := (l2 + 1)) (lv' := [(2, .int (l2 + 1)), (0, .ref (ad 0)), (1, .int l1)]) (pc := 44) F dX0_crossed_44 2 rfl rfl (fm_lt rfl) rfl ?_
        refine fm_goto (tgt := 17) (pc := 47) F dX0_crossed_47 (by decide) ?_
        refine fm_pick [1, 2, 0] rfl ?_
        exact ih _ _ _ hf
      · replace hf := fm_in c6 hf
        refine fm_bipush (v := 10) (pc := 37) F dX0_crossed_37 (by decide) ?_
        refine fm_iload_n (pc := 39) F dX0_crossed_39 1 rfl ?_
        refine fm_imul (pc := 40) F dX0_crossed_40 ?_
        refine fm_iload_n (pc := 41) F dX0_crossed_41 2 rfl ?_
        refine fm_iadd (pc := 42) F dX0_crossed_42 ?_
        exact fm_iret (pc := 43) F E hf dX0_crossed_43
set_option maxHeartbeats 4000000 in
theorem wX0_crossed_2 {X : fm_X} {D : va_G} {dA : Nat → ClassId} {ad : Nat → Nat} {N bk : Nat} {n : Nat} (hN : 193 ≤ N) (hb : fm_isBk N bk) {r : Int32} (F : fm_F X (YC D dA N ad bk) cX0_crossed 3 RX0 rmX0_crossed) {M' : fm_M} (E : fm_E X (YC D dA N ad bk) (some (.int r)) M' (some .int)) : ∀ (k : Nat) (M : fm_M) (l1 : Int32), fX0_crossed_2 n bk k M l1 = some (r, M') → fm_G X (YC D dA N ad bk) (0, 0) 3 M 2 [(0, .ref (ad 0)), (1, .int l1)] [] := by
  intro k
  induction k with
  | zero =>
    intro M l1 hf
    rw [fX0_crossed_2] at hf
    cases hf
  | succ k ih =>
    intro M l1 hf
    rw [fX0_crossed_2] at hf
    refine fm_iload_n (pc := 2) F dX0_crossed_2 1 rfl ?_
    refine fm_aload_n (pc := 3) F dX0_crossed_3 0 rfl ?_
    refine fm_get (v := .ref (ad bk)) (pc := 4) F (ci := 0) (T := TX0) (n := 19) rfl in_X0 0 (fm_lt rfl) dX0_crossed_4 q262 0 (fm_ltN hN rfl) rfl rfl ?_
    refine fm_getN (v := .int (M.1 bk 9)) (pc := 7) F (ci := 1) (T := TX1) (n := 11) rfl in_X1 9 (fm_lt rfl) dX0_crossed_7 q113 bk (hb.lt 0 (fm_lt rfl)) (hb.mk0 (ad := ad) (dA := dA) (bk := bk) _ M.2) rfl ?_
    refine fm_icmp_ge (tgt := 56) (pc := 10) F dX0_crossed_10 (by decide) (fun c1 => ?_) (fun c1 => ?_)
    · replace hf := fm_ip c1 hf
      refine fm_bipush (v := (-9)) (pc := 56) F dX0_crossed_56 (by decide) ?_
      exact fm_iret (pc := 58) F E hf dX0_crossed_58
    · replace hf := fm_in c1 hf
      refine fm_iload_n (pc := 13) F dX0_crossed_13 1 rfl ?_
      refine fm_iconst (v := 1) (pc := 14) F dX0_crossed_14 (by decide) ?_
      refine fm_iadd (pc := 15) F dX0_crossed_15 ?_
      refine fm_istore_n (lv' := [(2, .int (l1 + 1)), (0, .ref (ad 0)), (1, .int l1)]) (pc := 16) F dX0_crossed_16 rfl (fm_lt rfl) rfl ?_
      refine fm_pick [1, 2, 0] rfl ?_
      exact wX0_crossed_17 hN hb F E ih n _ _ _ hf
set_option maxHeartbeats 4000000 in
theorem mX0_crossed {l : Launch} {D : va_G} {dA : Nat → ClassId} {ad : Nat → Nat} {N bk : Nat} {n : Nat} (hN : 193 ≤ N) (hb : fm_isBk N bk) (inj : ∀ i j, i < N → j < N → ad i = ad j → i = j) {M M' : fm_M} {r : Int32} (hf : fX0_crossed n bk M = some (r, M')) : fm_C l yX0_crossed (ws_ yX0_crossed cX0_crossed 3 (some .int)) rmX0_crossed (YC D dA N ad bk) [.ref (ad 0)] M (some (.int r)) M' := by
  refine fm_enter (by decide) rfl (fm_le rfl) inj ?_
  intro X hXl F E
  subst hXl
  unfold fX0_crossed at hf
  show fm_G X (YC D dA N ad bk) (0, 0) 3 M 0 [(0, .ref (ad 0))] []
  refine fm_iconst (v := 0) (pc := 0) F dX0_crossed_0 (by decide) ?_
  refine fm_istore_n (lv' := [(1, .int 0), (0, .ref (ad 0))]) (pc := 1) F dX0_crossed_1 rfl (fm_lt rfl) rfl ?_
  refine fm_pick [1, 0] rfl ?_
  exact wX0_crossed_2 hN hb F E n _ _ hf
abbrev rmX0_oaths : Room := { frames := 3, cells := 0, slots := 0, locals := 102 }
def fX0_oaths_15 (n bk : Nat) : Nat → fm_M → Int32 → Int32 → Int32 → Option (Int32 × fm_M)
  | 0, _, _, _, _ => none
  | k + 1, M, l1, l2, l3 =>
    if (M.1 bk 9) ≤ l3 then
      some (l2, M)
    else
      fm_b l3 6 <|
      if (M.1 42 l3.toNatClampNeg) = l1 then
        fX0_oaths_15 n bk k M l1 (l2 + 1) (l3 + 1)
      else
        fX0_oaths_15 n bk k M l1 (l2 + 0) (l3 + 1)
def fX0_oaths (n bk : Nat) (M : fm_M) (l1 : Int32) : Option (Int32 × fm_M) :=
  fm_bi (fX0_in n bk M l1 0 2) fun r1 M2 =>
  if r1 = 0 then
    some ((-1), M2)
  else
    fX0_oaths_15 n bk n M2 l1 0 0
theorem hdX0_oaths : yX0_oaths.cls = RX0 ∧ yX0_oaths.cls ≠ "java/lang/invoke/MethodHandle" ∧ yX0_oaths.cls ≠ "java/lang/invoke/VarHandle" ∧ (parseMethodDescriptor yX0_oaths.desc).map (fun d => d.parameters.length) = some 1 := by decide +kernel
set_option maxHeartbeats 4000000 in
theorem wX0_oaths_15 {X : fm_X} {D : va_G} {dA : Nat → ClassId} {ad : Nat → Nat} {N bk : Nat} {n : Nat} (hN : 193 ≤ N) (hb : fm_isBk N bk) {r : Int32} (F : fm_F X (YC D dA N ad bk) cX0_oaths 4 RX0 rmX0_oaths) {M' : fm_M} (E : fm_E X (YC D dA N ad bk) (some (.int r)) M' (some .int)) : ∀ (k : Nat) (M : fm_M) (l1 : Int32) (l2 : Int32) (l3 : Int32), fX0_oaths_15 n bk k M l1 l2 l3 = some (r, M') → fm_G X (YC D dA N ad bk) (0, 0) 4 M 15 [(0, .ref (ad 0)), (1, .int l1), (2, .int l2), (3, .int l3)] [] := by
  intro k
  induction k with
  | zero =>
    intro M l1 l2 l3 hf
    rw [fX0_oaths_15] at hf
    cases hf
  | succ k ih =>
    intro M l1 l2 l3 hf
    rw [fX0_oaths_15] at hf
    refine fm_iload_n (pc := 15) F dX0_oaths_15 3 rfl ?_
    refine fm_aload_n (pc := 16) F dX0_oaths_16 0 rfl ?_
    refine fm_get (v := .ref (ad bk)) (pc := 17) F (ci := 0) (T := TX0) (n := 19) rfl in_X0 0 (fm_lt rfl) dX0_oaths_17 q262 0 (fm_ltN hN rfl) rfl rfl ?_
    refine fm_getN (v := .int (M.1 bk 9)) (pc := 20) F (ci := 1) (T := TX1) (n := 11) rfl in_X1 9 (fm_lt rfl) dX0_oaths_20 q113 bk (hb.lt 0 (fm_lt rfl)) (hb.mk0 (ad := ad) (dA := dA) (bk := bk) _ M.2) rfl ?_
    refine fm_icmp_ge (tgt := 53) (pc := 23) F dX0_oaths_23 (by decide) (fun c1 => ?_) (fun c1 => ?_)
    · replace hf := fm_ip c1 hf
      refine fm_iload_n (pc := 53) F dX0_oaths_53 2 rfl ?_
      exact fm_iret (pc := 54) F E hf dX0_oaths_54
    · replace hf := fm_in c1 hf
      refine fm_iload_n (pc := 26) F dX0_oaths_26 2 rfl ?_
      refine fm_aload_n (pc := 27) F dX0_oaths_27 0 rfl ?_
      refine fm_get (v := .ref (ad 39)) (pc := 28) F (ci := 0) (T := TX0) (n := 19) rfl in_X0 3 (fm_lt rfl) dX0_oaths_28 q272 0 (fm_ltN hN rfl) rfl rfl ?_
      refine fm_getN (v := .ref (ad 42)) (pc := 31) F (ci := 2) (T := TX2) (n := 7) rfl in_X2 4 (fm_lt rfl) dX0_oaths_31 q158 39 (fm_isPl.now.lt hN 0 (fm_lt rfl)) (fm_isPl.now.mk0 (ad := ad) (dA := dA) (bk := bk) _ M.2) rfl ?_
      refine fm_iload_n (pc := 34) F dX0_oaths_34 3 rfl ?_
      obtain ⟨b2, hf⟩ := fm_b_inv hf
      refine fm_iald (pc := 35) F dX0_oaths_35 42 (fm_isPl.now.lt hN 3 (fm_lt rfl)) (fm_isPl.now.mk3 (ad := ad) (dA := dA) (bk := bk) _ M.2) b2 ?_
      refine fm_iload_n (pc := 36) F dX0_oaths_36 1 rfl ?_
      refine fm_icmp_ne (tgt := 44) (pc := 37) F dX0_oaths_37 (by decide) (fun c3 => ?_) (fun c3 => ?_)
      · replace hf := fm_in c3 hf
        refine fm_iconst (v := 0) (pc := 44) F dX0_oaths_44 (by decide) ?_
        refine fm_iadd (pc := 45) F dX0_oaths_45 ?_
        refine fm_istore_n (lv' := [(2, .int (l2 + 0)), (0, .ref (ad 0)), (1, .int l1), (3, .int l3)]) (pc := 46) F dX0_oaths_46 rfl (fm_lt rfl) rfl ?_
        refine fm_iinc (v := (l3 + 1)) (lv' := [(3, .int (l3 + 1)), (2, .int (l2 + 0)), (0, .ref (ad 0)), (1, .int l1)]) (pc := 47) F dX0_oaths_47 3 rfl rfl (fm_lt rfl) rfl ?_
        refine fm_goto (tgt := 15) (pc := 50) F dX0_oaths_50 (by decide) ?_
        refine fm_pick [2, 3, 1, 0] rfl ?_
        exact ih _ _ _ _ hf
      · replace hf := fm_ip c3 hf
        refine fm_iconst (v := 1) (pc := 40) F dX0_oaths_40 (by decide) ?_
        refine fm_goto (tgt := 45) (pc := 41) F dX0_oaths_41 (by decide) ?_
        refine fm_iadd (pc := 45) F dX0_oaths_45 ?_
        refine fm_istore_n (lv' := [(2, .int (l2 + 1)), (0, .ref (ad 0)), (1, .int l1), (3, .int l3)]) (pc := 46) F dX0_oaths_46 rfl (fm_lt rfl) rfl ?_
        refine fm_iinc (v := (l3 + 1)) (lv' := [(3, .int (l3 + 1)), (2, .int (l2 + 1)), (0, .ref (ad 0)), (1, .int l1)]) (pc := 47) F dX0_oaths_47 3 rfl rfl (fm_lt rfl) rfl ?_
        refine fm_goto (tgt := 15) (pc := 50) F dX0_oaths_50 (by decide) ?_
        refine fm_pick [2, 3, 1, 0] rfl ?_
        exact ih _ _ _ _ hf
set_option maxHeartbeats 4000000 in
theorem mX0_oaths {l : Launch} {D : va_G} {dA : Nat → ClassId} {ad : Nat → Nat} {N bk : Nat} {n : Nat} (hN : 193 ≤ N) (hb : fm_isBk N bk) (inj : ∀ i j, i < N → j < N → ad i = ad j → i = j) {M M' : fm_M} {l1 : Int32} {r : Int32} (hf : fX0_oaths n bk M l1 = some (r, M')) : fm_C l yX0_oaths (ws_ yX0_oaths cX0_oaths 4 (some .int)) rmX0_oaths (YC D dA N ad bk) [.ref (ad 0), .int l1] M (some (.int r)) M' := by
  refine fm_enter (by decide) rfl (fm_le rfl) inj ?_
  intro X hXl F E
  subst hXl
  unfold fX0_oaths at hf
  show fm_G X (YC D dA N ad bk) (0, 0) 4 M 0 [(0, .ref (ad 0)), (1, .int l1)] []
  refine fm_iload_n (pc := 0) F dX0_oaths_0 1 rfl ?_
  refine fm_iconst (v := 0) (pc := 1) F dX0_oaths_1 (by decide) ?_
  refine fm_iconst (v := 2) (pc := 2) F dX0_oaths_2 (by decide) ?_
  obtain ⟨r1, M2, h3, hf⟩ := fm_bi_inv hf
  refine fm_callS (As := [.int l1, .int 0, .int 2]) (rest := []) (pc := 3) F (mX0_in hN hb F.inj h3) q339 q340 q39 q341 ⟨rfl, rfl⟩ hdX0_in.2 ⟨fm_le rfl, fm_le rfl, Nat.zero_le _, Nat.zero_le _⟩ rfl rfl (fm_le rfl) dX0_oaths_3 ?_
  refine fm_if_ne (tgt := 11) (pc := 6) F dX0_oaths_6 (by decide) (fun c5 => ?_) (fun c5 => ?_)
  · replace hf := fm_in c5 hf
    refine fm_iconst (v := 0) (pc := 11) F dX0_oaths_11 (by decide) ?_
    refine fm_istore_n (lv' := [(2, .int 0), (0, .ref (ad 0)), (1, .int l1)]) (pc := 12) F dX0_oaths_12 rfl (fm_lt rfl) rfl ?_
    refine fm_iconst (v := 0) (pc := 13) F dX0_oaths_13 (by decide) ?_
    refine fm_istore_n (lv' := [(3, .int 0), (2, .int 0), (0, .ref (ad 0)), (1, .int l1)]) (pc := 14) F dX0_oaths_14 rfl (fm_lt rfl) rfl ?_
    refine fm_pick [2, 3, 1, 0] rfl ?_
    exact wX0_oaths_15 hN hb F E n _ _ _ _ hf
  · replace hf := fm_ip c5 hf
    refine fm_iconst (v := (-1)) (pc := 9) F dX0_oaths_9 (by decide) ?_
    exact fm_iret (pc := 10) F E hf dX0_oaths_10
abbrev rmX0_strokes : Room := { frames := 4, cells := 0, slots := 0, locals := 123 }
def fX0_strokes (n bk : Nat) (M : fm_M) (l1 : Int32) (l2 : Int32) : Option (Int32 × fm_M) :=
  fm_bi (fX0_isTown n bk M l1) fun r1 M2 =>
  if r1 = 0 then
    some ((-1), M2)
  else
    fm_bi (fX0_isTown n bk M2 l2) fun r6 M7 =>
    if r6 = 0 then
      some ((-1), M7)
    else
      fm_b l1 6 <|
      fm_b l2 6 <|
      some ((M7.1 (39 + 5 + l1.toNatClampNeg) l2.toNatClampNeg), M7)
theorem hdX0_strokes : yX0_strokes.cls = RX0 ∧ yX0_strokes.cls ≠ "java/lang/invoke/MethodHandle" ∧ yX0_strokes.cls ≠ "java/lang/invoke/VarHandle" ∧ (parseMethodDescriptor yX0_strokes.desc).map (fun d => d.parameters.length) = some 2 := by decide +kernel
set_option maxHeartbeats 4000000 in
theorem mX0_strokes {l : Launch} {D : va_G} {dA : Nat → ClassId} {ad : Nat → Nat} {N bk : Nat} {n : Nat} (hN : 193 ≤ N) (hb : fm_isBk N bk) (inj : ∀ i j, i < N → j < N → ad i = ad j → i = j) {M M' : fm_M} {l1 : Int32} {l2 : Int32} {r : Int32} (hf : fX0_strokes n bk M l1 l2 = some (r, M')) : fm_C l yX0_strokes (ws_ yX0_strokes cX0_strokes 3 (some .int)) rmX0_strokes (YC D dA N ad bk) [.ref (ad 0), .int l1, .int l2] M (some (.int r)) M' := by
  refine fm_enter (by decide) rfl (fm_le rfl) inj ?_
  intro X hXl F E
  subst hXl
  unfold fX0_strokes at hf
  show fm_G X (YC D dA N ad bk) (0, 0) 3 M 0 [(0, .ref (ad 0)), (1, .int l1), (2, .int l2)] []
  refine fm_aload_n (pc := 0) F dX0_strokes_0 0 rfl ?_
  refine fm_iload_n (pc := 1) F dX0_strokes_1 1 rfl ?_
  obtain ⟨r1, M2, h3, hf⟩ := fm_bi_inv hf
  refine fm_callV (As := [.int l1]) (rest := []) (pc := 2) F (ci := 0) 0 (fm_ltN hN rfl) rfl rfl (mX0_isTown hN hb F.inj h3) q578 q580 qs9 q39 q581 ⟨rfl, rfl⟩ hdX0_isTown ⟨fm_le rfl, fm_le rfl, Nat.zero_le _, Nat.zero_le _⟩ rfl rfl (fm_le rfl) dX0_strokes_2 ?_
  refine fm_if_eq (tgt := 30) (pc := 5) F dX0_strokes_5 (by decide) (fun c5 => ?_) (fun c5 => ?_)
  · replace hf := fm_ip c5 hf
    refine fm_iconst (v := (-1)) (pc := 30) F dX0_strokes_30 (by decide) ?_
    exact fm_iret (pc := 31) F E hf dX0_strokes_31
  · replace hf := fm_in c5 hf
    refine fm_aload_n (pc := 8) F dX0_strokes_8 0 rfl ?_
    refine fm_iload_n (pc := 9) F dX0_strokes_9 2 rfl ?_
    obtain ⟨r6, M7, h8, hf⟩ := fm_bi_inv hf
    refine fm_callV (As := [.int l2]) (rest := []) (pc := 10) F (ci := 0) 0 (fm_ltN hN rfl) rfl rfl (mX0_isTown hN hb F.inj h8) q578 q580 qs9 q39 q581 ⟨rfl, rfl⟩ hdX0_isTown ⟨fm_le rfl, fm_le rfl, Nat.zero_le _, Nat.zero_le _⟩ rfl rfl (fm_le rfl) dX0_strokes_10 ?_
    refine fm_if_eq (tgt := 30) (pc := 13) F dX0_strokes_13 (by decide) (fun c10 => ?_) (fun c10 => ?_)
    · replace hf := fm_ip c10 hf
      refine fm_iconst (v := (-1)) (pc := 30) F dX0_strokes_30 (by decide) ?_
      exact fm_iret (pc := 31) F E hf dX0_strokes_31
    · replace hf := fm_in c10 hf
      refine fm_aload_n (pc := 16) F dX0_strokes_16 0 rfl ?_
      refine fm_get (v := .ref (ad 39)) (pc := 17) F (ci := 0) (T := TX0) (n := 19) rfl in_X0 3 (fm_lt rfl) dX0_strokes_17 q272 0 (fm_ltN hN rfl) rfl rfl ?_
      refine fm_getN (v := .ref (ad 43)) (pc := 20) F (ci := 2) (T := TX2) (n := 7) rfl in_X2 5 (fm_lt rfl) dX0_strokes_20 q160 39 (fm_isPl.now.lt hN 0 (fm_lt rfl)) (fm_isPl.now.mk0 (ad := ad) (dA := dA) (bk := bk) _ M7.2) rfl ?_
      refine fm_iload_n (pc := 23) F dX0_strokes_23 1 rfl ?_
      obtain ⟨b11, hf⟩ := fm_b_inv hf
      refine fm_aald (pc := 24) F dX0_strokes_24 43 (fm_isPl.now.lt hN 4 (fm_lt rfl)) 5 (fun j => 39 + 5 + j) (fm_isPl.now.mk4 (ad := ad) (dA := dA) (bk := bk) (M7.1 43) M7.2) rfl rfl b11 ?_
      refine fm_iload_n (pc := 25) F dX0_strokes_25 2 rfl ?_
      obtain ⟨b12, hf⟩ := fm_b_inv hf
      refine fm_iald (pc := 26) F dX0_strokes_26 (39 + 5 + l1.toNatClampNeg) (fm_isPl.now.ltr hN (fm_vlt b11)) (fm_isPl.now.mkr (ad := ad) (dA := dA) (bk := bk) (fm_vlt b11) _ M7.2) b12 ?_
      refine fm_goto (tgt := 31) (pc := 27) F dX0_strokes_27 (by decide) ?_
      exact fm_iret (pc := 31) F E hf dX0_strokes_31
abbrev rmX0_found : Room := { frames := 4, cells := 0, slots := 0, locals := 123 }
def fX0_found (n bk : Nat) (M : fm_M) (l1 : Int32) (l2 : Int32) : Option (Int32 × fm_M) :=
  fm_bi (fX0_isTown n bk M l1) fun r1 M2 =>
  if r1 = 0 then
    some ((-1), M2)
  else
    fm_bi (fX0_isTown n bk M2 l2) fun r6 M7 =>
    if r6 = 0 then
      some ((-1), M7)
    else
      if (M7.1 0 16) = 5 then
        some ((-3), M7)
      else
        fm_b (M7.1 0 16) 5 <|
        fm_let (fm_wr M7 9 (M7.1 0 16).toNatClampNeg l1) fun M13 =>
        fm_b (M13.1 0 16) 5 <|
        fm_let (fm_wr M13 10 (M13.1 0 16).toNatClampNeg l2) fun M15 =>
        fm_let (fm_wr M15 0 16 ((M15.1 0 16) + 1)) fun M16 =>
        some ((M16.1 0 16), M16)
theorem hdX0_found : yX0_found.cls = RX0 ∧ yX0_found.cls ≠ "java/lang/invoke/MethodHandle" ∧ yX0_found.cls ≠ "java/lang/invoke/VarHandle" ∧ (parseMethodDescriptor yX0_found.desc).map (fun d => d.parameters.length) = some 2 := by decide +kernel
set_option maxHeartbeats 4000000 in
theorem mX0_found {l : Launch} {D : va_G} {dA : Nat → ClassId} {ad : Nat → Nat} {N bk : Nat} {n : Nat} (hN : 193 ≤ N) (hb : fm_isBk N bk) (inj : ∀ i j, i < N → j < N → ad i = ad j → i = j) {M M' : fm_M} {l1 : Int32} {l2 : Int32} {r : Int32} (hf : fX0_found n bk M l1 l2 = some (r, M')) : fm_C l yX0_found (ws_ yX0_found cX0_found 3 (some .int)) rmX0_found (YC D dA N ad bk) [.ref (ad 0), .int l1, .int l2] M (some (.int r)) M' := by
  refine fm_enter (by decide) rfl (fm_le rfl) inj ?_
  intro X hXl F E
  subst hXl
  unfold fX0_found at hf
  show fm_G X (YC D dA N ad bk) (0, 0) 3 M 0 [(0, .ref (ad 0)), (1, .int l1), (2, .int l2)] []
  refine fm_aload_n (pc := 0) F dX0_found_0 0 rfl ?_
  refine fm_iload_n (pc := 1) F dX0_found_1 1 rfl ?_
  obtain ⟨r1, M2, h3, hf⟩ := fm_bi_inv hf
  refine fm_callV (As := [.int l1]) (rest := []) (pc := 2) F (ci := 0) 0 (fm_ltN hN rfl) rfl rfl (mX0_isTown hN hb F.inj h3) q578 q580 qs9 q39 q581 ⟨rfl, rfl⟩ hdX0_isTown ⟨fm_le rfl, fm_le rfl, Nat.zero_le _, Nat.zero_le _⟩ rfl rfl (fm_le rfl) dX0_found_2 ?_
  refine fm_if_eq (tgt := 16) (pc := 5) F dX0_found_5 (by decide) (fun c5 => ?_) (fun c5 => ?_)
  · replace hf := fm_ip c5 hf
    refine fm_iconst (v := (-1)) (pc := 16) F dX0_found_16 (by decide) ?_
    exact fm_iret (pc := 17) F E hf dX0_found_17
  · replace hf := fm_in c5 hf
    refine fm_aload_n (pc := 8) F dX0_found_8 0 rfl ?_
    refine fm_iload_n (pc := 9) F dX0_found_9 2 rfl ?_
    obtain ⟨r6, M7, h8, hf⟩ := fm_bi_inv hf
    refine fm_callV (As := [.int l2]) (rest := []) (pc := 10) F (ci := 0) 0 (fm_ltN hN rfl) rfl rfl (mX0_isTown hN hb F.inj h8) q578 q580 qs9 q39 q581 ⟨rfl, rfl⟩ hdX0_isTown ⟨fm_le rfl, fm_le rfl, Nat.zero_le _, Nat.zero_le _⟩ rfl rfl (fm_le rfl) dX0_found_10 ?_
    refine fm_if_ne (tgt := 18) (pc := 13) F dX0_found_13 (by decide) (fun c10 => ?_) (fun c10 => ?_)
    · replace hf := fm_in c10 hf
      refine fm_aload_n (pc := 18) F dX0_found_18 0 rfl ?_
      refine fm_get (v := .int (M7.1 0 16)) (pc := 19) F (ci := 0) (T := TX0) (n := 19) rfl in_X0 16 (fm_lt rfl) dX0_found_19 q287 0 (fm_ltN hN rfl) rfl rfl ?_
      refine fm_iconst (v := 5) (pc := 22) F dX0_found_22 (by decide) ?_
      refine fm_icmp_ne (tgt := 29) (pc := 23) F dX0_found_23 (by decide) (fun c11 => ?_) (fun c11 => ?_)
      · replace hf := fm_in c11 hf
        refine fm_aload_n (pc := 29) F dX0_found_29 0 rfl ?_
        refine fm_get (v := .ref (ad 9)) (pc := 30) F (ci := 0) (T := TX0) (n := 19) rfl in_X0 14 (fm_lt rfl) dX0_found_30 q285 0 (fm_ltN hN rfl) rfl rfl ?_
        refine fm_aload_n (pc := 33) F dX0_found_33 0 rfl ?_
        refine fm_get (v := .int (M7.1 0 16)) (pc := 34) F (ci := 0) (T := TX0) (n := 19) rfl in_X0 16 (fm_lt rfl) dX0_found_34 q287 0 (fm_ltN hN rfl) rfl rfl ?_
        refine fm_iload_n (pc := 37) F dX0_found_37 1 rfl ?_
        obtain ⟨b12, hf⟩ := fm_b_inv hf
        refine fm_iast (pc := 38) F dX0_found_38 9 (fm_ltN hN rfl) (fun _ => rfl) b12 ?_
        refine fm_nameM (fun M13 eM13 => ?_)
        replace hf := fm_let_inv eM13 hf
        refine fm_aload_n (pc := 39) F dX0_found_39 0 rfl ?_
        refine fm_get (v := .ref (ad 10)) (pc := 40) F (ci := 0) (T := TX0) (n := 19) rfl in_X0 15 (fm_lt rfl) dX0_found_40 q286 0 (fm_ltN hN rfl) rfl rfl ?_
        refine fm_aload_n (pc := 43) F dX0_found_43 0 rfl ?_
        refine fm_get (v := .int (M13.1 0 16)) (pc := 44) F (ci := 0) (T := TX0) (n := 19) rfl in_X0 16 (fm_lt rfl) dX0_found_44 q287 0 (fm_ltN hN rfl) rfl rfl ?_
        refine fm_iload_n (pc := 47) F dX0_found_47 2 rfl ?_
        obtain ⟨b14, hf⟩ := fm_b_inv hf
        refine fm_iast (pc := 48) F dX0_found_48 10 (fm_ltN hN rfl) (fun _ => rfl) b14 ?_
        refine fm_nameM (fun M15 eM15 => ?_)
        replace hf := fm_let_inv eM15 hf
        refine fm_aload_n (pc := 49) F dX0_found_49 0 rfl ?_
        refine fm_dup (pc := 50) F dX0_found_50 rfl ?_
        refine fm_get (v := .int (M15.1 0 16)) (pc := 51) F (ci := 0) (T := TX0) (n := 19) rfl in_X0 16 (fm_lt rfl) dX0_found_51 q287 0 (fm_ltN hN rfl) rfl rfl ?_
        refine fm_iconst (v := 1) (pc := 54) F dX0_found_54 (by decide) ?_
        refine fm_iadd (pc := 55) F dX0_found_55 ?_
        refine fm_putI (v := ((M15.1 0 16) + 1)) (pc := 56) F clX0 16 (fm_lt rfl) dX0_found_56 q287 rfl rfl 0 (fm_ltN hN rfl) rfl (fm_lt rfl) rfl ?_
        refine fm_nameM (fun M16 eM16 => ?_)
        replace hf := fm_let_inv eM16 hf
        refine fm_aload_n (pc := 59) F dX0_found_59 0 rfl ?_
        refine fm_get (v := .int (M16.1 0 16)) (pc := 60) F (ci := 0) (T := TX0) (n := 19) rfl in_X0 16 (fm_lt rfl) dX0_found_60 q287 0 (fm_ltN hN rfl) rfl rfl ?_
        exact fm_iret (pc := 63) F E hf dX0_found_63
      · replace hf := fm_ip c11 hf
        refine fm_bipush (v := (-3)) (pc := 26) F dX0_found_26 (by decide) ?_
        exact fm_iret (pc := 28) F E hf dX0_found_28
    · replace hf := fm_ip c10 hf
      refine fm_iconst (v := (-1)) (pc := 16) F dX0_found_16 (by decide) ?_
      exact fm_iret (pc := 17) F E hf dX0_found_17
abbrev rmX0_forget : Room := { frames := 2, cells := 0, slots := 0, locals := 80 }
def fX0_forget (n bk : Nat) (M : fm_M) : Option (Int32 × fm_M) :=
  fm_let (fm_wr M 0 16 0) fun M1 =>
  some ((M.1 0 16), M1)
theorem hdX0_forget : yX0_forget.cls = RX0 ∧ yX0_forget.cls ≠ "java/lang/invoke/MethodHandle" ∧ yX0_forget.cls ≠ "java/lang/invoke/VarHandle" ∧ (parseMethodDescriptor yX0_forget.desc).map (fun d => d.parameters.length) = some 0 := by decide +kernel
set_option maxHeartbeats 4000000 in
theorem mX0_forget {l : Launch} {D : va_G} {dA : Nat → ClassId} {ad : Nat → Nat} {N bk : Nat} {n : Nat} (hN : 193 ≤ N) (hb : fm_isBk N bk) (inj : ∀ i j, i < N → j < N → ad i = ad j → i = j) {M M' : fm_M} {r : Int32} (hf : fX0_forget n bk M = some (r, M')) : fm_C l yX0_forget (ws_ yX0_forget cX0_forget 2 (some .int)) rmX0_forget (YC D dA N ad bk) [.ref (ad 0)] M (some (.int r)) M' := by
  refine fm_enter (by decide) rfl (fm_le rfl) inj ?_
  intro X hXl F E
  subst hXl
  unfold fX0_forget at hf
  show fm_G X (YC D dA N ad bk) (0, 0) 2 M 0 [(0, .ref (ad 0))] []
  refine fm_aload_n (pc := 0) F dX0_forget_0 0 rfl ?_
  refine fm_get (v := .int (M.1 0 16)) (pc := 1) F (ci := 0) (T := TX0) (n := 19) rfl in_X0 16 (fm_lt rfl) dX0_forget_1 q287 0 (fm_ltN hN rfl) rfl rfl ?_
  refine fm_istore_n (lv' := [(1, .int (M.1 0 16)), (0, .ref (ad 0))]) (pc := 4) F dX0_forget_4 rfl (fm_lt rfl) rfl ?_
  refine fm_aload_n (pc := 5) F dX0_forget_5 1 rfl ?_
  refine fm_iconst (v := 0) (pc := 6) F dX0_forget_6 (by decide) ?_
  refine fm_putI (v := 0) (pc := 7) F clX0 16 (fm_lt rfl) dX0_forget_7 q287 rfl rfl 0 (fm_ltN hN rfl) rfl (fm_lt rfl) rfl ?_
  refine fm_nameM (fun M1 eM1 => ?_)
  replace hf := fm_let_inv eM1 hf
  refine fm_iload_n (pc := 10) F dX0_forget_10 0 rfl ?_
  exact fm_iret (pc := 11) F E hf dX0_forget_11
abbrev rmX0_which : Room := { frames := 3, cells := 0, slots := 0, locals := 107 }
def fX0_which_39 (n bk : Nat) (k19 : fm_M → Int32 → Int32 → Int32 → Int32 → Option (Int32 × fm_M)) : Nat → fm_M → Int32 → Int32 → Int32 → Int32 → Int32 → Int32 → Option (Int32 × fm_M)
  | 0, _, _, _, _, _, _, _ => none
  | k + 1, M, l1, l2, l3, l4, l5, l6 =>
    if (M.1 0 16) ≤ l6 then
      if l5 = 0 then
        k19 M l1 l2 l3 (l4 + 1)
      else
        if l2 = 0 then
          k19 M l1 (l2 + 1) l4 (l4 + 1)
        else
          k19 M l1 (l2 + 1) l3 (l4 + 1)
    else
      if l5 = 0 then
        fX0_which_39 n bk k19 k M l1 l2 l3 l4 0 (l6 + 1)
      else
        fm_b l6 5 <|
        fm_b (M.1 10 l6.toNatClampNeg) 6 <|
        fm_b (M.1 2 (M.1 10 l6.toNatClampNeg).toNatClampNeg) 6 <|
        fm_b l6 5 <|
        if (M.1 40 (M.1 2 (M.1 10 l6.toNatClampNeg).toNatClampNeg).toNatClampNeg) = (M.1 9 l6.toNatClampNeg) then
          fX0_which_39 n bk k19 k M l1 l2 l3 l4 1 (l6 + 1)
        else
          fX0_which_39 n bk k19 k M l1 l2 l3 l4 0 (l6 + 1)
def fX0_which_19 (n bk : Nat) : Nat → fm_M → Int32 → Int32 → Int32 → Int32 → Option (Int32 × fm_M)
  | 0, _, _, _, _, _ => none
  | k + 1, M, l1, l2, l3, l4 =>
    if 1000 ≤ l4 then
      if l1 = 0 then
        some (l2, M)
      else
        some (l3, M)
    else
      fm_bv (fX0_lotOf n bk M l4) fun M4 =>
      fX0_which_39 n bk (fX0_which_19 n bk k) n M4 l1 l2 l3 l4 1 0
def fX0_which (n bk : Nat) (M : fm_M) (l1 : Int32) : Option (Int32 × fm_M) :=
  fm_bi (fX0_in n bk M l1 0 1) fun r1 M2 =>
  if r1 = 0 then
    some ((-1), M2)
  else
    fX0_which_19 n bk n M2 l1 0 (-9) 0
theorem hdX0_which : yX0_which.cls = RX0 ∧ yX0_which.cls ≠ "java/lang/invoke/MethodHandle" ∧ yX0_which.cls ≠ "java/lang/invoke/VarHandle" ∧ (parseMethodDescriptor yX0_which.desc).map (fun d => d.parameters.length) = some 1 := by decide +kernel
set_option maxHeartbeats 4000000 in
theorem wX0_which_39 {X : fm_X} {D : va_G} {dA : Nat → ClassId} {ad : Nat → Nat} {N bk : Nat} {n : Nat} (hN : 193 ≤ N) (hb : fm_isBk N bk) {r : Int32} (F : fm_F X (YC D dA N ad bk) cX0_which 7 RX0 rmX0_which) {M' : fm_M} (E : fm_E X (YC D dA N ad bk) (some (.int r)) M' (some .int)) {k19 : fm_M → Int32 → Int32 → Int32 → Int32 → Option (Int32 × fm_M)} (hk19 : ∀ (M : fm_M) (l1 : Int32) (l2 : Int32) (l3 : Int32) (l4 : Int32), k19 M l1 l2 l3 l4 = some (r, M') → fm_G X (YC D dA N ad bk) (0, 0) 7 M 19 [(0, .ref (ad 0)), (1, .int l1), (2, .int l2), (3, .int l3), (4, .int l4)] []) : ∀ (k : Nat) (M : fm_M) (l1 : Int32) (l2 : Int32) (l3 : Int32) (l4 : Int32) (l5 : Int32) (l6 : Int32), fX0_which_39 n bk k19 k M l1 l2 l3 l4 l5 l6 = some (r, M') → fm_G X (YC D dA N ad bk) (0, 0) 7 M 39 [(0, .ref (ad 0)), (1, .int l1), (2, .int l2), (3, .int l3), (4, .int l4), (5, .int l5), (6, .int l6)] [] := by
  intro k
  induction k with
  | zero =>
    intro M l1 l2 l3 l4 l5 l6 hf
    rw [fX0_which_39] at hf
    cases hf
  | succ k ih =>
    intro M l1 l2 l3 l4 l5 l6 hf
    rw [fX0_which_39] at hf
    refine fm_iload (pc := 39) F dX0_which_39 6 rfl ?_
    refine fm_aload_n (pc := 41) F dX0_which_41 0 rfl ?_
    refine fm_get (v := .int (M.1 0 16)) (pc := 42) F (ci := 0) (T := TX0) (n := 19) rfl in_X0 16 (fm_lt rfl) dX0_which_42 q287 0 (fm_ltN hN rfl) rfl rfl ?_
    refine fm_icmp_ge (tgt := 96) (pc := 45) F dX0_which_45 (by decide) (fun c1 => ?_) (fun c1 => ?_)
    · replace hf := fm_ip c1 hf
      refine fm_iload (pc := 96) F dX0_which_96 5 rfl ?_
      refine fm_if_eq (tgt := 115) (pc := 98) F dX0_which_98 (by decide) (fun c2 => ?_) (fun c2 => ?_)
      · replace hf := fm_ip c2 hf
        refine fm_iinc (v := (l4 + 1)) (lv' := [(4, .int (l4 + 1)), (0, .ref (ad 0)), (1, .int l1), (2, .int l2), (3, .int l3), (5, .int l5), (6, .int l6)]) (pc := 115) F dX0_which_115 4 rfl rfl (fm_lt rfl) rfl ?_
        refine fm_goto (tgt := 19) (pc := 118) F dX0_which_118 (by decide) ?_
        refine fm_pick [1, 2, 3, 4, 0] rfl ?_
        exact hk19 _ _ _ _ _ hf
      · replace hf := fm_in c2 hf
        refine fm_iload_n (pc := 101) F dX0_which_101 2 rfl ?_
        refine fm_if_ne (tgt := 110) (pc := 102) F dX0_which_102 (by decide) (fun c3 => ?_) (fun c3 => ?_)
        · replace hf := fm_in c3 hf
          refine fm_iload_n (pc := 110) F dX0_which_110 3 rfl ?_
          refine fm_istore_n (lv' := [(3, .int l3), (0, .ref (ad 0)), (1, .int l1), (2, .int l2), (4, .int l4), (5, .int l5), (6, .int l6)]) (pc := 111) F dX0_which_111 rfl (fm_lt rfl) rfl ?_
          refine fm_iinc (v := (l2 + 1)) (lv' := [(2, .int (l2 + 1)), (3, .int l3), (0, .ref (ad 0)), (1, .int l1), (4, .int l4), (5, .int l5), (6, .int l6)]) (pc := 112) F dX0_which_112 3 rfl rfl (fm_lt rfl) rfl ?_
          refine fm_iinc (v := (l4 + 1)) (lv' := [(4, .int (l4 + 1)), (2, .int (l2 + 1)), (3, .int l3), (0, .ref (ad 0)), (1, .int l1), (5, .int l5), (6, .int l6)]) (pc := 115) F dX0_which_115 4 rfl rfl (fm_lt rfl) rfl ?_
          refine fm_goto (tgt := 19) (pc := 118) F dX0_which_118 (by decide) ?_
          refine fm_pick [3, 4, 1, 2, 0] rfl ?_
          exact hk19 _ _ _ _ _ hf
        · replace hf := fm_ip c3 hf
          refine fm_iload (pc := 105) F dX0_which_105 4 rfl ?_
          refine fm_goto (tgt := 111) (pc := 107) F dX0_which_107 (by decide) ?_
          refine fm_istore_n (lv' := [(3, .int l4), (0, .ref (ad 0)), (1, .int l1), (2, .int l2), (4, .int l4), (5, .int l5), (6, .int l6)]) (pc := 111) F dX0_which_111 rfl (fm_lt rfl) rfl ?_
          refine fm_iinc (v := (l2 + 1)) (lv' := [(2, .int (l2 + 1)), (3, .int l4), (0, .ref (ad 0)), (1, .int l1), (4, .int l4), (5, .int l5), (6, .int l6)]) (pc := 112) F dX0_which_112 3 rfl rfl (fm_lt rfl) rfl ?_
          refine fm_iinc (v := (l4 + 1)) (lv' := [(4, .int (l4 + 1)), (2, .int (l2 + 1)), (3, .int l4), (0, .ref (ad 0)), (1, .int l1), (5, .int l5), (6, .int l6)]) (pc := 115) F dX0_which_115 4 rfl rfl (fm_lt rfl) rfl ?_
          refine fm_goto (tgt := 19) (pc := 118) F dX0_which_118 (by decide) ?_
          refine fm_pick [3, 4, 1, 2, 0] rfl ?_
          exact hk19 _ _ _ _ _ hf
    · replace hf := fm_in c1 hf
      refine fm_iload (pc := 48) F dX0_which_48 5 rfl ?_
      refine fm_if_eq (tgt := 87) (pc := 50) F dX0_which_50 (by decide) (fun c4 => ?_) (fun c4 => ?_)
      · replace hf := fm_ip c4 hf
        refine fm_iconst (v := 0) (pc := 87) F dX0_which_87 (by decide) ?_
        refine fm_istore (lv' := [(5, .int 0), (0, .ref (ad 0)), (1, .int l1), (2, .int l2), (3, .int l3), (4, .int l4), (6, .int l6)]) (pc := 88) F dX0_which_88 (fm_lt rfl) rfl ?_
        refine fm_iinc (v := (l6 + 1)) (lv' := [(6, .int (l6 + 1)), (5, .int 0), (0, .ref (ad 0)), (1, .int l1), (2, .int l2), (3, .int l3), (4, .int l4)]) (pc := 90) F dX0_which_90 6 rfl rfl (fm_lt rfl) rfl ?_
        refine fm_goto (tgt := 39) (pc := 93) F dX0_which_93 (by decide) ?_
        refine fm_pick [2, 3, 4, 5, 6, 1, 0] rfl ?_
        exact ih _ _ _ _ _ _ _ hf
      · replace hf := fm_in c4 hf
        refine fm_aload_n (pc := 53) F dX0_which_53 0 rfl ?_
        refine fm_get (v := .ref (ad 39)) (pc := 54) F (ci := 0) (T := TX0) (n := 19) rfl in_X0 3 (fm_lt rfl) dX0_which_54 q272 0 (fm_ltN hN rfl) rfl rfl ?_
        refine fm_getN (v := .ref (ad 40)) (pc := 57) F (ci := 2) (T := TX2) (n := 7) rfl in_X2 2 (fm_lt rfl) dX0_which_57 q153 39 (fm_isPl.now.lt hN 0 (fm_lt rfl)) (fm_isPl.now.mk0 (ad := ad) (dA := dA) (bk := bk) _ M.2) rfl ?_
        refine fm_aload_n (pc := 60) F dX0_which_60 0 rfl ?_
        refine fm_get (v := .ref (ad 2)) (pc := 61) F (ci := 0) (T := TX0) (n := 19) rfl in_X0 2 (fm_lt rfl) dX0_which_61 q268 0 (fm_ltN hN rfl) rfl rfl ?_
        refine fm_aload_n (pc := 64) F dX0_which_64 0 rfl ?_
        refine fm_get (v := .ref (ad 10)) (pc := 65) F (ci := 0) (T := TX0) (n := 19) rfl in_X0 15 (fm_lt rfl) dX0_which_65 q286 0 (fm_ltN hN rfl) rfl rfl ?_
        refine fm_iload (pc := 68) F dX0_which_68 6 rfl ?_
        obtain ⟨b5, hf⟩ := fm_b_inv hf
        refine fm_iald (pc := 70) F dX0_which_70 10 (fm_ltN hN rfl) rfl b5 ?_
        obtain ⟨b6, hf⟩ := fm_b_inv hf
        refine fm_iald (pc := 71) F dX0_which_71 2 (fm_ltN hN rfl) rfl b6 ?_
        obtain ⟨b7, hf⟩ := fm_b_inv hf
        refine fm_iald (pc := 72) F dX0_which_72 40 (fm_isPl.now.lt hN 1 (fm_lt rfl)) (fm_isPl.now.mk1 (ad := ad) (dA := dA) (bk := bk) _ M.2) b7 ?_
        refine fm_aload_n (pc := 73) F dX0_which_73 0 rfl ?_
        refine fm_get (v := .ref (ad 9)) (pc := 74) F (ci := 0) (T := TX0) (n := 19) rfl in_X0 14 (fm_lt rfl) dX0_which_74 q285 0 (fm_ltN hN rfl) rfl rfl ?_
        refine fm_iload (pc := 77) F dX0_which_77 6 rfl ?_
        obtain ⟨b8, hf⟩ := fm_b_inv hf
        refine fm_iald (pc := 79) F dX0_which_79 9 (fm_ltN hN rfl) rfl b8 ?_
        refine fm_icmp_ne (tgt := 87) (pc := 80) F dX0_which_80 (by decide) (fun c9 => ?_) (fun c9 => ?_)
        · replace hf := fm_in c9 hf
          refine fm_iconst (v := 0) (pc := 87) F dX0_which_87 (by decide) ?_
          refine fm_istore (lv' := [(5, .int 0), (0, .ref (ad 0)), (1, .int l1), (2, .int l2), (3, .int l3), (4, .int l4), (6, .int l6)]) (pc := 88) F dX0_which_88 (fm_lt rfl) rfl ?_
          refine fm_iinc (v := (l6 + 1)) (lv' := [(6, .int (l6 + 1)), (5, .int 0), (0, .ref (ad 0)), (1, .int l1), (2, .int l2), (3, .int l3), (4, .int l4)]) (pc := 90) F dX0_which_90 6 rfl rfl (fm_lt rfl) rfl ?_
          refine fm_goto (tgt := 39) (pc := 93) F dX0_which_93 (by decide) ?_
          refine fm_pick [2, 3, 4, 5, 6, 1, 0] rfl ?_
          exact ih _ _ _ _ _ _ _ hf
        · replace hf := fm_ip c9 hf
          refine fm_iconst (v := 1) (pc := 83) F dX0_which_83 (by decide) ?_
          refine fm_goto (tgt := 88) (pc := 84) F dX0_which_84 (by decide) ?_
          refine fm_istore (lv' := [(5, .int 1), (0, .ref (ad 0)), (1, .int l1), (2, .int l2), (3, .int l3), (4, .int l4), (6, .int l6)]) (pc := 88) F dX0_which_88 (fm_lt rfl) rfl ?_
          refine fm_iinc (v := (l6 + 1)) (lv' := [(6, .int (l6 + 1)), (5, .int 1), (0, .ref (ad 0)), (1, .int l1), (2, .int l2), (3, .int l3), (4, .int l4)]) (pc := 90) F dX0_which_90 6 rfl rfl (fm_lt rfl) rfl ?_
          refine fm_goto (tgt := 39) (pc := 93) F dX0_which_93 (by decide) ?_
          refine fm_pick [2, 3, 4, 5, 6, 1, 0] rfl ?_
          exact ih _ _ _ _ _ _ _ hf
set_option maxHeartbeats 4000000 in
theorem wX0_which_19 {X : fm_X} {D : va_G} {dA : Nat → ClassId} {ad : Nat → Nat} {N bk : Nat} {n : Nat} (hN : 193 ≤ N) (hb : fm_isBk N bk) {r : Int32} (F : fm_F X (YC D dA N ad bk) cX0_which 7 RX0 rmX0_which) {M' : fm_M} (E : fm_E X (YC D dA N ad bk) (some (.int r)) M' (some .int)) : ∀ (k : Nat) (M : fm_M) (l1 : Int32) (l2 : Int32) (l3 : Int32) (l4 : Int32), fX0_which_19 n bk k M l1 l2 l3 l4 = some (r, M') → fm_G X (YC D dA N ad bk) (0, 0) 7 M 19 [(0, .ref (ad 0)), (1, .int l1), (2, .int l2), (3, .int l3), (4, .int l4)] [] := by
  intro k
  induction k with
  | zero =>
    intro M l1 l2 l3 l4 hf
    rw [fX0_which_19] at hf
    cases hf
  | succ k ih =>
    intro M l1 l2 l3 l4 hf
    rw [fX0_which_19] at hf
    refine fm_iload (pc := 19) F dX0_which_19 4 rfl ?_
    refine fm_sipush (v := 1000) (pc := 21) F dX0_which_21 (by decide) ?_
    refine fm_icmp_ge (tgt := 121) (pc := 24) F dX0_which_24 (by decide) (fun c1 => ?_) (fun c1 => ?_)
    · replace hf := fm_ip c1 hf
      refine fm_iload_n (pc := 121) F dX0_which_121 1 rfl ?_
      refine fm_if_ne (tgt := 129) (pc := 122) F dX0_which_122 (by decide) (fun c2 => ?_) (fun c2 => ?_)
      · replace hf := fm_in c2 hf
        refine fm_iload_n (pc := 129) F dX0_which_129 3 rfl ?_
        exact fm_iret (pc := 130) F E hf dX0_which_130
      · replace hf := fm_ip c2 hf
        refine fm_iload_n (pc := 125) F dX0_which_125 2 rfl ?_
        refine fm_goto (tgt := 130) (pc := 126) F dX0_which_126 (by decide) ?_
        exact fm_iret (pc := 130) F E hf dX0_which_130
    · replace hf := fm_in c1 hf
      refine fm_aload_n (pc := 27) F dX0_which_27 0 rfl ?_
      refine fm_iload (pc := 28) F dX0_which_28 4 rfl ?_
      obtain ⟨M4, h5, hf⟩ := fm_bv_inv hf
      refine fm_callV (As := [.int l4]) (rest := []) (pc := 30) F (ci := 0) 0 (fm_ltN hN rfl) rfl rfl (mX0_lotOf hN hb F.inj h5) q677 q644 qs13 q39 q645 ⟨rfl, rfl⟩ hdX0_lotOf ⟨fm_le rfl, fm_le rfl, Nat.zero_le _, Nat.zero_le _⟩ rfl rfl (fm_le rfl) dX0_which_30 ?_
      refine fm_iconst (v := 1) (pc := 33) F dX0_which_33 (by decide) ?_
      refine fm_istore (lv' := [(5, .int 1), (0, .ref (ad 0)), (1, .int l1), (2, .int l2), (3, .int l3), (4, .int l4)]) (pc := 34) F dX0_which_34 (fm_lt rfl) rfl ?_
      refine fm_iconst (v := 0) (pc := 36) F dX0_which_36 (by decide) ?_
      refine fm_istore (lv' := [(6, .int 0), (5, .int 1), (0, .ref (ad 0)), (1, .int l1), (2, .int l2), (3, .int l3), (4, .int l4)]) (pc := 37) F dX0_which_37 (fm_lt rfl) rfl ?_
      refine fm_pick [2, 3, 4, 5, 6, 1, 0] rfl ?_
      exact wX0_which_39 hN hb F E ih n _ _ _ _ _ _ _ hf
set_option maxHeartbeats 4000000 in
theorem mX0_which {l : Launch} {D : va_G} {dA : Nat → ClassId} {ad : Nat → Nat} {N bk : Nat} {n : Nat} (hN : 193 ≤ N) (hb : fm_isBk N bk) (inj : ∀ i j, i < N → j < N → ad i = ad j → i = j) {M M' : fm_M} {l1 : Int32} {r : Int32} (hf : fX0_which n bk M l1 = some (r, M')) : fm_C l yX0_which (ws_ yX0_which cX0_which 7 (some .int)) rmX0_which (YC D dA N ad bk) [.ref (ad 0), .int l1] M (some (.int r)) M' := by
  refine fm_enter (by decide) rfl (fm_le rfl) inj ?_
  intro X hXl F E
  subst hXl
  unfold fX0_which at hf
  show fm_G X (YC D dA N ad bk) (0, 0) 7 M 0 [(0, .ref (ad 0)), (1, .int l1)] []
  refine fm_iload_n (pc := 0) F dX0_which_0 1 rfl ?_
  refine fm_iconst (v := 0) (pc := 1) F dX0_which_1 (by decide) ?_
  refine fm_iconst (v := 1) (pc := 2) F dX0_which_2 (by decide) ?_
  obtain ⟨r1, M2, h3, hf⟩ := fm_bi_inv hf
  refine fm_callS (As := [.int l1, .int 0, .int 1]) (rest := []) (pc := 3) F (mX0_in hN hb F.inj h3) q339 q340 q39 q341 ⟨rfl, rfl⟩ hdX0_in.2 ⟨fm_le rfl, fm_le rfl, Nat.zero_le _, Nat.zero_le _⟩ rfl rfl (fm_le rfl) dX0_which_3 ?_
  refine fm_if_ne (tgt := 11) (pc := 6) F dX0_which_6 (by decide) (fun c5 => ?_) (fun c5 => ?_)
  · replace hf := fm_in c5 hf
    refine fm_iconst (v := 0) (pc := 11) F dX0_which_11 (by decide) ?_
    refine fm_istore_n (lv' := [(2, .int 0), (0, .ref (ad 0)), (1, .int l1)]) (pc := 12) F dX0_which_12 rfl (fm_lt rfl) rfl ?_
    refine fm_bipush (v := (-9)) (pc := 13) F dX0_which_13 (by decide) ?_
    refine fm_istore_n (lv' := [(3, .int (-9)), (2, .int 0), (0, .ref (ad 0)), (1, .int l1)]) (pc := 15) F dX0_which_15 rfl (fm_lt rfl) rfl ?_
    refine fm_iconst (v := 0) (pc := 16) F dX0_which_16 (by decide) ?_
    refine fm_istore (lv' := [(4, .int 0), (3, .int (-9)), (2, .int 0), (0, .ref (ad 0)), (1, .int l1)]) (pc := 17) F dX0_which_17 (fm_lt rfl) rfl ?_
    refine fm_pick [3, 4, 2, 1, 0] rfl ?_
    exact wX0_which_19 hN hb F E n _ _ _ _ _ hf
  · replace hf := fm_ip c5 hf
    refine fm_iconst (v := (-1)) (pc := 9) F dX0_which_9 (by decide) ?_
    exact fm_iret (pc := 10) F E hf dX0_which_10
abbrev rmX0_keep : Room := { frames := 3, cells := 0, slots := 0, locals := 102 }
def fX0_keep (n bk : Nat) (M : fm_M) (l1 : Int32) : Option (Int32 × fm_M) :=
  fm_bi (fX0_in n bk M l1 0 1) fun r1 M2 =>
  if r1 = 0 then
    some ((-1), M2)
  else
    fm_b l1 2 <|
    fm_bv (fX2_copyOf n bk (171 + 11 * l1.toNatClampNeg) 39 M2) fun M8 =>
    fm_b l1 2 <|
    fm_let (fm_wr M8 5 l1.toNatClampNeg 1) fun M12 =>
    some ((M12.1 39 0), M12)
theorem hdX0_keep : yX0_keep.cls = RX0 ∧ yX0_keep.cls ≠ "java/lang/invoke/MethodHandle" ∧ yX0_keep.cls ≠ "java/lang/invoke/VarHandle" ∧ (parseMethodDescriptor yX0_keep.desc).map (fun d => d.parameters.length) = some 1 := by decide +kernel
set_option maxHeartbeats 4000000 in
theorem mX0_keep {l : Launch} {D : va_G} {dA : Nat → ClassId} {ad : Nat → Nat} {N bk : Nat} {n : Nat} (hN : 193 ≤ N) (hb : fm_isBk N bk) (inj : ∀ i j, i < N → j < N → ad i = ad j → i = j) {M M' : fm_M} {l1 : Int32} {r : Int32} (hf : fX0_keep n bk M l1 = some (r, M')) : fm_C l yX0_keep (ws_ yX0_keep cX0_keep 2 (some .int)) rmX0_keep (YC D dA N ad bk) [.ref (ad 0), .int l1] M (some (.int r)) M' := by
  refine fm_enter (by decide) rfl (fm_le rfl) inj ?_
  intro X hXl F E
  subst hXl
  unfold fX0_keep at hf
  show fm_G X (YC D dA N ad bk) (0, 0) 2 M 0 [(0, .ref (ad 0)), (1, .int l1)] []
  refine fm_iload_n (pc := 0) F dX0_keep_0 1 rfl ?_
  refine fm_iconst (v := 0) (pc := 1) F dX0_keep_1 (by decide) ?_
  refine fm_iconst (v := 1) (pc := 2) F dX0_keep_2 (by decide) ?_
  obtain ⟨r1, M2, h3, hf⟩ := fm_bi_inv hf
  refine fm_callS (As := [.int l1, .int 0, .int 1]) (rest := []) (pc := 3) F (mX0_in hN hb F.inj h3) q339 q340 q39 q341 ⟨rfl, rfl⟩ hdX0_in.2 ⟨fm_le rfl, fm_le rfl, Nat.zero_le _, Nat.zero_le _⟩ rfl rfl (fm_le rfl) dX0_keep_3 ?_
  refine fm_if_ne (tgt := 11) (pc := 6) F dX0_keep_6 (by decide) (fun c5 => ?_) (fun c5 => ?_)
  · replace hf := fm_in c5 hf
    refine fm_aload_n (pc := 11) F dX0_keep_11 0 rfl ?_
    refine fm_get (v := .ref (ad 4)) (pc := 12) F (ci := 0) (T := TX0) (n := 19) rfl in_X0 7 (fm_lt rfl) dX0_keep_12 q276 0 (fm_ltN hN rfl) rfl rfl ?_
    refine fm_iload_n (pc := 15) F dX0_keep_15 1 rfl ?_
    obtain ⟨b6, hf⟩ := fm_b_inv hf
    refine fm_aald (pc := 16) F dX0_keep_16 4 (fm_ltN hN rfl) 3 (fun j => 171 + 11 * j) rfl rfl rfl b6 ?_
    refine fm_aload_n (pc := 17) F dX0_keep_17 0 rfl ?_
    refine fm_get (v := .ref (ad 39)) (pc := 18) F (ci := 0) (T := TX0) (n := 19) rfl in_X0 3 (fm_lt rfl) dX0_keep_18 q272 0 (fm_ltN hN rfl) rfl rfl ?_
    obtain ⟨M8, h9, hf⟩ := fm_bv_inv hf
    refine fm_callV (As := [.ref (ad 39)]) (rest := []) (pc := 21) F (ci := 2) (171 + 11 * l1.toNatClampNeg) ((fm_isPl.im (fm_vlt b6)).lt hN 0 (fm_lt rfl)) ((fm_isPl.im (fm_vlt b6)).mk0 (ad := ad) (dA := dA) (bk := bk) _ M2.2) rfl (mX2_copyOf (fm_isPl.im (fm_vlt b6)) fm_isPl.now hN hb F.inj h9) q629 q630 q631 q41 q632 ⟨rfl, rfl⟩ hdX2_copyOf ⟨fm_le rfl, fm_le rfl, Nat.zero_le _, Nat.zero_le _⟩ rfl rfl (fm_le rfl) dX0_keep_21 ?_
    refine fm_aload_n (pc := 24) F dX0_keep_24 0 rfl ?_
    refine fm_get (v := .ref (ad 5)) (pc := 25) F (ci := 0) (T := TX0) (n := 19) rfl in_X0 8 (fm_lt rfl) dX0_keep_25 q277 0 (fm_ltN hN rfl) rfl rfl ?_
    refine fm_iload_n (pc := 28) F dX0_keep_28 1 rfl ?_
    refine fm_iconst (v := 1) (pc := 29) F dX0_keep_29 (by decide) ?_
    obtain ⟨b11, hf⟩ := fm_b_inv hf
    refine fm_zast (pc := 30) F dX0_keep_30 5 (fm_ltN hN rfl) (fun _ => rfl) b11 fm_nar1 ?_
    refine fm_nameM (fun M12 eM12 => ?_)
    replace hf := fm_let_inv eM12 hf
    refine fm_aload_n (pc := 31) F dX0_keep_31 0 rfl ?_
    refine fm_get (v := .ref (ad 39)) (pc := 32) F (ci := 0) (T := TX0) (n := 19) rfl in_X0 3 (fm_lt rfl) dX0_keep_32 q272 0 (fm_ltN hN rfl) rfl rfl ?_
    refine fm_getN (v := .int (M12.1 39 0)) (pc := 35) F (ci := 2) (T := TX2) (n := 7) rfl in_X2 0 (fm_lt rfl) dX0_keep_35 q149 39 (fm_isPl.now.lt hN 0 (fm_lt rfl)) (fm_isPl.now.mk0 (ad := ad) (dA := dA) (bk := bk) _ M12.2) rfl ?_
    exact fm_iret (pc := 38) F E hf dX0_keep_38
  · replace hf := fm_ip c5 hf
    refine fm_iconst (v := (-1)) (pc := 9) F dX0_keep_9 (by decide) ?_
    exact fm_iret (pc := 10) F E hf dX0_keep_10
abbrev rmX0_back : Room := { frames := 3, cells := 0, slots := 0, locals := 102 }
def fX0_back (n bk : Nat) (M : fm_M) (l1 : Int32) : Option (Int32 × fm_M) :=
  fm_bi (fX0_in n bk M l1 0 1) fun r1 M2 =>
  if r1 = 0 then
    some ((-1), M2)
  else
    fm_b l1 2 <|
    if (M2.1 5 l1.toNatClampNeg) = 0 then
      some ((-2), M2)
    else
      fm_b l1 2 <|
      fm_bv (fX2_copyOf n bk 39 (171 + 11 * l1.toNatClampNeg) M2) fun M10 =>
      fm_let (fm_wr M10 0 6 0) fun M13 =>
      some ((M13.1 39 0), M13)
theorem hdX0_back : yX0_back.cls = RX0 ∧ yX0_back.cls ≠ "java/lang/invoke/MethodHandle" ∧ yX0_back.cls ≠ "java/lang/invoke/VarHandle" ∧ (parseMethodDescriptor yX0_back.desc).map (fun d => d.parameters.length) = some 1 := by decide +kernel
set_option maxHeartbeats 4000000 in
theorem mX0_back {l : Launch} {D : va_G} {dA : Nat → ClassId} {ad : Nat → Nat} {N bk : Nat} {n : Nat} (hN : 193 ≤ N) (hb : fm_isBk N bk) (inj : ∀ i j, i < N → j < N → ad i = ad j → i = j) {M M' : fm_M} {l1 : Int32} {r : Int32} (hf : fX0_back n bk M l1 = some (r, M')) : fm_C l yX0_back (ws_ yX0_back cX0_back 2 (some .int)) rmX0_back (YC D dA N ad bk) [.ref (ad 0), .int l1] M (some (.int r)) M' := by
  refine fm_enter (by decide) rfl (fm_le rfl) inj ?_
  intro X hXl F E
  subst hXl
  unfold fX0_back at hf
  show fm_G X (YC D dA N ad bk) (0, 0) 2 M 0 [(0, .ref (ad 0)), (1, .int l1)] []
  refine fm_iload_n (pc := 0) F dX0_back_0 1 rfl ?_
  refine fm_iconst (v := 0) (pc := 1) F dX0_back_1 (by decide) ?_
  refine fm_iconst (v := 1) (pc := 2) F dX0_back_2 (by decide) ?_
  obtain ⟨r1, M2, h3, hf⟩ := fm_bi_inv hf
  refine fm_callS (As := [.int l1, .int 0, .int 1]) (rest := []) (pc := 3) F (mX0_in hN hb F.inj h3) q339 q340 q39 q341 ⟨rfl, rfl⟩ hdX0_in.2 ⟨fm_le rfl, fm_le rfl, Nat.zero_le _, Nat.zero_le _⟩ rfl rfl (fm_le rfl) dX0_back_3 ?_
  refine fm_if_ne (tgt := 11) (pc := 6) F dX0_back_6 (by decide) (fun c5 => ?_) (fun c5 => ?_)
  · replace hf := fm_in c5 hf
    refine fm_aload_n (pc := 11) F dX0_back_11 0 rfl ?_
    refine fm_get (v := .ref (ad 5)) (pc := 12) F (ci := 0) (T := TX0) (n := 19) rfl in_X0 8 (fm_lt rfl) dX0_back_12 q277 0 (fm_ltN hN rfl) rfl rfl ?_
    refine fm_iload_n (pc := 15) F dX0_back_15 1 rfl ?_
    obtain ⟨b6, hf⟩ := fm_b_inv hf
    refine fm_zald (pc := 16) F dX0_back_16 5 (fm_ltN hN rfl) rfl b6 ?_
    refine fm_if_ne (tgt := 23) (pc := 17) F dX0_back_17 (by decide) (fun c7 => ?_) (fun c7 => ?_)
    · replace hf := fm_in c7 hf
      refine fm_aload_n (pc := 23) F dX0_back_23 0 rfl ?_
      refine fm_get (v := .ref (ad 39)) (pc := 24) F (ci := 0) (T := TX0) (n := 19) rfl in_X0 3 (fm_lt rfl) dX0_back_24 q272 0 (fm_ltN hN rfl) rfl rfl ?_
      refine fm_aload_n (pc := 27) F dX0_back_27 0 rfl ?_
      refine fm_get (v := .ref (ad 4)) (pc := 28) F (ci := 0) (T := TX0) (n := 19) rfl in_X0 7 (fm_lt rfl) dX0_back_28 q276 0 (fm_ltN hN rfl) rfl rfl ?_
      refine fm_iload_n (pc := 31) F dX0_back_31 1 rfl ?_
      obtain ⟨b8, hf⟩ := fm_b_inv hf
      refine fm_aald (pc := 32) F dX0_back_32 4 (fm_ltN hN rfl) 3 (fun j => 171 + 11 * j) rfl rfl rfl b8 ?_
      obtain ⟨M10, h11, hf⟩ := fm_bv_inv hf
      refine fm_callV (As := [.ref (ad (171 + 11 * l1.toNatClampNeg))]) (rest := []) (pc := 33) F (ci := 2) 39 (fm_isPl.now.lt hN 0 (fm_lt rfl)) (fm_isPl.now.mk0 (ad := ad) (dA := dA) (bk := bk) _ M2.2) rfl (mX2_copyOf fm_isPl.now (fm_isPl.im (fm_vlt b8)) hN hb F.inj h11) q629 q630 q631 q41 q632 ⟨rfl, rfl⟩ hdX2_copyOf ⟨fm_le rfl, fm_le rfl, Nat.zero_le _, Nat.zero_le _⟩ rfl rfl (fm_le rfl) dX0_back_33 ?_
      refine fm_aload_n (pc := 36) F dX0_back_36 0 rfl ?_
      refine fm_iconst (v := 0) (pc := 37) F dX0_back_37 (by decide) ?_
      refine fm_putI (v := 0) (pc := 38) F clX0 6 (fm_lt rfl) dX0_back_38 q275 rfl rfl 0 (fm_ltN hN rfl) rfl (fm_lt rfl) rfl ?_
      refine fm_nameM (fun M13 eM13 => ?_)
      replace hf := fm_let_inv eM13 hf
      refine fm_aload_n (pc := 41) F dX0_back_41 0 rfl ?_
      refine fm_get (v := .ref (ad 39)) (pc := 42) F (ci := 0) (T := TX0) (n := 19) rfl in_X0 3 (fm_lt rfl) dX0_back_42 q272 0 (fm_ltN hN rfl) rfl rfl ?_
      refine fm_getN (v := .int (M13.1 39 0)) (pc := 45) F (ci := 2) (T := TX2) (n := 7) rfl in_X2 0 (fm_lt rfl) dX0_back_45 q149 39 (fm_isPl.now.lt hN 0 (fm_lt rfl)) (fm_isPl.now.mk0 (ad := ad) (dA := dA) (bk := bk) _ M13.2) rfl ?_
      exact fm_iret (pc := 48) F E hf dX0_back_48
    · replace hf := fm_ip c7 hf
      refine fm_bipush (v := (-2)) (pc := 20) F dX0_back_20 (by decide) ?_
      exact fm_iret (pc := 22) F E hf dX0_back_22
  · replace hf := fm_ip c5 hf
    refine fm_iconst (v := (-1)) (pc := 9) F dX0_back_9 (by decide) ?_
    exact fm_iret (pc := 10) F E hf dX0_back_10
abbrev rmX0_count : Room := { frames := 3, cells := 0, slots := 0, locals := 103 }
def fX0_count (n bk : Nat) (M : fm_M) (l1 : Int32) : Option (Int32 × fm_M) :=
  if l1 = 0 then
    some ((M.1 bk 8), M)
  else if l1 = 1 then
    fm_bi (fX1_roads n bk bk M) fun r3 M4 =>
    some (r3, M4)
  else if l1 = 2 then
    some ((M.1 bk 9), M)
  else if l1 = 3 then
    some ((M.1 0 16), M)
  else if l1 = 4 then
    some ((M.1 0 10), M)
  else 
    some ((-1), M)
theorem hdX0_count : yX0_count.cls = RX0 ∧ yX0_count.cls ≠ "java/lang/invoke/MethodHandle" ∧ yX0_count.cls ≠ "java/lang/invoke/VarHandle" ∧ (parseMethodDescriptor yX0_count.desc).map (fun d => d.parameters.length) = some 1 := by decide +kernel
set_option maxHeartbeats 4000000 in
theorem mX0_count {l : Launch} {D : va_G} {dA : Nat → ClassId} {ad : Nat → Nat} {N bk : Nat} {n : Nat} (hN : 193 ≤ N) (hb : fm_isBk N bk) (inj : ∀ i j, i < N → j < N → ad i = ad j → i = j) {M M' : fm_M} {l1 : Int32} {r : Int32} (hf : fX0_count n bk M l1 = some (r, M')) : fm_C l yX0_count (ws_ yX0_count cX0_count 2 (some .int)) rmX0_count (YC D dA N ad bk) [.ref (ad 0), .int l1] M (some (.int r)) M' := by
  refine fm_enter (by decide) rfl (fm_le rfl) inj ?_
  intro X hXl F E
  subst hXl
  unfold fX0_count at hf
  show fm_G X (YC D dA N ad bk) (0, 0) 2 M 0 [(0, .ref (ad 0)), (1, .int l1)] []
  refine fm_iload_n (pc := 0) F dX0_count_0 1 rfl ?_
  rcases Decidable.em (l1 = 0) with c1 | c1
  · replace hf := fm_ip c1 hf
    refine fm_tableIn (v := 0) (tgt := 36) (pc := 1) F dX0_count_1 c1 ⟨by decide, by decide, rfl, by decide⟩ ?_
    refine fm_aload_n (pc := 36) F dX0_count_36 0 rfl ?_
    refine fm_get (v := .ref (ad bk)) (pc := 37) F (ci := 0) (T := TX0) (n := 19) rfl in_X0 0 (fm_lt rfl) dX0_count_37 q262 0 (fm_ltN hN rfl) rfl rfl ?_
    refine fm_getN (v := .int (M.1 bk 8)) (pc := 40) F (ci := 1) (T := TX1) (n := 11) rfl in_X1 8 (fm_lt rfl) dX0_count_40 q108 bk (hb.lt 0 (fm_lt rfl)) (hb.mk0 (ad := ad) (dA := dA) (bk := bk) _ M.2) rfl ?_
    exact fm_iret (pc := 43) F E hf dX0_count_43
  replace hf := fm_in c1 hf
  rcases Decidable.em (l1 = 1) with c2 | c2
  · replace hf := fm_ip c2 hf
    refine fm_tableIn (v := 1) (tgt := 44) (pc := 1) F dX0_count_1 c2 ⟨by decide, by decide, rfl, by decide⟩ ?_
    refine fm_aload_n (pc := 44) F dX0_count_44 0 rfl ?_
    refine fm_get (v := .ref (ad bk)) (pc := 45) F (ci := 0) (T := TX0) (n := 19) rfl in_X0 0 (fm_lt rfl) dX0_count_45 q262 0 (fm_ltN hN rfl) rfl rfl ?_
    obtain ⟨r3, M4, h5, hf⟩ := fm_bi_inv hf
    refine fm_callV (As := []) (rest := []) (pc := 48) F (ci := 1) bk (hb.lt 0 (fm_lt rfl)) (hb.mk0 (ad := ad) (dA := dA) (bk := bk) _ M.2) rfl (mX1_roads hb hN hb F.inj h5) q781 q782 q783 q40 q784 ⟨rfl, rfl⟩ hdX1_roads ⟨fm_le rfl, fm_le rfl, Nat.zero_le _, Nat.zero_le _⟩ rfl rfl (fm_le rfl) dX0_count_48 ?_
    exact fm_iret (pc := 51) F E hf dX0_count_51
  replace hf := fm_in c2 hf
  rcases Decidable.em (l1 = 2) with c7 | c7
  · replace hf := fm_ip c7 hf
    refine fm_tableIn (v := 2) (tgt := 52) (pc := 1) F dX0_count_1 c7 ⟨by decide, by decide, rfl, by decide⟩ ?_
    refine fm_aload_n (pc := 52) F dX0_count_52 0 rfl ?_
    refine fm_get (v := .ref (ad bk)) (pc := 53) F (ci := 0) (T := TX0) (n := 19) rfl in_X0 0 (fm_lt rfl) dX0_count_53 q262 0 (fm_ltN hN rfl) rfl rfl ?_
    refine fm_getN (v := .int (M.1 bk 9)) (pc := 56) F (ci := 1) (T := TX1) (n := 11) rfl in_X1 9 (fm_lt rfl) dX0_count_56 q113 bk (hb.lt 0 (fm_lt rfl)) (hb.mk0 (ad := ad) (dA := dA) (bk := bk) _ M.2) rfl ?_
    exact fm_iret (pc := 59) F E hf dX0_count_59
  replace hf := fm_in c7 hf
  rcases Decidable.em (l1 = 3) with c8 | c8
  · replace hf := fm_ip c8 hf
    refine fm_tableIn (v := 3) (tgt := 60) (pc := 1) F dX0_count_1 c8 ⟨by decide, by decide, rfl, by decide⟩ ?_
    refine fm_aload_n (pc := 60) F dX0_count_60 0 rfl ?_
    refine fm_get (v := .int (M.1 0 16)) (pc := 61) F (ci := 0) (T := TX0) (n := 19) rfl in_X0 16 (fm_lt rfl) dX0_count_61 q287 0 (fm_ltN hN rfl) rfl rfl ?_
    exact fm_iret (pc := 64) F E hf dX0_count_64
  replace hf := fm_in c8 hf
  rcases Decidable.em (l1 = 4) with c9 | c9
  · replace hf := fm_ip c9 hf
    refine fm_tableIn (v := 4) (tgt := 65) (pc := 1) F dX0_count_1 c9 ⟨by decide, by decide, rfl, by decide⟩ ?_
    refine fm_aload_n (pc := 65) F dX0_count_65 0 rfl ?_
    refine fm_get (v := .int (M.1 0 10)) (pc := 66) F (ci := 0) (T := TX0) (n := 19) rfl in_X0 10 (fm_lt rfl) dX0_count_66 q281 0 (fm_ltN hN rfl) rfl rfl ?_
    exact fm_iret (pc := 69) F E hf dX0_count_69
  replace hf := fm_in c9 hf
  have nc1 : l1.toInt ≠ 0 := fm_ne c1
  have nc2 : l1.toInt ≠ 1 := fm_ne c2
  have nc7 : l1.toInt ≠ 2 := fm_ne c7
  have nc8 : l1.toInt ≠ 3 := fm_ne c8
  have nc9 : l1.toInt ≠ 4 := fm_ne c9
  refine fm_tableOut (tgt := 70) (pc := 1) F dX0_count_1 (by omega) (by decide) ?_
  refine fm_iconst (v := (-1)) (pc := 70) F dX0_count_70 (by decide) ?_
  exact fm_iret (pc := 71) F E hf dX0_count_71
abbrev rmX0_trace : Room := { frames := 2, cells := 0, slots := 0, locals := 80 }
def fX0_trace (n bk : Nat) (M : fm_M) : Option (Int64 × fm_M) :=
  some (M.2, M)
theorem hdX0_trace : yX0_trace.cls = RX0 ∧ yX0_trace.cls ≠ "java/lang/invoke/MethodHandle" ∧ yX0_trace.cls ≠ "java/lang/invoke/VarHandle" ∧ (parseMethodDescriptor yX0_trace.desc).map (fun d => d.parameters.length) = some 0 := by decide +kernel
set_option maxHeartbeats 4000000 in
theorem mX0_trace {l : Launch} {D : va_G} {dA : Nat → ClassId} {ad : Nat → Nat} {N bk : Nat} {n : Nat} (hN : 193 ≤ N) (hb : fm_isBk N bk) (inj : ∀ i j, i < N → j < N → ad i = ad j → i = j) {M M' : fm_M} {r : Int64} (hf : fX0_trace n bk M = some (r, M')) : fm_C l yX0_trace (ws_ yX0_trace cX0_trace 1 (some .long)) rmX0_trace (YC D dA N ad bk) [.ref (ad 0)] M (some (.long r)) M' := by
  refine fm_enter (by decide) rfl (fm_le rfl) inj ?_
  intro X hXl F E
  subst hXl
  unfold fX0_trace at hf
  show fm_G X (YC D dA N ad bk) (0, 0) 1 M 0 [(0, .ref (ad 0))] []
  refine fm_aload_n (pc := 0) F dX0_trace_0 0 rfl ?_
  refine fm_get (v := .long M.2) (pc := 1) F (ci := 0) (T := TX0) (n := 19) rfl in_X0 17 (fm_lt rfl) dX0_trace_1 q294 0 (fm_ltN hN rfl) rfl rfl ?_
  exact fm_lret (pc := 4) F E hf dX0_trace_4
