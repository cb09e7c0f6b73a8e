/-! the reference: its methods as functions, and their walks (printed by gen/genM.py) -/
set_option maxRecDepth 100000
abbrev rmX9_lots : Room := { frames := 4, cells := 0, slots := 0, locals := 130 }
def fX9_lots (n : Nat) (M : fm_M) (l1 : Int32) : Option (Int32 × fm_M) :=
  fm_let (fm_wr M 0 0 0) fun M1 =>
  fm_bi (fX9_in n M1 l1 0 9999) fun r2 M3 =>
  if r2 = 0 then
    some ((-1), M3)
  else
    if (M3.1 11 0) = 60 then
      some ((-2), M3)
    else
      fm_bv (fX9_notes n M3) fun M9 =>
      fm_bi (fX9_drawn n 11 M9 l1) fun r12 M13 =>
      some (r12, M13)
theorem hdX9_lots : yX9_lots.cls = RX9 ∧ yX9_lots.cls ≠ "java/lang/invoke/MethodHandle" ∧ yX9_lots.cls ≠ "java/lang/invoke/VarHandle" ∧ (parseMethodDescriptor yX9_lots.desc).map (fun d => d.parameters.length) = some 1 := by decide +kernel
set_option maxHeartbeats 4000000 in
theorem mX9_lots {l : Launch} {D : va_G} {dA : Nat → ClassId} {ad : Nat → Nat} {n : Nat}  (inj : ∀ i j, i < 20 → j < 20 → ad i = ad j → i = j) {M M' : fm_M} {l1 : Int32} {r : Int32} (hf : fX9_lots n M l1 = some (r, M')) : fm_C l yX9_lots (ws_ yX9_lots cX9_lots 2 (some .int)) rmX9_lots (YM D dA ad) [.ref (ad 0), .int l1] M (some (.int r)) M' := by
  refine fm_enter (by decide) rfl (fm_le rfl) inj ?_
  intro X hXl F E
  subst hXl
  unfold fX9_lots at hf
  show fm_G X (YM D dA ad) (0, 0) 2 M 0 [(0, .ref (ad 0)), (1, .int l1)] []
  refine fm_aload_n (pc := 0) F dX9_lots_0 0 rfl ?_
  refine fm_iconst (v := 0) (pc := 1) F dX9_lots_1 (by decide) ?_
  refine fm_putI (v := 0) (pc := 2) F clX9 0 (fm_lt rfl) dX9_lots_2 q795 rfl rfl 0 (fm_lt rfl) rfl (fm_lt rfl) rfl ?_
  refine fm_nameM (fun M1 eM1 => ?_)
  replace hf := fm_let_inv eM1 hf
  refine fm_iload_n (pc := 5) F dX9_lots_5 1 rfl ?_
  refine fm_iconst (v := 0) (pc := 6) F dX9_lots_6 (by decide) ?_
  refine fm_sipush (v := 9999) (pc := 7) F dX9_lots_7 (by decide) ?_
  obtain ⟨r2, M3, h4, hf⟩ := fm_bi_inv hf
  refine fm_callS (As := [.int l1, .int 0, .int 9999]) (rest := []) (pc := 10) F (mX9_in F.inj h4) q887 q888 q50 q889 ⟨rfl, rfl⟩ hdX9_in.2 ⟨fm_le rfl, fm_le rfl, Nat.zero_le _, Nat.zero_le _⟩ rfl rfl (fm_le rfl) dX9_lots_10 ?_
  refine fm_if_ne (tgt := 18) (pc := 13) F dX9_lots_13 (by decide) (fun c6 => ?_) (fun c6 => ?_)
  · replace hf := fm_in c6 hf
    refine fm_aload_n (pc := 18) F dX9_lots_18 0 rfl ?_
    refine fm_get (v := .ref (ad 11)) (pc := 19) F (ci := 9) (T := TX9) (n := 29) rfl in_X9 18 (fm_lt rfl) dX9_lots_19 q813 0 (fm_lt rfl) rfl rfl ?_
    refine fm_iconst (v := 0) (pc := 22) F dX9_lots_22 (by decide) ?_
    refine fm_ialdK (pc := 23) F dX9_lots_23 11 (fm_lt rfl) rfl 0 (fm_ok (by decide)) rfl ?_
    refine fm_bipush (v := 60) (pc := 24) F dX9_lots_24 (by decide) ?_
    refine fm_icmp_ne (tgt := 32) (pc := 26) F dX9_lots_26 (by decide) (fun c7 => ?_) (fun c7 => ?_)
    · replace hf := fm_in c7 hf
      refine fm_aload_n (pc := 32) F dX9_lots_32 0 rfl ?_
      obtain ⟨M9, h10, hf⟩ := fm_bv_inv hf
      refine fm_callV (As := []) (rest := []) (pc := 33) F (ci := 9) 0 (fm_lt rfl) rfl rfl (mX9_notes F.inj h10) q966 q968 qs28 q50 q969 ⟨rfl, rfl⟩ hdX9_notes ⟨fm_le rfl, fm_le rfl, Nat.zero_le _, Nat.zero_le _⟩ rfl rfl (fm_le rfl) dX9_lots_33 ?_
      refine fm_aload_n (pc := 36) F dX9_lots_36 0 rfl ?_
      refine fm_aload_n (pc := 37) F dX9_lots_37 0 rfl ?_
      refine fm_get (v := .ref (ad 11)) (pc := 38) F (ci := 9) (T := TX9) (n := 29) rfl in_X9 18 (fm_lt rfl) dX9_lots_38 q813 0 (fm_lt rfl) rfl rfl ?_
      refine fm_iload_n (pc := 41) F dX9_lots_41 1 rfl ?_
      obtain ⟨r12, M13, h14, hf⟩ := fm_bi_inv hf
      refine fm_callV (As := [.ref (ad 11), .int l1]) (rest := []) (pc := 42) F (ci := 9) 0 (fm_lt rfl) rfl rfl (mX9_drawn (Or.inl rfl) F.inj h14) q970 q972 qs29 q50 q973 ⟨rfl, rfl⟩ hdX9_drawn ⟨fm_le rfl, fm_le rfl, Nat.zero_le _, Nat.zero_le _⟩ rfl rfl (fm_le rfl) dX9_lots_42 ?_
      exact fm_iret (pc := 45) F E hf dX9_lots_45
    · replace hf := fm_ip c7 hf
      refine fm_bipush (v := (-2)) (pc := 29) F dX9_lots_29 (by decide) ?_
      exact fm_iret (pc := 31) F E hf dX9_lots_31
  · replace hf := fm_ip c6 hf
    refine fm_iconst (v := (-1)) (pc := 16) F dX9_lots_16 (by decide) ?_
    exact fm_iret (pc := 17) F E hf dX9_lots_17
abbrev rmX9_trades : Room := { frames := 4, cells := 0, slots := 0, locals := 123 }
def fX9_trades (n : Nat) (M : fm_M) (l1 : Int32) (l2 : Int32) : Option (Int32 × fm_M) :=
  fm_let (fm_wr M 0 0 0) fun M1 =>
  fm_bi (fX9_isTown n M1 l1) fun r2 M3 =>
  if r2 = 0 then
    some ((-1), M3)
  else
    fm_bi (fX9_isTown n M3 l2) fun r7 M8 =>
    if r7 = 0 then
      some ((-1), M8)
    else
      if l1 = l2 then
        some ((-1), M8)
      else
        fm_bv (fX9_notes n M8) fun M14 =>
        fm_b (2 + l1) 56 <|
        fm_let (M14.1 11 (2 + l1).toNatClampNeg) fun x18 =>
        fm_b (2 + l2) 56 <|
        fm_b (2 + l1) 56 <|
        fm_let (fm_wr M14 11 (2 + l1).toNatClampNeg (M14.1 11 (2 + l2).toNatClampNeg)) fun M21 =>
        fm_b (2 + l2) 56 <|
        fm_let (fm_wr M21 11 (2 + l2).toNatClampNeg x18) fun M23 =>
        fm_bi (fX9_cuts n 11 M23) fun r24 M25 =>
        some (r24, M25)
theorem hdX9_trades : yX9_trades.cls = RX9 ∧ yX9_trades.cls ≠ "java/lang/invoke/MethodHandle" ∧ yX9_trades.cls ≠ "java/lang/invoke/VarHandle" ∧ (parseMethodDescriptor yX9_trades.desc).map (fun d => d.parameters.length) = some 2 := by decide +kernel
set_option maxHeartbeats 4000000 in
theorem mX9_trades {l : Launch} {D : va_G} {dA : Nat → ClassId} {ad : Nat → Nat} {n : Nat}  (inj : ∀ i j, i < 20 → j < 20 → ad i = ad j → i = j) {M M' : fm_M} {l1 : Int32} {l2 : Int32} {r : Int32} (hf : fX9_trades n M l1 l2 = some (r, M')) : fm_C l yX9_trades (ws_ yX9_trades cX9_trades 4 (some .int)) rmX9_trades (YM D dA ad) [.ref (ad 0), .int l1, .int l2] M (some (.int r)) M' := by
  refine fm_enter (by decide) rfl (fm_le rfl) inj ?_
  intro X hXl F E
  subst hXl
  unfold fX9_trades at hf
  show fm_G X (YM D dA ad) (0, 0) 4 M 0 [(0, .ref (ad 0)), (1, .int l1), (2, .int l2)] []
  refine fm_aload_n (pc := 0) F dX9_trades_0 0 rfl ?_
  refine fm_iconst (v := 0) (pc := 1) F dX9_trades_1 (by decide) ?_
  refine fm_putI (v := 0) (pc := 2) F clX9 0 (fm_lt rfl) dX9_trades_2 q795 rfl rfl 0 (fm_lt rfl) rfl (fm_lt rfl) rfl ?_
  refine fm_nameM (fun M1 eM1 => ?_)
  replace hf := fm_let_inv eM1 hf
  refine fm_aload_n (pc := 5) F dX9_trades_5 0 rfl ?_
  refine fm_iload_n (pc := 6) F dX9_trades_6 1 rfl ?_
  obtain ⟨r2, M3, h4, hf⟩ := fm_bi_inv hf
  refine fm_callV (As := [.int l1]) (rest := []) (pc := 7) F (ci := 9) 0 (fm_lt rfl) rfl rfl (mX9_isTown F.inj h4) q931 q933 qs25 q50 q934 ⟨rfl, rfl⟩ hdX9_isTown ⟨fm_le rfl, fm_le rfl, Nat.zero_le _, Nat.zero_le _⟩ rfl rfl (fm_le rfl) dX9_trades_7 ?_
  refine fm_if_eq (tgt := 26) (pc := 10) F dX9_trades_10 (by decide) (fun c6 => ?_) (fun c6 => ?_)
  · replace hf := fm_ip c6 hf
    refine fm_iconst (v := (-1)) (pc := 26) F dX9_trades_26 (by decide) ?_
    exact fm_iret (pc := 27) F E hf dX9_trades_27
  · replace hf := fm_in c6 hf
    refine fm_aload_n (pc := 13) F dX9_trades_13 0 rfl ?_
    refine fm_iload_n (pc := 14) F dX9_trades_14 2 rfl ?_
    obtain ⟨r7, M8, h9, hf⟩ := fm_bi_inv hf
    refine fm_callV (As := [.int l2]) (rest := []) (pc := 15) F (ci := 9) 0 (fm_lt rfl) rfl rfl (mX9_isTown F.inj h9) q931 q933 qs25 q50 q934 ⟨rfl, rfl⟩ hdX9_isTown ⟨fm_le rfl, fm_le rfl, Nat.zero_le _, Nat.zero_le _⟩ rfl rfl (fm_le rfl) dX9_trades_15 ?_
    refine fm_if_eq (tgt := 26) (pc := 18) F dX9_trades_18 (by decide) (fun c11 => ?_) (fun c11 => ?_)
    · replace hf := fm_ip c11 hf
      refine fm_iconst (v := (-1)) (pc := 26) F dX9_trades_26 (by decide) ?_
      exact fm_iret (pc := 27) F E hf dX9_trades_27
    · replace hf := fm_in c11 hf
      refine fm_iload_n (pc := 21) F dX9_trades_21 1 rfl ?_
      refine fm_iload_n (pc := 22) F dX9_trades_22 2 rfl ?_
      refine fm_icmp_ne (tgt := 28) (pc := 23) F dX9_trades_23 (by decide) (fun c12 => ?_) (fun c12 => ?_)
      · replace hf := fm_in c12 hf
        refine fm_aload_n (pc := 28) F dX9_trades_28 0 rfl ?_
        obtain ⟨M14, h15, hf⟩ := fm_bv_inv hf
        refine fm_callV (As := []) (rest := []) (pc := 29) F (ci := 9) 0 (fm_lt rfl) rfl rfl (mX9_notes F.inj h15) q966 q968 qs28 q50 q969 ⟨rfl, rfl⟩ hdX9_notes ⟨fm_le rfl, fm_le rfl, Nat.zero_le _, Nat.zero_le _⟩ rfl rfl (fm_le rfl) dX9_trades_29 ?_
        refine fm_aload_n (pc := 32) F dX9_trades_32 0 rfl ?_
        refine fm_get (v := .ref (ad 11)) (pc := 33) F (ci := 9) (T := TX9) (n := 29) rfl in_X9 18 (fm_lt rfl) dX9_trades_33 q813 0 (fm_lt rfl) rfl rfl ?_
        refine fm_iconst (v := 2) (pc := 36) F dX9_trades_36 (by decide) ?_
        refine fm_iload_n (pc := 37) F dX9_trades_37 1 rfl ?_
        refine fm_iadd (pc := 38) F dX9_trades_38 ?_
        obtain ⟨b17, hf⟩ := fm_b_inv hf
        refine fm_iald (pc := 39) F dX9_trades_39 11 (fm_lt rfl) rfl b17 ?_
        refine fm_topi (fun x18 ex18 => ?_)
        replace hf := fm_let_inv ex18 hf
        refine fm_istore_n (lv' := [(3, .int x18), (0, .ref (ad 0)), (1, .int l1), (2, .int l2)]) (pc := 40) F dX9_trades_40 rfl (fm_lt rfl) rfl ?_
        refine fm_aload_n (pc := 41) F dX9_trades_41 1 rfl ?_
        refine fm_get (v := .ref (ad 11)) (pc := 42) F (ci := 9) (T := TX9) (n := 29) rfl in_X9 18 (fm_lt rfl) dX9_trades_42 q813 0 (fm_lt rfl) rfl rfl ?_
        refine fm_iconst (v := 2) (pc := 45) F dX9_trades_45 (by decide) ?_
        refine fm_iload_n (pc := 46) F dX9_trades_46 2 rfl ?_
        refine fm_iadd (pc := 47) F dX9_trades_47 ?_
        refine fm_aload_n (pc := 48) F dX9_trades_48 1 rfl ?_
        refine fm_get (v := .ref (ad 11)) (pc := 49) F (ci := 9) (T := TX9) (n := 29) rfl in_X9 18 (fm_lt rfl) dX9_trades_49 q813 0 (fm_lt rfl) rfl rfl ?_
        refine fm_iconst (v := 2) (pc := 52) F dX9_trades_52 (by decide) ?_
        refine fm_iload_n (pc := 53) F dX9_trades_53 3 rfl ?_
        refine fm_iadd (pc := 54) F dX9_trades_54 ?_
        obtain ⟨b19, hf⟩ := fm_b_inv hf
        refine fm_iald (pc := 55) F dX9_trades_55 11 (fm_lt rfl) rfl b19 ?_
        obtain ⟨b20, hf⟩ := fm_b_inv hf
        refine fm_iast (pc := 56) F dX9_trades_56 11 (fm_lt rfl) (fun _ => rfl) b20 ?_
        refine fm_nameM (fun M21 eM21 => ?_)
        replace hf := fm_let_inv eM21 hf
        refine fm_aload_n (pc := 57) F dX9_trades_57 1 rfl ?_
        refine fm_get (v := .ref (ad 11)) (pc := 58) F (ci := 9) (T := TX9) (n := 29) rfl in_X9 18 (fm_lt rfl) dX9_trades_58 q813 0 (fm_lt rfl) rfl rfl ?_
        refine fm_iconst (v := 2) (pc := 61) F dX9_trades_61 (by decide) ?_
        refine fm_iload_n (pc := 62) F dX9_trades_62 3 rfl ?_
        refine fm_iadd (pc := 63) F dX9_trades_63 ?_
        refine fm_iload_n (pc := 64) F dX9_trades_64 0 rfl ?_
        obtain ⟨b22, hf⟩ := fm_b_inv hf
        refine fm_iast (pc := 65) F dX9_trades_65 11 (fm_lt rfl) (fun _ => rfl) b22 ?_
        refine fm_nameM (fun M23 eM23 => ?_)
        replace hf := fm_let_inv eM23 hf
        refine fm_aload_n (pc := 66) F dX9_trades_66 1 rfl ?_
        refine fm_aload_n (pc := 67) F dX9_trades_67 1 rfl ?_
        refine fm_get (v := .ref (ad 11)) (pc := 68) F (ci := 9) (T := TX9) (n := 29) rfl in_X9 18 (fm_lt rfl) dX9_trades_68 q813 0 (fm_lt rfl) rfl rfl ?_
        obtain ⟨r24, M25, h26, hf⟩ := fm_bi_inv hf
        refine fm_callV (As := [.ref (ad 11)]) (rest := []) (pc := 71) F (ci := 9) 0 (fm_lt rfl) rfl rfl (mX9_cuts (Or.inl rfl) F.inj h26) q982 q984 qs31 q50 q985 ⟨rfl, rfl⟩ hdX9_cuts ⟨fm_le rfl, fm_le rfl, Nat.zero_le _, Nat.zero_le _⟩ rfl rfl (fm_le rfl) dX9_trades_71 ?_
        exact fm_iret (pc := 74) F E hf dX9_trades_74
      · replace hf := fm_ip c12 hf
        refine fm_iconst (v := (-1)) (pc := 26) F dX9_trades_26 (by decide) ?_
        exact fm_iret (pc := 27) F E hf dX9_trades_27
abbrev rmX9_widens : Room := { frames := 4, cells := 0, slots := 0, locals := 123 }
def fX9_widens (n : Nat) (M : fm_M) (l1 : Int32) (l2 : Int32) : Option (Int32 × fm_M) :=
  fm_let (fm_wr M 0 0 0) fun M1 =>
  fm_bi (fX9_isTown n M1 l1) fun r2 M3 =>
  if r2 = 0 then
    some ((-1), M3)
  else
    fm_bi (fX9_in n M3 l2 1 99) fun r7 M8 =>
    if r7 = 0 then
      some ((-1), M8)
    else
      fm_b (2 + l1) 56 <|
      fm_b (M8.1 11 (2 + l1).toNatClampNeg) 12 <|
      if (M8.1 4 (M8.1 11 (2 + l1).toNatClampNeg).toNatClampNeg) ≤ l2 then
        fm_bv (fX9_notes n M8) fun M16 =>
        fm_b (8 + l1) 56 <|
        fm_let (M16.1 11 (8 + l1).toNatClampNeg) fun x20 =>
        fm_b (8 + l1) 56 <|
        fm_let (fm_wr M16 11 (8 + l1).toNatClampNeg l2) fun M22 =>
        some (x20, M22)
      else
        some ((-2), M8)
theorem hdX9_widens : yX9_widens.cls = RX9 ∧ yX9_widens.cls ≠ "java/lang/invoke/MethodHandle" ∧ yX9_widens.cls ≠ "java/lang/invoke/VarHandle" ∧ (parseMethodDescriptor yX9_widens.desc).map (fun d => d.parameters.length) = some 2 := by decide +kernel
set_option maxHeartbeats 4000000 in
theorem mX9_widens {l : Launch} {D : va_G} {dA : Nat → ClassId} {ad : Nat → Nat} {n : Nat}  (inj : ∀ i j, i < 20 → j < 20 → ad i = ad j → i = j) {M M' : fm_M} {l1 : Int32} {l2 : Int32} {r : Int32} (hf : fX9_widens n M l1 l2 = some (r, M')) : fm_C l yX9_widens (ws_ yX9_widens cX9_widens 4 (some .int)) rmX9_widens (YM D dA ad) [.ref (ad 0), .int l1, .int l2] M (some (.int r)) M' := by
  refine fm_enter (by decide) rfl (fm_le rfl) inj ?_
  intro X hXl F E
  subst hXl
  unfold fX9_widens at hf
  show fm_G X (YM D dA ad) (0, 0) 4 M 0 [(0, .ref (ad 0)), (1, .int l1), (2, .int l2)] []
  refine fm_aload_n (pc := 0) F dX9_widens_0 0 rfl ?_
  refine fm_iconst (v := 0) (pc := 1) F dX9_widens_1 (by decide) ?_
  refine fm_putI (v := 0) (pc := 2) F clX9 0 (fm_lt rfl) dX9_widens_2 q795 rfl rfl 0 (fm_lt rfl) rfl (fm_lt rfl) rfl ?_
  refine fm_nameM (fun M1 eM1 => ?_)
  replace hf := fm_let_inv eM1 hf
  refine fm_aload_n (pc := 5) F dX9_widens_5 0 rfl ?_
  refine fm_iload_n (pc := 6) F dX9_widens_6 1 rfl ?_
  obtain ⟨r2, M3, h4, hf⟩ := fm_bi_inv hf
  refine fm_callV (As := [.int l1]) (rest := []) (pc := 7) F (ci := 9) 0 (fm_lt rfl) rfl rfl (mX9_isTown F.inj h4) q931 q933 qs25 q50 q934 ⟨rfl, rfl⟩ hdX9_isTown ⟨fm_le rfl, fm_le rfl, Nat.zero_le _, Nat.zero_le _⟩ rfl rfl (fm_le rfl) dX9_widens_7 ?_
  refine fm_if_eq (tgt := 23) (pc := 10) F dX9_widens_10 (by decide) (fun c6 => ?_) (fun c6 => ?_)
  · replace hf := fm_ip c6 hf
    refine fm_iconst (v := (-1)) (pc := 23) F dX9_widens_23 (by decide) ?_
    exact fm_iret (pc := 24) F E hf dX9_widens_24
  · replace hf := fm_in c6 hf
    refine fm_iload_n (pc := 13) F dX9_widens_13 2 rfl ?_
    refine fm_iconst (v := 1) (pc := 14) F dX9_widens_14 (by decide) ?_
    refine fm_bipush (v := 99) (pc := 15) F dX9_widens_15 (by decide) ?_
    obtain ⟨r7, M8, h9, hf⟩ := fm_bi_inv hf
    refine fm_callS (As := [.int l2, .int 1, .int 99]) (rest := []) (pc := 17) F (mX9_in F.inj h9) q887 q888 q50 q889 ⟨rfl, rfl⟩ hdX9_in.2 ⟨fm_le rfl, fm_le rfl, Nat.zero_le _, Nat.zero_le _⟩ rfl rfl (fm_le rfl) dX9_widens_17 ?_
    refine fm_if_ne (tgt := 25) (pc := 20) F dX9_widens_20 (by decide) (fun c11 => ?_) (fun c11 => ?_)
    · replace hf := fm_in c11 hf
      refine fm_aload_n (pc := 25) F dX9_widens_25 0 rfl ?_
      refine fm_get (v := .ref (ad 4)) (pc := 26) F (ci := 9) (T := TX9) (n := 29) rfl in_X9 11 (fm_lt rfl) dX9_widens_26 q806 0 (fm_lt rfl) rfl rfl ?_
      refine fm_aload_n (pc := 29) F dX9_widens_29 0 rfl ?_
      refine fm_get (v := .ref (ad 11)) (pc := 30) F (ci := 9) (T := TX9) (n := 29) rfl in_X9 18 (fm_lt rfl) dX9_widens_30 q813 0 (fm_lt rfl) rfl rfl ?_
      refine fm_iconst (v := 2) (pc := 33) F dX9_widens_33 (by decide) ?_
      refine fm_iload_n (pc := 34) F dX9_widens_34 1 rfl ?_
      refine fm_iadd (pc := 35) F dX9_widens_35 ?_
      obtain ⟨b12, hf⟩ := fm_b_inv hf
      refine fm_iald (pc := 36) F dX9_widens_36 11 (fm_lt rfl) rfl b12 ?_
      obtain ⟨b13, hf⟩ := fm_b_inv hf
      refine fm_iald (pc := 37) F dX9_widens_37 4 (fm_lt rfl) rfl b13 ?_
      refine fm_iload_n (pc := 38) F dX9_widens_38 2 rfl ?_
      refine fm_icmp_le (tgt := 45) (pc := 39) F dX9_widens_39 (by decide) (fun c14 => ?_) (fun c14 => ?_)
      · replace hf := fm_ip c14 hf
        refine fm_aload_n (pc := 45) F dX9_widens_45 0 rfl ?_
        obtain ⟨M16, h17, hf⟩ := fm_bv_inv hf
        refine fm_callV (As := []) (rest := []) (pc := 46) F (ci := 9) 0 (fm_lt rfl) rfl rfl (mX9_notes F.inj h17) q966 q968 qs28 q50 q969 ⟨rfl, rfl⟩ hdX9_notes ⟨fm_le rfl, fm_le rfl, Nat.zero_le _, Nat.zero_le _⟩ rfl rfl (fm_le rfl) dX9_widens_46 ?_
        refine fm_aload_n (pc := 49) F dX9_widens_49 0 rfl ?_
        refine fm_get (v := .ref (ad 11)) (pc := 50) F (ci := 9) (T := TX9) (n := 29) rfl in_X9 18 (fm_lt rfl) dX9_widens_50 q813 0 (fm_lt rfl) rfl rfl ?_
        refine fm_bipush (v := 8) (pc := 53) F dX9_widens_53 (by decide) ?_
        refine fm_iload_n (pc := 55) F dX9_widens_55 1 rfl ?_
        refine fm_iadd (pc := 56) F dX9_widens_56 ?_
        obtain ⟨b19, hf⟩ := fm_b_inv hf
        refine fm_iald (pc := 57) F dX9_widens_57 11 (fm_lt rfl) rfl b19 ?_
        refine fm_topi (fun x20 ex20 => ?_)
        replace hf := fm_let_inv ex20 hf
        refine fm_istore_n (lv' := [(3, .int x20), (0, .ref (ad 0)), (1, .int l1), (2, .int l2)]) (pc := 58) F dX9_widens_58 rfl (fm_lt rfl) rfl ?_
        refine fm_aload_n (pc := 59) F dX9_widens_59 1 rfl ?_
        refine fm_get (v := .ref (ad 11)) (pc := 60) F (ci := 9) (T := TX9) (n := 29) rfl in_X9 18 (fm_lt rfl) dX9_widens_60 q813 0 (fm_lt rfl) rfl rfl ?_
        refine fm_bipush (v := 8) (pc := 63) F dX9_widens_63 (by decide) ?_
        refine fm_iload_n (pc := 65) F dX9_widens_65 2 rfl ?_
        refine fm_iadd (pc := 66) F dX9_widens_66 ?_
        refine fm_iload_n (pc := 67) F dX9_widens_67 3 rfl ?_
        obtain ⟨b21, hf⟩ := fm_b_inv hf
        refine fm_iast (pc := 68) F dX9_widens_68 11 (fm_lt rfl) (fun _ => rfl) b21 ?_
        refine fm_nameM (fun M22 eM22 => ?_)
        replace hf := fm_let_inv eM22 hf
        refine fm_iload_n (pc := 69) F dX9_widens_69 0 rfl ?_
        exact fm_iret (pc := 70) F E hf dX9_widens_70
      · replace hf := fm_in c14 hf
        refine fm_bipush (v := (-2)) (pc := 42) F dX9_widens_42 (by decide) ?_
        exact fm_iret (pc := 44) F E hf dX9_widens_44
    · replace hf := fm_ip c11 hf
      refine fm_iconst (v := (-1)) (pc := 23) F dX9_widens_23 (by decide) ?_
      exact fm_iret (pc := 24) F E hf dX9_widens_24
abbrev rmX9_undo : Room := { frames := 2, cells := 0, slots := 0, locals := 80 }
def fX9_undo_27 (n : Nat) : Nat → fm_M → Int32 → Option (Int32 × fm_M)
  | 0, _, _ => none
  | k + 1, M, l1 =>
    if 56 ≤ l1 then
      some ((M.1 0 23), M)
    else
      fm_b ((56 * (M.1 0 23)) + l1) 560 <|
      fm_b l1 56 <|
      fm_let (fm_wr M 11 l1.toNatClampNeg (M.1 15 ((56 * (M.1 0 23)) + l1).toNatClampNeg)) fun M4 =>
      fX9_undo_27 n k M4 (l1 + 1)
def fX9_undo (n : Nat) (M : fm_M) : Option (Int32 × fm_M) :=
  fm_let (fm_wr M 0 0 0) fun M1 =>
  if (M1.1 0 23) = 0 then
    some ((-2), M1)
  else
    fm_let (fm_wr M1 0 23 ((M1.1 0 23) - 1)) fun M3 =>
    fX9_undo_27 n n M3 0
theorem hdX9_undo : yX9_undo.cls = RX9 ∧ yX9_undo.cls ≠ "java/lang/invoke/MethodHandle" ∧ yX9_undo.cls ≠ "java/lang/invoke/VarHandle" ∧ (parseMethodDescriptor yX9_undo.desc).map (fun d => d.parameters.length) = some 0 := by decide +kernel
set_option maxHeartbeats 4000000 in
theorem wX9_undo_27 {X : fm_X} {D : va_G} {dA : Nat → ClassId} {ad : Nat → Nat} {n : Nat}  {r : Int32} (F : fm_F X (YM D dA ad) cX9_undo 2 RX9 rmX9_undo) {M' : fm_M} (E : fm_E X (YM D dA ad) (some (.int r)) M' (some .int)) : ∀ (k : Nat) (M : fm_M) (l1 : Int32), fX9_undo_27 n k M l1 = some (r, M') → fm_G X (YM D dA ad) (0, 0) 2 M 27 [(0, .ref (ad 0)), (1, .int l1)] [] := by
  intro k
  induction k with
  | zero =>
    intro M l1 hf
    rw [fX9_undo_27] at hf
    cases hf
  | succ k ih =>
    intro M l1 hf
    rw [fX9_undo_27] at hf
    refine fm_iload_n (pc := 27) F dX9_undo_27 1 rfl ?_
    refine fm_bipush (v := 56) (pc := 28) F dX9_undo_28 (by decide) ?_
    refine fm_icmp_ge (tgt := 59) (pc := 30) F dX9_undo_30 (by decide) (fun c1 => ?_) (fun c1 => ?_)
    · replace hf := fm_ip c1 hf
      refine fm_aload_n (pc := 59) F dX9_undo_59 0 rfl ?_
      refine fm_get (v := .int (M.1 0 23)) (pc := 60) F (ci := 9) (T := TX9) (n := 29) rfl in_X9 23 (fm_lt rfl) dX9_undo_60 q818 0 (fm_lt rfl) rfl rfl ?_
      exact fm_iret (pc := 63) F E hf dX9_undo_63
    · replace hf := fm_in c1 hf
      refine fm_aload_n (pc := 33) F dX9_undo_33 0 rfl ?_
      refine fm_get (v := .ref (ad 11)) (pc := 34) F (ci := 9) (T := TX9) (n := 29) rfl in_X9 18 (fm_lt rfl) dX9_undo_34 q813 0 (fm_lt rfl) rfl rfl ?_
      refine fm_iload_n (pc := 37) F dX9_undo_37 1 rfl ?_
      refine fm_aload_n (pc := 38) F dX9_undo_38 0 rfl ?_
      refine fm_get (v := .ref (ad 15)) (pc := 39) F (ci := 9) (T := TX9) (n := 29) rfl in_X9 22 (fm_lt rfl) dX9_undo_39 q817 0 (fm_lt rfl) rfl rfl ?_
      refine fm_bipush (v := 56) (pc := 42) F dX9_undo_42 (by decide) ?_
      refine fm_aload_n (pc := 44) F dX9_undo_44 0 rfl ?_
      refine fm_get (v := .int (M.1 0 23)) (pc := 45) F (ci := 9) (T := TX9) (n := 29) rfl in_X9 23 (fm_lt rfl) dX9_undo_45 q818 0 (fm_lt rfl) rfl rfl ?_
      refine fm_imul (pc := 48) F dX9_undo_48 ?_
      refine fm_iload_n (pc := 49) F dX9_undo_49 1 rfl ?_
      refine fm_iadd (pc := 50) F dX9_undo_50 ?_
      obtain ⟨b2, hf⟩ := fm_b_inv hf
      refine fm_iald (pc := 51) F dX9_undo_51 15 (fm_lt rfl) rfl b2 ?_
      obtain ⟨b3, hf⟩ := fm_b_inv hf
      refine fm_iast (pc := 52) F dX9_undo_52 11 (fm_lt rfl) (fun _ => rfl) b3 ?_
      refine fm_nameM (fun M4 eM4 => ?_)
      replace hf := fm_let_inv eM4 hf
      refine fm_iinc (v := (l1 + 1)) (lv' := [(1, .int (l1 + 1)), (0, .ref (ad 0))]) (pc := 53) F dX9_undo_53 1 rfl rfl (fm_lt rfl) rfl ?_
      refine fm_goto (tgt := 27) (pc := 56) F dX9_undo_56 (by decide) ?_
      refine fm_pick [1, 0] rfl ?_
      exact ih _ _ hf
set_option maxHeartbeats 4000000 in
theorem mX9_undo {l : Launch} {D : va_G} {dA : Nat → ClassId} {ad : Nat → Nat} {n : Nat}  (inj : ∀ i j, i < 20 → j < 20 → ad i = ad j → i = j) {M M' : fm_M} {r : Int32} (hf : fX9_undo n M = some (r, M')) : fm_C l yX9_undo (ws_ yX9_undo cX9_undo 2 (some .int)) rmX9_undo (YM D dA ad) [.ref (ad 0)] M (some (.int r)) M' := by
  refine fm_enter (by decide) rfl (fm_le rfl) inj ?_
  intro X hXl F E
  subst hXl
  unfold fX9_undo at hf
  show fm_G X (YM D dA ad) (0, 0) 2 M 0 [(0, .ref (ad 0))] []
  refine fm_aload_n (pc := 0) F dX9_undo_0 0 rfl ?_
  refine fm_iconst (v := 0) (pc := 1) F dX9_undo_1 (by decide) ?_
  refine fm_putI (v := 0) (pc := 2) F clX9 0 (fm_lt rfl) dX9_undo_2 q795 rfl rfl 0 (fm_lt rfl) rfl (fm_lt rfl) rfl ?_
  refine fm_nameM (fun M1 eM1 => ?_)
  replace hf := fm_let_inv eM1 hf
  refine fm_aload_n (pc := 5) F dX9_undo_5 0 rfl ?_
  refine fm_get (v := .int (M1.1 0 23)) (pc := 6) F (ci := 9) (T := TX9) (n := 29) rfl in_X9 23 (fm_lt rfl) dX9_undo_6 q818 0 (fm_lt rfl) rfl rfl ?_
  refine fm_if_ne (tgt := 15) (pc := 9) F dX9_undo_9 (by decide) (fun c2 => ?_) (fun c2 => ?_)
  · replace hf := fm_in c2 hf
    refine fm_aload_n (pc := 15) F dX9_undo_15 0 rfl ?_
    refine fm_dup (pc := 16) F dX9_undo_16 rfl ?_
    refine fm_get (v := .int (M1.1 0 23)) (pc := 17) F (ci := 9) (T := TX9) (n := 29) rfl in_X9 23 (fm_lt rfl) dX9_undo_17 q818 0 (fm_lt rfl) rfl rfl ?_
    refine fm_iconst (v := 1) (pc := 20) F dX9_undo_20 (by decide) ?_
    refine fm_isub (pc := 21) F dX9_undo_21 ?_
    refine fm_putI (v := ((M1.1 0 23) - 1)) (pc := 22) F clX9 23 (fm_lt rfl) dX9_undo_22 q818 rfl rfl 0 (fm_lt rfl) rfl (fm_lt rfl) rfl ?_
    refine fm_nameM (fun M3 eM3 => ?_)
    replace hf := fm_let_inv eM3 hf
    refine fm_iconst (v := 0) (pc := 25) F dX9_undo_25 (by decide) ?_
    refine fm_istore_n (lv' := [(1, .int 0), (0, .ref (ad 0))]) (pc := 26) F dX9_undo_26 rfl (fm_lt rfl) rfl ?_
    refine fm_pick [1, 0] rfl ?_
    exact wX9_undo_27 F E n _ _ hf
  · replace hf := fm_ip c2 hf
    refine fm_bipush (v := (-2)) (pc := 12) F dX9_undo_12 (by decide) ?_
    exact fm_iret (pc := 14) F E hf dX9_undo_14
abbrev rmX9_asNow : Room := { frames := 2, cells := 0, slots := 0, locals := 80 }
def fX9_asNow_2 (n : Nat) : Nat → fm_M → Int32 → Option (fm_M)
  | 0, _, _ => none
  | k + 1, M, l1 =>
    if 56 ≤ l1 then
      some M
    else
      fm_b l1 56 <|
      fm_b l1 56 <|
      fm_let (fm_wr M 12 l1.toNatClampNeg (M.1 11 l1.toNatClampNeg)) fun M4 =>
      fX9_asNow_2 n k M4 (l1 + 1)
def fX9_asNow (n : Nat) (M : fm_M) : Option (fm_M) :=
  fX9_asNow_2 n n M 0
theorem hdX9_asNow : yX9_asNow.cls = RX9 ∧ yX9_asNow.cls ≠ "java/lang/invoke/MethodHandle" ∧ yX9_asNow.cls ≠ "java/lang/invoke/VarHandle" ∧ (parseMethodDescriptor yX9_asNow.desc).map (fun d => d.parameters.length) = some 0 := by decide +kernel
set_option maxHeartbeats 4000000 in
theorem wX9_asNow_2 {X : fm_X} {D : va_G} {dA : Nat → ClassId} {ad : Nat → Nat} {n : Nat}  (F : fm_F X (YM D dA ad) cX9_asNow 2 RX9 rmX9_asNow) {M' : fm_M} (E : fm_E X (YM D dA ad) none M' none) : ∀ (k : Nat) (M : fm_M) (l1 : Int32), fX9_asNow_2 n k M l1 = some M' → fm_G X (YM D dA ad) (0, 0) 2 M 2 [(0, .ref (ad 0)), (1, .int l1)] [] := by
  intro k
  induction k with
  | zero =>
    intro M l1 hf
    rw [fX9_asNow_2] at hf
    cases hf
  | succ k ih =>
    intro M l1 hf
    rw [fX9_asNow_2] at hf
    refine fm_iload_n (pc := 2) F dX9_asNow_2 1 rfl ?_
    refine fm_bipush (v := 56) (pc := 3) F dX9_asNow_3 (by decide) ?_
    refine fm_icmp_ge (tgt := 26) (pc := 5) F dX9_asNow_5 (by decide) (fun c1 => ?_) (fun c1 => ?_)
    · replace hf := fm_ip c1 hf
      exact fm_vret (pc := 26) F E hf dX9_asNow_26
    · replace hf := fm_in c1 hf
      refine fm_aload_n (pc := 8) F dX9_asNow_8 0 rfl ?_
      refine fm_get (v := .ref (ad 12)) (pc := 9) F (ci := 9) (T := TX9) (n := 29) rfl in_X9 19 (fm_lt rfl) dX9_asNow_9 q814 0 (fm_lt rfl) rfl rfl ?_
      refine fm_iload_n (pc := 12) F dX9_asNow_12 1 rfl ?_
      refine fm_aload_n (pc := 13) F dX9_asNow_13 0 rfl ?_
      refine fm_get (v := .ref (ad 11)) (pc := 14) F (ci := 9) (T := TX9) (n := 29) rfl in_X9 18 (fm_lt rfl) dX9_asNow_14 q813 0 (fm_lt rfl) rfl rfl ?_
      refine fm_iload_n (pc := 17) F dX9_asNow_17 1 rfl ?_
      obtain ⟨b2, hf⟩ := fm_b_inv hf
      refine fm_iald (pc := 18) F dX9_asNow_18 11 (fm_lt rfl) rfl b2 ?_
      obtain ⟨b3, hf⟩ := fm_b_inv hf
      refine fm_iast (pc := 19) F dX9_asNow_19 12 (fm_lt rfl) (fun _ => rfl) b3 ?_
      refine fm_nameM (fun M4 eM4 => ?_)
      replace hf := fm_let_inv eM4 hf
      refine fm_iinc (v := (l1 + 1)) (lv' := [(1, .int (l1 + 1)), (0, .ref (ad 0))]) (pc := 20) F dX9_asNow_20 1 rfl rfl (fm_lt rfl) rfl ?_
      refine fm_goto (tgt := 2) (pc := 23) F dX9_asNow_23 (by decide) ?_
      refine fm_pick [1, 0] rfl ?_
      exact ih _ _ hf
set_option maxHeartbeats 4000000 in
theorem mX9_asNow {l : Launch} {D : va_G} {dA : Nat → ClassId} {ad : Nat → Nat} {n : Nat}  (inj : ∀ i j, i < 20 → j < 20 → ad i = ad j → i = j) {M M' : fm_M} (hf : fX9_asNow n M = some M') : fm_C l yX9_asNow (ws_ yX9_asNow cX9_asNow 2 none) rmX9_asNow (YM D dA ad) [.ref (ad 0)] M none M' := by
  refine fm_enter (by decide) rfl (fm_le rfl) inj ?_
  intro X hXl F E
  subst hXl
  unfold fX9_asNow at hf
  show fm_G X (YM D dA ad) (0, 0) 2 M 0 [(0, .ref (ad 0))] []
  refine fm_iconst (v := 0) (pc := 0) F dX9_asNow_0 (by decide) ?_
  refine fm_istore_n (lv' := [(1, .int 0), (0, .ref (ad 0))]) (pc := 1) F dX9_asNow_1 rfl (fm_lt rfl) rfl ?_
  refine fm_pick [1, 0] rfl ?_
  exact wX9_asNow_2 F E n _ _ hf
abbrev rmX9_inLots : Room := { frames := 4, cells := 0, slots := 0, locals := 130 }
def fX9_inLots_51 (n : Nat) : Nat → fm_M → Int32 → Int32 → Int32 → Int32 → Int32 → Option (Int32 × fm_M)
  | 0, _, _, _, _, _, _ => none
  | k + 1, M, l1, l2, l3, l4, l5 =>
    if l2 ≤ l5 then
      if l3 = (-1) then
        some (l4, M)
      else
        fm_b (2 + l3) 56 <|
        some ((M.1 12 (2 + l3).toNatClampNeg), M)
    else
      fm_let ((l1 + l5) - (l1 + l5) / 10000 * 10000) fun x4 =>
      fm_bi (fX9_drawn n 12 M x4) fun r5 M6 =>
      fX9_inLots_51 n k M6 l1 l2 l3 (l4 + r5) (l5 + 1)
def fX9_inLots_41 (n : Nat) (M : fm_M) (l1 : Int32) (l2 : Int32) (l3 : Int32) : Option (Int32 × fm_M) :=
  fm_bv (fX9_asNow n M) fun M2 =>
  fX9_inLots_51 n n M2 l1 l2 l3 0 0
def fX9_inLots (n : Nat) (M : fm_M) (l1 : Int32) (l2 : Int32) (l3 : Int32) : Option (Int32 × fm_M) :=
  fm_let (fm_wr M 0 0 0) fun M1 =>
  fm_bi (fX9_in n M1 l1 0 9999) fun r2 M3 =>
  if r2 = 0 then
    some ((-1), M3)
  else
    fm_bi (fX9_in n M3 l2 0 20) fun r7 M8 =>
    if r7 = 0 then
      some ((-1), M8)
    else
      if l3 = (-1) then
        fX9_inLots_41 n M8 l1 l2 l3
      else
        fm_bi (fX9_isTown n M8 l3) fun r13 M14 =>
        if r13 = 0 then
          some ((-1), M14)
        else
          fX9_inLots_41 n M14 l1 l2 l3
theorem hdX9_inLots : yX9_inLots.cls = RX9 ∧ yX9_inLots.cls ≠ "java/lang/invoke/MethodHandle" ∧ yX9_inLots.cls ≠ "java/lang/invoke/VarHandle" ∧ (parseMethodDescriptor yX9_inLots.desc).map (fun d => d.parameters.length) = some 3 := by decide +kernel
set_option maxHeartbeats 4000000 in
theorem wX9_inLots_51 {X : fm_X} {D : va_G} {dA : Nat → ClassId} {ad : Nat → Nat} {n : Nat}  {r : Int32} (F : fm_F X (YM D dA ad) cX9_inLots 6 RX9 rmX9_inLots) {M' : fm_M} (E : fm_E X (YM D dA ad) (some (.int r)) M' (some .int)) : ∀ (k : Nat) (M : fm_M) (l1 : Int32) (l2 : Int32) (l3 : Int32) (l4 : Int32) (l5 : Int32), fX9_inLots_51 n k M l1 l2 l3 l4 l5 = some (r, M') → fm_G X (YM D dA ad) (0, 0) 6 M 51 [(0, .ref (ad 0)), (1, .int l1), (2, .int l2), (3, .int l3), (4, .int l4), (5, .int l5)] [] := by
  intro k
  induction k with
  | zero =>
    intro M l1 l2 l3 l4 l5 hf
    rw [fX9_inLots_51] at hf
    cases hf
  | succ k ih =>
    intro M l1 l2 l3 l4 l5 hf
    rw [fX9_inLots_51] at hf
    refine fm_iload (pc := 51) F dX9_inLots_51 5 rfl ?_
    refine fm_iload_n (pc := 53) F dX9_inLots_53 2 rfl ?_
    refine fm_icmp_ge (tgt := 84) (pc := 54) F dX9_inLots_54 (by decide) (fun c1 => ?_) (fun c1 => ?_)
    · replace hf := fm_ip c1 hf
      refine fm_iload_n (pc := 84) F dX9_inLots_84 3 rfl ?_
      refine fm_iconst (v := (-1)) (pc := 85) F dX9_inLots_85 (by decide) ?_
      refine fm_icmp_ne (tgt := 94) (pc := 86) F dX9_inLots_86 (by decide) (fun c2 => ?_) (fun c2 => ?_)
      · replace hf := fm_in c2 hf
        refine fm_aload_n (pc := 94) F dX9_inLots_94 0 rfl ?_
        refine fm_get (v := .ref (ad 12)) (pc := 95) F (ci := 9) (T := TX9) (n := 29) rfl in_X9 19 (fm_lt rfl) dX9_inLots_95 q814 0 (fm_lt rfl) rfl rfl ?_
        refine fm_iconst (v := 2) (pc := 98) F dX9_inLots_98 (by decide) ?_
        refine fm_iload_n (pc := 99) F dX9_inLots_99 3 rfl ?_
        refine fm_iadd (pc := 100) F dX9_inLots_100 ?_
        obtain ⟨b3, hf⟩ := fm_b_inv hf
        refine fm_iald (pc := 101) F dX9_inLots_101 12 (fm_lt rfl) rfl b3 ?_
        exact fm_iret (pc := 102) F E hf dX9_inLots_102
      · replace hf := fm_ip c2 hf
        refine fm_iload (pc := 89) F dX9_inLots_89 4 rfl ?_
        refine fm_goto (tgt := 102) (pc := 91) F dX9_inLots_91 (by decide) ?_
        exact fm_iret (pc := 102) F E hf dX9_inLots_102
    · replace hf := fm_in c1 hf
      refine fm_iload (pc := 57) F dX9_inLots_57 4 rfl ?_
      refine fm_aload_n (pc := 59) F dX9_inLots_59 0 rfl ?_
      refine fm_aload_n (pc := 60) F dX9_inLots_60 0 rfl ?_
      refine fm_get (v := .ref (ad 12)) (pc := 61) F (ci := 9) (T := TX9) (n := 29) rfl in_X9 19 (fm_lt rfl) dX9_inLots_61 q814 0 (fm_lt rfl) rfl rfl ?_
      refine fm_iload_n (pc := 64) F dX9_inLots_64 1 rfl ?_
      refine fm_iload (pc := 65) F dX9_inLots_65 5 rfl ?_
      refine fm_iadd (pc := 67) F dX9_inLots_67 ?_
      refine fm_sipush (v := 10000) (pc := 68) F dX9_inLots_68 (by decide) ?_
      refine fm_irem (pc := 71) F dX9_inLots_71 (by decide) ?_
      refine fm_topi (fun x4 ex4 => ?_)
      replace hf := fm_let_inv ex4 hf
      obtain ⟨r5, M6, h7, hf⟩ := fm_bi_inv hf
      refine fm_callV (As := [.ref (ad 12), .int x4]) (rest := [.int l4]) (pc := 72) F (ci := 9) 0 (fm_lt rfl) rfl rfl (mX9_drawn (Or.inr rfl) F.inj h7) q970 q972 qs29 q50 q973 ⟨rfl, rfl⟩ hdX9_drawn ⟨fm_le rfl, fm_le rfl, Nat.zero_le _, Nat.zero_le _⟩ rfl rfl (fm_le rfl) dX9_inLots_72 ?_
      refine fm_iadd (pc := 75) F dX9_inLots_75 ?_
      refine fm_istore (lv' := [(4, .int (l4 + r5)), (0, .ref (ad 0)), (1, .int l1), (2, .int l2), (3, .int l3), (5, .int l5)]) (pc := 76) F dX9_inLots_76 (fm_lt rfl) rfl ?_
      refine fm_iinc (v := (l5 + 1)) (lv' := [(5, .int (l5 + 1)), (4, .int (l4 + r5)), (0, .ref (ad 0)), (1, .int l1), (2, .int l2), (3, .int l3)]) (pc := 78) F dX9_inLots_78 5 rfl rfl (fm_lt rfl) rfl ?_
      refine fm_goto (tgt := 51) (pc := 81) F dX9_inLots_81 (by decide) ?_
      refine fm_pick [2, 3, 4, 5, 1, 0] rfl ?_
      exact ih _ _ _ _ _ _ hf
set_option maxHeartbeats 4000000 in
theorem wX9_inLots_41 {X : fm_X} {D : va_G} {dA : Nat → ClassId} {ad : Nat → Nat} {n : Nat}  {r : Int32} (F : fm_F X (YM D dA ad) cX9_inLots 6 RX9 rmX9_inLots) {M' : fm_M} (E : fm_E X (YM D dA ad) (some (.int r)) M' (some .int)) : ∀ (M : fm_M) (l1 : Int32) (l2 : Int32) (l3 : Int32), fX9_inLots_41 n M l1 l2 l3 = some (r, M') → fm_G X (YM D dA ad) (0, 0) 6 M 41 [(0, .ref (ad 0)), (1, .int l1), (2, .int l2), (3, .int l3)] [] := by
  intro M l1 l2 l3 hf
  unfold fX9_inLots_41 at hf
  refine fm_aload_n (pc := 41) F dX9_inLots_41 0 rfl ?_
  obtain ⟨M2, h3, hf⟩ := fm_bv_inv hf
  refine fm_callV (As := []) (rest := []) (pc := 42) F (ci := 9) 0 (fm_lt rfl) rfl rfl (mX9_asNow F.inj h3) q1002 q1004 qs32 q50 q1005 ⟨rfl, rfl⟩ hdX9_asNow ⟨fm_le rfl, fm_le rfl, Nat.zero_le _, Nat.zero_le _⟩ rfl rfl (fm_le rfl) dX9_inLots_42 ?_
  refine fm_iconst (v := 0) (pc := 45) F dX9_inLots_45 (by decide) ?_
  refine fm_istore (lv' := [(4, .int 0), (0, .ref (ad 0)), (1, .int l1), (2, .int l2), (3, .int l3)]) (pc := 46) F dX9_inLots_46 (fm_lt rfl) rfl ?_
  refine fm_iconst (v := 0) (pc := 48) F dX9_inLots_48 (by decide) ?_
  refine fm_istore (lv' := [(5, .int 0), (4, .int 0), (0, .ref (ad 0)), (1, .int l1), (2, .int l2), (3, .int l3)]) (pc := 49) F dX9_inLots_49 (fm_lt rfl) rfl ?_
  refine fm_pick [2, 3, 4, 5, 1, 0] rfl ?_
  exact wX9_inLots_51 F E n _ _ _ _ _ _ hf
set_option maxHeartbeats 4000000 in
theorem mX9_inLots {l : Launch} {D : va_G} {dA : Nat → ClassId} {ad : Nat → Nat} {n : Nat}  (inj : ∀ i j, i < 20 → j < 20 → ad i = ad j → i = j) {M M' : fm_M} {l1 : Int32} {l2 : Int32} {l3 : Int32} {r : Int32} (hf : fX9_inLots n M l1 l2 l3 = some (r, M')) : fm_C l yX9_inLots (ws_ yX9_inLots cX9_inLots 6 (some .int)) rmX9_inLots (YM D dA ad) [.ref (ad 0), .int l1, .int l2, .int l3] M (some (.int r)) M' := by
  refine fm_enter (by decide) rfl (fm_le rfl) inj ?_
  intro X hXl F E
  subst hXl
  unfold fX9_inLots at hf
  show fm_G X (YM D dA ad) (0, 0) 6 M 0 [(0, .ref (ad 0)), (1, .int l1), (2, .int l2), (3, .int l3)] []
  refine fm_aload_n (pc := 0) F dX9_inLots_0 0 rfl ?_
  refine fm_iconst (v := 0) (pc := 1) F dX9_inLots_1 (by decide) ?_
  refine fm_putI (v := 0) (pc := 2) F clX9 0 (fm_lt rfl) dX9_inLots_2 q795 rfl rfl 0 (fm_lt rfl) rfl (fm_lt rfl) rfl ?_
  refine fm_nameM (fun M1 eM1 => ?_)
  replace hf := fm_let_inv eM1 hf
  refine fm_iload_n (pc := 5) F dX9_inLots_5 1 rfl ?_
  refine fm_iconst (v := 0) (pc := 6) F dX9_inLots_6 (by decide) ?_
  refine fm_sipush (v := 9999) (pc := 7) F dX9_inLots_7 (by decide) ?_
  obtain ⟨r2, M3, h4, hf⟩ := fm_bi_inv hf
  refine fm_callS (As := [.int l1, .int 0, .int 9999]) (rest := []) (pc := 10) F (mX9_in F.inj h4) q887 q888 q50 q889 ⟨rfl, rfl⟩ hdX9_in.2 ⟨fm_le rfl, fm_le rfl, Nat.zero_le _, Nat.zero_le _⟩ rfl rfl (fm_le rfl) dX9_inLots_10 ?_
  refine fm_if_eq (tgt := 39) (pc := 13) F dX9_inLots_13 (by decide) (fun c6 => ?_) (fun c6 => ?_)
  · replace hf := fm_ip c6 hf
    refine fm_iconst (v := (-1)) (pc := 39) F dX9_inLots_39 (by decide) ?_
    exact fm_iret (pc := 40) F E hf dX9_inLots_40
  · replace hf := fm_in c6 hf
    refine fm_iload_n (pc := 16) F dX9_inLots_16 2 rfl ?_
    refine fm_iconst (v := 0) (pc := 17) F dX9_inLots_17 (by decide) ?_
    refine fm_bipush (v := 20) (pc := 18) F dX9_inLots_18 (by decide) ?_
    obtain ⟨r7, M8, h9, hf⟩ := fm_bi_inv hf
    refine fm_callS (As := [.int l2, .int 0, .int 20]) (rest := []) (pc := 20) F (mX9_in F.inj h9) q887 q888 q50 q889 ⟨rfl, rfl⟩ hdX9_in.2 ⟨fm_le rfl, fm_le rfl, Nat.zero_le _, Nat.zero_le _⟩ rfl rfl (fm_le rfl) dX9_inLots_20 ?_
    refine fm_if_eq (tgt := 39) (pc := 23) F dX9_inLots_23 (by decide) (fun c11 => ?_) (fun c11 => ?_)
    · replace hf := fm_ip c11 hf
      refine fm_iconst (v := (-1)) (pc := 39) F dX9_inLots_39 (by decide) ?_
      exact fm_iret (pc := 40) F E hf dX9_inLots_40
    · replace hf := fm_in c11 hf
      refine fm_iload_n (pc := 26) F dX9_inLots_26 3 rfl ?_
      refine fm_iconst (v := (-1)) (pc := 27) F dX9_inLots_27 (by decide) ?_
      refine fm_icmp_eq (tgt := 41) (pc := 28) F dX9_inLots_28 (by decide) (fun c12 => ?_) (fun c12 => ?_)
      · replace hf := fm_ip c12 hf
        exact wX9_inLots_41 F E _ _ _ _ hf
      · replace hf := fm_in c12 hf
        refine fm_aload_n (pc := 31) F dX9_inLots_31 0 rfl ?_
        refine fm_iload_n (pc := 32) F dX9_inLots_32 3 rfl ?_
        obtain ⟨r13, M14, h15, hf⟩ := fm_bi_inv hf
        refine fm_callV (As := [.int l3]) (rest := []) (pc := 33) F (ci := 9) 0 (fm_lt rfl) rfl rfl (mX9_isTown F.inj h15) q931 q933 qs25 q50 q934 ⟨rfl, rfl⟩ hdX9_isTown ⟨fm_le rfl, fm_le rfl, Nat.zero_le _, Nat.zero_le _⟩ rfl rfl (fm_le rfl) dX9_inLots_33 ?_
        refine fm_if_ne (tgt := 41) (pc := 36) F dX9_inLots_36 (by decide) (fun c17 => ?_) (fun c17 => ?_)
        · replace hf := fm_in c17 hf
          exact wX9_inLots_41 F E _ _ _ _ hf
        · replace hf := fm_ip c17 hf
          refine fm_iconst (v := (-1)) (pc := 39) F dX9_inLots_39 (by decide) ?_
          exact fm_iret (pc := 40) F E hf dX9_inLots_40
abbrev rmX9_cost : Room := { frames := 3, cells := 0, slots := 0, locals := 107 }
def fX9_cost_27 (n : Nat) : Nat → fm_M → Int32 → Int32 → Option (Int32 × fm_M)
  | 0, _, _, _ => none
  | k + 1, M, l2, l3 =>
    if (M.1 2 0) ≤ l3 then
      if l2 < 1000000 then
        some (l2, M)
      else
        some ((-9), M)
    else
      fm_b l3 6 <|
      fm_b ((6 * (M.1 18 l3.toNatClampNeg)) + l3) 36 <|
      fm_let (M.1 10 ((6 * (M.1 18 l3.toNatClampNeg)) + l3).toNatClampNeg) fun x5 =>
      if 1000000 ≤ x5 then
        fX9_cost_27 n k M 1000000 (l3 + 1)
      else
        if l2 < 1000000 then
          fm_b l3 6 <|
          fm_b (2 + (M.1 18 l3.toNatClampNeg)) 56 <|
          fm_b (M.1 11 (2 + (M.1 18 l3.toNatClampNeg)).toNatClampNeg) 12 <|
          fm_let (M.1 4 (M.1 11 (2 + (M.1 18 l3.toNatClampNeg)).toNatClampNeg).toNatClampNeg) fun x11 =>
          fm_let (l2 + (x11 * x5)) fun x12 =>
          fX9_cost_27 n k M x12 (l3 + 1)
        else
          fX9_cost_27 n k M 1000000 (l3 + 1)
def fX9_cost (n : Nat) (M : fm_M) (l1 : Int32) : Option (Int32 × fm_M) :=
  fm_let (fm_wr M 0 0 0) fun M1 =>
  fm_bi (fX9_in n M1 l1 0 9999) fun r2 M3 =>
  if r2 = 0 then
    some ((-1), M3)
  else
    fm_bv (fX9_draws n M3 l1) fun M8 =>
    fX9_cost_27 n n M8 0 0
theorem hdX9_cost : yX9_cost.cls = RX9 ∧ yX9_cost.cls ≠ "java/lang/invoke/MethodHandle" ∧ yX9_cost.cls ≠ "java/lang/invoke/VarHandle" ∧ (parseMethodDescriptor yX9_cost.desc).map (fun d => d.parameters.length) = some 1 := by decide +kernel
set_option maxHeartbeats 4000000 in
theorem wX9_cost_27 {X : fm_X} {D : va_G} {dA : Nat → ClassId} {ad : Nat → Nat} {n : Nat}  {r : Int32} (F : fm_F X (YM D dA ad) cX9_cost 5 RX9 rmX9_cost) {M' : fm_M} (E : fm_E X (YM D dA ad) (some (.int r)) M' (some .int)) : ∀ (k : Nat) (M : fm_M) (l2 : Int32) (l3 : Int32), fX9_cost_27 n k M l2 l3 = some (r, M') → fm_G X (YM D dA ad) (0, 0) 5 M 27 [(0, .ref (ad 0)), (2, .int l2), (3, .int l3)] [] := by
  intro k
  induction k with
  | zero =>
    intro M l2 l3 hf
    rw [fX9_cost_27] at hf
    cases hf
  | succ k ih =>
    intro M l2 l3 hf
    rw [fX9_cost_27] at hf
    refine fm_iload_n (pc := 27) F dX9_cost_27 2 rfl ?_
    refine fm_aload_n (pc := 28) F dX9_cost_28 0 rfl ?_
    refine fm_get (v := .ref (ad 2)) (pc := 29) F (ci := 9) (T := TX9) (n := 29) rfl in_X9 9 (fm_lt rfl) dX9_cost_29 q804 0 (fm_lt rfl) rfl rfl ?_
    refine fm_iconst (v := 0) (pc := 32) F dX9_cost_32 (by decide) ?_
    refine fm_ialdK (pc := 33) F dX9_cost_33 2 (fm_lt rfl) rfl 0 (fm_ok (by decide)) rfl ?_
    refine fm_icmp_ge (tgt := 103) (pc := 34) F dX9_cost_34 (by decide) (fun c1 => ?_) (fun c1 => ?_)
    · replace hf := fm_ip c1 hf
      refine fm_iload_n (pc := 103) F dX9_cost_103 1 rfl ?_
      refine fm_ldc (pc := 104) F dX9_cost_104 q926 ?_
      refine fm_icmp_lt (tgt := 114) (pc := 106) F dX9_cost_106 (by decide) (fun c2 => ?_) (fun c2 => ?_)
      · replace hf := fm_ip c2 hf
        refine fm_iload_n (pc := 114) F dX9_cost_114 1 rfl ?_
        exact fm_iret (pc := 115) F E hf dX9_cost_115
      · replace hf := fm_in c2 hf
        refine fm_bipush (v := (-9)) (pc := 109) F dX9_cost_109 (by decide) ?_
        refine fm_goto (tgt := 115) (pc := 111) F dX9_cost_111 (by decide) ?_
        exact fm_iret (pc := 115) F E hf dX9_cost_115
    · replace hf := fm_in c1 hf
      refine fm_aload_n (pc := 37) F dX9_cost_37 0 rfl ?_
      refine fm_get (v := .ref (ad 10)) (pc := 38) F (ci := 9) (T := TX9) (n := 29) rfl in_X9 17 (fm_lt rfl) dX9_cost_38 q812 0 (fm_lt rfl) rfl rfl ?_
      refine fm_bipush (v := 6) (pc := 41) F dX9_cost_41 (by decide) ?_
      refine fm_aload_n (pc := 43) F dX9_cost_43 0 rfl ?_
      refine fm_get (v := .ref (ad 18)) (pc := 44) F (ci := 9) (T := TX9) (n := 29) rfl in_X9 27 (fm_lt rfl) dX9_cost_44 q822 0 (fm_lt rfl) rfl rfl ?_
      refine fm_iload_n (pc := 47) F dX9_cost_47 2 rfl ?_
      obtain ⟨b3, hf⟩ := fm_b_inv hf
      refine fm_iald (pc := 48) F dX9_cost_48 18 (fm_lt rfl) rfl b3 ?_
      refine fm_imul (pc := 49) F dX9_cost_49 ?_
      refine fm_iload_n (pc := 50) F dX9_cost_50 2 rfl ?_
      refine fm_iadd (pc := 51) F dX9_cost_51 ?_
      obtain ⟨b4, hf⟩ := fm_b_inv hf
      refine fm_iald (pc := 52) F dX9_cost_52 10 (fm_lt rfl) rfl b4 ?_
      refine fm_topi (fun x5 ex5 => ?_)
      replace hf := fm_let_inv ex5 hf
      refine fm_istore (lv' := [(4, .int x5), (0, .ref (ad 0)), (2, .int l2), (3, .int l3)]) (pc := 53) F dX9_cost_53 (fm_lt rfl) rfl ?_
      refine fm_iload (pc := 55) F dX9_cost_55 0 rfl ?_
      refine fm_ldc (pc := 57) F dX9_cost_57 q926 ?_
      refine fm_icmp_ge (tgt := 68) (pc := 59) F dX9_cost_59 (by decide) (fun c6 => ?_) (fun c6 => ?_)
      · replace hf := fm_ip c6 hf
        refine fm_ldc (pc := 68) F dX9_cost_68 q926 ?_
        refine fm_goto (tgt := 96) (pc := 70) F dX9_cost_70 (by decide) ?_
        refine fm_istore_n (lv' := [(2, .int 1000000), (4, .int x5), (0, .ref (ad 0)), (3, .int l3)]) (pc := 96) F dX9_cost_96 rfl (fm_lt rfl) rfl ?_
        refine fm_iinc (v := (l3 + 1)) (lv' := [(3, .int (l3 + 1)), (2, .int 1000000), (4, .int x5), (0, .ref (ad 0))]) (pc := 97) F dX9_cost_97 3 rfl rfl (fm_lt rfl) rfl ?_
        refine fm_goto (tgt := 27) (pc := 100) F dX9_cost_100 (by decide) ?_
        refine fm_pick [3, 1, 0] rfl ?_
        exact ih _ _ _ hf
      · replace hf := fm_in c6 hf
        refine fm_iload_n (pc := 62) F dX9_cost_62 2 rfl ?_
        refine fm_ldc (pc := 63) F dX9_cost_63 q926 ?_
        refine fm_icmp_lt (tgt := 73) (pc := 65) F dX9_cost_65 (by decide) (fun c7 => ?_) (fun c7 => ?_)
        · replace hf := fm_ip c7 hf
          refine fm_iload_n (pc := 73) F dX9_cost_73 2 rfl ?_
          refine fm_aload_n (pc := 74) F dX9_cost_74 1 rfl ?_
          refine fm_get (v := .ref (ad 4)) (pc := 75) F (ci := 9) (T := TX9) (n := 29) rfl in_X9 11 (fm_lt rfl) dX9_cost_75 q806 0 (fm_lt rfl) rfl rfl ?_
          refine fm_aload_n (pc := 78) F dX9_cost_78 1 rfl ?_
          refine fm_get (v := .ref (ad 11)) (pc := 79) F (ci := 9) (T := TX9) (n := 29) rfl in_X9 18 (fm_lt rfl) dX9_cost_79 q813 0 (fm_lt rfl) rfl rfl ?_
          refine fm_iconst (v := 2) (pc := 82) F dX9_cost_82 (by decide) ?_
          refine fm_aload_n (pc := 83) F dX9_cost_83 1 rfl ?_
          refine fm_get (v := .ref (ad 18)) (pc := 84) F (ci := 9) (T := TX9) (n := 29) rfl in_X9 27 (fm_lt rfl) dX9_cost_84 q822 0 (fm_lt rfl) rfl rfl ?_
          refine fm_iload_n (pc := 87) F dX9_cost_87 3 rfl ?_
          obtain ⟨b8, hf⟩ := fm_b_inv hf
          refine fm_iald (pc := 88) F dX9_cost_88 18 (fm_lt rfl) rfl b8 ?_
          refine fm_iadd (pc := 89) F dX9_cost_89 ?_
          obtain ⟨b9, hf⟩ := fm_b_inv hf
          refine fm_iald (pc := 90) F dX9_cost_90 11 (fm_lt rfl) rfl b9 ?_
          obtain ⟨b10, hf⟩ := fm_b_inv hf
          refine fm_iald (pc := 91) F dX9_cost_91 4 (fm_lt rfl) rfl b10 ?_
          refine fm_topi (fun x11 ex11 => ?_)
          replace hf := fm_let_inv ex11 hf
          refine fm_iload (pc := 92) F dX9_cost_92 0 rfl ?_
          refine fm_imul (pc := 94) F dX9_cost_94 ?_
          refine fm_iadd (pc := 95) F dX9_cost_95 ?_
          refine fm_topi (fun x12 ex12 => ?_)
          replace hf := fm_let_inv ex12 hf
          refine fm_istore_n (lv' := [(2, .int x12), (4, .int x5), (0, .ref (ad 0)), (3, .int l3)]) (pc := 96) F dX9_cost_96 rfl (fm_lt rfl) rfl ?_
          refine fm_iinc (v := (l3 + 1)) (lv' := [(3, .int (l3 + 1)), (2, .int x12), (4, .int x5), (0, .ref (ad 0))]) (pc := 97) F dX9_cost_97 3 rfl rfl (fm_lt rfl) rfl ?_
          refine fm_goto (tgt := 27) (pc := 100) F dX9_cost_100 (by decide) ?_
          refine fm_pick [3, 1, 0] rfl ?_
          exact ih _ _ _ hf
        · replace hf := fm_in c7 hf
          refine fm_ldc (pc := 68) F dX9_cost_68 q926 ?_
          refine fm_goto (tgt := 96) (pc := 70) F dX9_cost_70 (by decide) ?_
          refine fm_istore_n (lv' := [(2, .int 1000000), (4, .int x5), (0, .ref (ad 0)), (3, .int l3)]) (pc := 96) F dX9_cost_96 rfl (fm_lt rfl) rfl ?_
          refine fm_iinc (v := (l3 + 1)) (lv' := [(3, .int (l3 + 1)), (2, .int 1000000), (4, .int x5), (0, .ref (ad 0))]) (pc := 97) F dX9_cost_97 3 rfl rfl (fm_lt rfl) rfl ?_
          refine fm_goto (tgt := 27) (pc := 100) F dX9_cost_100 (by decide) ?_
          refine fm_pick [3, 1, 0] rfl ?_
          exact ih _ _ _ hf
set_option maxHeartbeats 4000000 in
theorem mX9_cost {l : Launch} {D : va_G} {dA : Nat → ClassId} {ad : Nat → Nat} {n : Nat}  (inj : ∀ i j, i < 20 → j < 20 → ad i = ad j → i = j) {M M' : fm_M} {l1 : Int32} {r : Int32} (hf : fX9_cost n M l1 = some (r, M')) : fm_C l yX9_cost (ws_ yX9_cost cX9_cost 5 (some .int)) rmX9_cost (YM D dA ad) [.ref (ad 0), .int l1] M (some (.int r)) M' := by
  refine fm_enter (by decide) rfl (fm_le rfl) inj ?_
  intro X hXl F E
  subst hXl
  unfold fX9_cost at hf
  show fm_G X (YM D dA ad) (0, 0) 5 M 0 [(0, .ref (ad 0)), (1, .int l1)] []
  refine fm_aload_n (pc := 0) F dX9_cost_0 0 rfl ?_
  refine fm_iconst (v := 0) (pc := 1) F dX9_cost_1 (by decide) ?_
  refine fm_putI (v := 0) (pc := 2) F clX9 0 (fm_lt rfl) dX9_cost_2 q795 rfl rfl 0 (fm_lt rfl) rfl (fm_lt rfl) rfl ?_
  refine fm_nameM (fun M1 eM1 => ?_)
  replace hf := fm_let_inv eM1 hf
  refine fm_iload_n (pc := 5) F dX9_cost_5 1 rfl ?_
  refine fm_iconst (v := 0) (pc := 6) F dX9_cost_6 (by decide) ?_
  refine fm_sipush (v := 9999) (pc := 7) F dX9_cost_7 (by decide) ?_
  obtain ⟨r2, M3, h4, hf⟩ := fm_bi_inv hf
  refine fm_callS (As := [.int l1, .int 0, .int 9999]) (rest := []) (pc := 10) F (mX9_in F.inj h4) q887 q888 q50 q889 ⟨rfl, rfl⟩ hdX9_in.2 ⟨fm_le rfl, fm_le rfl, Nat.zero_le _, Nat.zero_le _⟩ rfl rfl (fm_le rfl) dX9_cost_10 ?_
  refine fm_if_ne (tgt := 18) (pc := 13) F dX9_cost_13 (by decide) (fun c6 => ?_) (fun c6 => ?_)
  · replace hf := fm_in c6 hf
    refine fm_aload_n (pc := 18) F dX9_cost_18 0 rfl ?_
    refine fm_iload_n (pc := 19) F dX9_cost_19 1 rfl ?_
    obtain ⟨M8, h9, hf⟩ := fm_bv_inv hf
    refine fm_callV (As := [.int l1]) (rest := []) (pc := 20) F (ci := 9) 0 (fm_lt rfl) rfl rfl (mX9_draws F.inj h9) q974 q976 qs30 q50 q977 ⟨rfl, rfl⟩ hdX9_draws ⟨fm_le rfl, fm_le rfl, Nat.zero_le _, Nat.zero_le _⟩ rfl rfl (fm_le rfl) dX9_cost_20 ?_
    refine fm_iconst (v := 0) (pc := 23) F dX9_cost_23 (by decide) ?_
    refine fm_istore_n (lv' := [(2, .int 0), (0, .ref (ad 0)), (1, .int l1)]) (pc := 24) F dX9_cost_24 rfl (fm_lt rfl) rfl ?_
    refine fm_iconst (v := 0) (pc := 25) F dX9_cost_25 (by decide) ?_
    refine fm_istore_n (lv' := [(3, .int 0), (2, .int 0), (0, .ref (ad 0)), (1, .int l1)]) (pc := 26) F dX9_cost_26 rfl (fm_lt rfl) rfl ?_
    refine fm_pick [2, 1, 0] rfl ?_
    exact wX9_cost_27 F E n _ _ _ hf
  · replace hf := fm_ip c6 hf
    refine fm_iconst (v := (-1)) (pc := 16) F dX9_cost_16 (by decide) ?_
    exact fm_iret (pc := 17) F E hf dX9_cost_17
abbrev rmX9_home : Room := { frames := 3, cells := 0, slots := 0, locals := 102 }
def fX9_home_102 (n : Nat) (k27 : fm_M → Int32 → Int32 → Int32 → Int32 → Int32 → Option (Int32 × fm_M)) : Nat → fm_M → Int32 → Int32 → Int32 → Int32 → Int32 → Int32 → Option (Int32 × fm_M)
  | 0, _, _, _, _, _, _, _ => none
  | k + 1, M, l1, l2, l3, l4, l5, l6 =>
    if ((l2 >>> (l6 &&& 31)) &&& 1) = 0 then
      fm_let (l2 ||| (1 <<< (l6 &&& 31))) fun x2 =>
      fm_b (2 + l6) 56 <|
      fm_let (M.1 11 (2 + l6).toNatClampNeg) fun x4 =>
      fX9_home_102 n k27 k M l1 x2 l3 l4 l5 x4
    else
      k27 M l1 l2 l3 l4 (l5 + 1)
def fX9_home_79 (n : Nat) (k27 : fm_M → Int32 → Int32 → Int32 → Int32 → Int32 → Option (Int32 × fm_M)) (M : fm_M) (l1 : Int32) (l2 : Int32) (l3 : Int32) (l5 : Int32) (s0 : Int32) : Option (Int32 × fm_M) :=
  if ((l2 >>> (l5 &&& 31)) &&& 1) = 0 then
    fX9_home_102 n k27 n M l1 l2 (l3 + 0) s0 l5 l5
  else
    fX9_home_102 n k27 n M l1 l2 (l3 + 1) s0 l5 l5
def fX9_home_77 (n : Nat) (k27 : fm_M → Int32 → Int32 → Int32 → Int32 → Int32 → Option (Int32 × fm_M)) (M : fm_M) (l1 : Int32) (l2 : Int32) (l3 : Int32) (l4 : Int32) (l5 : Int32) : Option (Int32 × fm_M) :=
  fX9_home_79 n k27 M l1 l2 l3 l5 l4
def fX9_home_27 (n : Nat) : Nat → fm_M → Int32 → Int32 → Int32 → Int32 → Int32 → Option (Int32 × fm_M)
  | 0, _, _, _, _, _, _ => none
  | k + 1, M, l1, l2, l3, l4, l5 =>
    if (M.1 2 0) ≤ l5 then
      if l1 = 0 then
        some (l3, M)
      else
        some (l4, M)
    else
      if l4 = (-9) then
        fm_b (2 + l5) 56 <|
        if (M.1 11 (2 + l5).toNatClampNeg) = l5 then
          fX9_home_77 n (fX9_home_27 n k) M l1 l2 l3 l4 l5
        else
          fm_bi (fX9_hangs n 11 M l5) fun r6 M7 =>
          fX9_home_79 n (fX9_home_27 n k) M7 l1 l2 l3 l5 ((10 * l5) + r6)
      else
        fX9_home_77 n (fX9_home_27 n k) M l1 l2 l3 l4 l5
def fX9_home (n : Nat) (M : fm_M) (l1 : Int32) : Option (Int32 × fm_M) :=
  fm_let (fm_wr M 0 0 0) fun M1 =>
  fm_bi (fX9_in n M1 l1 0 1) fun r2 M3 =>
  if r2 = 0 then
    some ((-1), M3)
  else
    fX9_home_27 n n M3 l1 0 0 (-9) 0
theorem hdX9_home : yX9_home.cls = RX9 ∧ yX9_home.cls ≠ "java/lang/invoke/MethodHandle" ∧ yX9_home.cls ≠ "java/lang/invoke/VarHandle" ∧ (parseMethodDescriptor yX9_home.desc).map (fun d => d.parameters.length) = some 1 := by decide +kernel
set_option maxHeartbeats 4000000 in
theorem wX9_home_102 {X : fm_X} {D : va_G} {dA : Nat → ClassId} {ad : Nat → Nat} {n : Nat}  {r : Int32} (F : fm_F X (YM D dA ad) cX9_home 7 RX9 rmX9_home) {M' : fm_M} (E : fm_E X (YM D dA ad) (some (.int r)) M' (some .int)) {k27 : fm_M → Int32 → Int32 → Int32 → Int32 → Int32 → Option (Int32 × fm_M)} (hk27 : ∀ (M : fm_M) (l1 : Int32) (l2 : Int32) (l3 : Int32) (l4 : Int32) (l5 : Int32), k27 M l1 l2 l3 l4 l5 = some (r, M') → fm_G X (YM D dA ad) (0, 0) 7 M 27 [(0, .ref (ad 0)), (1, .int l1), (2, .int l2), (3, .int l3), (4, .int l4), (5, .int l5)] []) : ∀ (k : Nat) (M : fm_M) (l1 : Int32) (l2 : Int32) (l3 : Int32) (l4 : Int32) (l5 : Int32) (l6 : Int32), fX9_home_102 n k27 k M l1 l2 l3 l4 l5 l6 = some (r, M') → fm_G X (YM D dA ad) (0, 0) 7 M 102 [(0, .ref (ad 0)), (1, .int l1), (2, .int l2), (3, .int l3), (4, .int l4), (5, .int l5), (6, .int l6)] [] := by
  intro k
  induction k with
  | zero =>
    intro M l1 l2 l3 l4 l5 l6 hf
    rw [fX9_home_102] at hf
    cases hf
  | succ k ih =>
    intro M l1 l2 l3 l4 l5 l6 hf
    rw [fX9_home_102] at hf
    refine fm_iload_n (pc := 102) F dX9_home_102 2 rfl ?_
    refine fm_iload (pc := 103) F dX9_home_103 6 rfl ?_
    refine fm_ishr (pc := 105) F dX9_home_105 ?_
    refine fm_iconst (v := 1) (pc := 106) F dX9_home_106 (by decide) ?_
    refine fm_iand (pc := 107) F dX9_home_107 ?_
    refine fm_if_ne (tgt := 132) (pc := 108) F dX9_home_108 (by decide) (fun c1 => ?_) (fun c1 => ?_)
    · replace hf := fm_in c1 hf
      refine fm_iinc (v := (l5 + 1)) (lv' := [(5, .int (l5 + 1)), (0, .ref (ad 0)), (1, .int l1), (2, .int l2), (3, .int l3), (4, .int l4), (6, .int l6)]) (pc := 132) F dX9_home_132 5 rfl rfl (fm_lt rfl) rfl ?_
      refine fm_goto (tgt := 27) (pc := 135) F dX9_home_135 (by decide) ?_
      refine fm_pick [1, 2, 3, 4, 5, 0] rfl ?_
      exact hk27 _ _ _ _ _ _ hf
    · replace hf := fm_ip c1 hf
      refine fm_iload_n (pc := 111) F dX9_home_111 2 rfl ?_
      refine fm_iconst (v := 1) (pc := 112) F dX9_home_112 (by decide) ?_
      refine fm_iload (pc := 113) F dX9_home_113 6 rfl ?_
      refine fm_ishl (pc := 115) F dX9_home_115 ?_
      refine fm_ior (pc := 116) F dX9_home_116 ?_
      refine fm_topi (fun x2 ex2 => ?_)
      replace hf := fm_let_inv ex2 hf
      refine fm_istore_n (lv' := [(2, .int x2), (0, .ref (ad 0)), (1, .int l1), (3, .int l3), (4, .int l4), (5, .int l5), (6, .int l6)]) (pc := 117) F dX9_home_117 rfl (fm_lt rfl) rfl ?_
      refine fm_aload_n (pc := 118) F dX9_home_118 1 rfl ?_
      refine fm_get (v := .ref (ad 11)) (pc := 119) F (ci := 9) (T := TX9) (n := 29) rfl in_X9 18 (fm_lt rfl) dX9_home_119 q813 0 (fm_lt rfl) rfl rfl ?_
      refine fm_iconst (v := 2) (pc := 122) F dX9_home_122 (by decide) ?_
      refine fm_iload (pc := 123) F dX9_home_123 6 rfl ?_
      refine fm_iadd (pc := 125) F dX9_home_125 ?_
      obtain ⟨b3, hf⟩ := fm_b_inv hf
      refine fm_iald (pc := 126) F dX9_home_126 11 (fm_lt rfl) rfl b3 ?_
      refine fm_topi (fun x4 ex4 => ?_)
      replace hf := fm_let_inv ex4 hf
      refine fm_istore (lv' := [(6, .int x4), (2, .int x2), (0, .ref (ad 0)), (1, .int l1), (3, .int l3), (4, .int l4), (5, .int l5)]) (pc := 127) F dX9_home_127 (fm_lt rfl) rfl ?_
      refine fm_goto (tgt := 102) (pc := 129) F dX9_home_129 (by decide) ?_
      refine fm_pick [2, 3, 1, 4, 5, 6, 0] rfl ?_
      exact ih _ _ _ _ _ _ _ hf
set_option maxHeartbeats 4000000 in
theorem wX9_home_79 {X : fm_X} {D : va_G} {dA : Nat → ClassId} {ad : Nat → Nat} {n : Nat}  {r : Int32} (F : fm_F X (YM D dA ad) cX9_home 7 RX9 rmX9_home) {M' : fm_M} (E : fm_E X (YM D dA ad) (some (.int r)) M' (some .int)) {k27 : fm_M → Int32 → Int32 → Int32 → Int32 → Int32 → Option (Int32 × fm_M)} (hk27 : ∀ (M : fm_M) (l1 : Int32) (l2 : Int32) (l3 : Int32) (l4 : Int32) (l5 : Int32), k27 M l1 l2 l3 l4 l5 = some (r, M') → fm_G X (YM D dA ad) (0, 0) 7 M 27 [(0, .ref (ad 0)), (1, .int l1), (2, .int l2), (3, .int l3), (4, .int l4), (5, .int l5)] []) : ∀ (M : fm_M) (l1 : Int32) (l2 : Int32) (l3 : Int32) (l5 : Int32) (s0 : Int32), fX9_home_79 n k27 M l1 l2 l3 l5 s0 = some (r, M') → fm_G X (YM D dA ad) (0, 0) 7 M 79 [(0, .ref (ad 0)), (1, .int l1), (2, .int l2), (3, .int l3), (5, .int l5)] [.int s0] := by
  intro M l1 l2 l3 l5 s0 hf
  unfold fX9_home_79 at hf
  refine fm_istore (lv' := [(4, .int s0), (0, .ref (ad 0)), (1, .int l1), (2, .int l2), (3, .int l3), (5, .int l5)]) (pc := 79) F dX9_home_79 (fm_lt rfl) rfl ?_
  refine fm_iload_n (pc := 81) F dX9_home_81 4 rfl ?_
  refine fm_iload_n (pc := 82) F dX9_home_82 3 rfl ?_
  refine fm_iload (pc := 83) F dX9_home_83 5 rfl ?_
  refine fm_ishr (pc := 85) F dX9_home_85 ?_
  refine fm_iconst (v := 1) (pc := 86) F dX9_home_86 (by decide) ?_
  refine fm_iand (pc := 87) F dX9_home_87 ?_
  refine fm_if_ne (tgt := 95) (pc := 88) F dX9_home_88 (by decide) (fun c1 => ?_) (fun c1 => ?_)
  · replace hf := fm_in c1 hf
    refine fm_iconst (v := 1) (pc := 95) F dX9_home_95 (by decide) ?_
    refine fm_iadd (pc := 96) F dX9_home_96 ?_
    refine fm_istore_n (lv' := [(3, .int (l3 + 1)), (4, .int s0), (0, .ref (ad 0)), (1, .int l1), (2, .int l2), (5, .int l5)]) (pc := 97) F dX9_home_97 rfl (fm_lt rfl) rfl ?_
    refine fm_iload (pc := 98) F dX9_home_98 5 rfl ?_
    refine fm_istore (lv' := [(6, .int l5), (3, .int (l3 + 1)), (4, .int s0), (0, .ref (ad 0)), (1, .int l1), (2, .int l2), (5, .int l5)]) (pc := 100) F dX9_home_100 (fm_lt rfl) rfl ?_
    refine fm_pick [3, 4, 5, 1, 2, 6, 0] rfl ?_
    exact wX9_home_102 F E hk27 n _ _ _ _ _ _ _ hf
  · replace hf := fm_ip c1 hf
    refine fm_iconst (v := 0) (pc := 91) F dX9_home_91 (by decide) ?_
    refine fm_goto (tgt := 96) (pc := 92) F dX9_home_92 (by decide) ?_
    refine fm_iadd (pc := 96) F dX9_home_96 ?_
    refine fm_istore_n (lv' := [(3, .int (l3 + 0)), (4, .int s0), (0, .ref (ad 0)), (1, .int l1), (2, .int l2), (5, .int l5)]) (pc := 97) F dX9_home_97 rfl (fm_lt rfl) rfl ?_
    refine fm_iload (pc := 98) F dX9_home_98 5 rfl ?_
    refine fm_istore (lv' := [(6, .int l5), (3, .int (l3 + 0)), (4, .int s0), (0, .ref (ad 0)), (1, .int l1), (2, .int l2), (5, .int l5)]) (pc := 100) F dX9_home_100 (fm_lt rfl) rfl ?_
    refine fm_pick [3, 4, 5, 1, 2, 6, 0] rfl ?_
    exact wX9_home_102 F E hk27 n _ _ _ _ _ _ _ hf
set_option maxHeartbeats 4000000 in
theorem wX9_home_77 {X : fm_X} {D : va_G} {dA : Nat → ClassId} {ad : Nat → Nat} {n : Nat}  {r : Int32} (F : fm_F X (YM D dA ad) cX9_home 7 RX9 rmX9_home) {M' : fm_M} (E : fm_E X (YM D dA ad) (some (.int r)) M' (some .int)) {k27 : fm_M → Int32 → Int32 → Int32 → Int32 → Int32 → Option (Int32 × fm_M)} (hk27 : ∀ (M : fm_M) (l1 : Int32) (l2 : Int32) (l3 : Int32) (l4 : Int32) (l5 : Int32), k27 M l1 l2 l3 l4 l5 = some (r, M') → fm_G X (YM D dA ad) (0, 0) 7 M 27 [(0, .ref (ad 0)), (1, .int l1), (2, .int l2), (3, .int l3), (4, .int l4), (5, .int l5)] []) : ∀ (M : fm_M) (l1 : Int32) (l2 : Int32) (l3 : Int32) (l4 : Int32) (l5 : Int32), fX9_home_77 n k27 M l1 l2 l3 l4 l5 = some (r, M') → fm_G X (YM D dA ad) (0, 0) 7 M 77 [(0, .ref (ad 0)), (1, .int l1), (2, .int l2), (3, .int l3), (4, .int l4), (5, .int l5)] [] := by
  intro M l1 l2 l3 l4 l5 hf
  unfold fX9_home_77 at hf
  refine fm_iload (pc := 77) F dX9_home_77 4 rfl ?_
  refine fm_pick [0, 1, 2, 3, 5] rfl ?_
  exact wX9_home_79 F E hk27 _ _ _ _ _ _ hf
set_option maxHeartbeats 4000000 in
theorem wX9_home_27 {X : fm_X} {D : va_G} {dA : Nat → ClassId} {ad : Nat → Nat} {n : Nat}  {r : Int32} (F : fm_F X (YM D dA ad) cX9_home 7 RX9 rmX9_home) {M' : fm_M} (E : fm_E X (YM D dA ad) (some (.int r)) M' (some .int)) : ∀ (k : Nat) (M : fm_M) (l1 : Int32) (l2 : Int32) (l3 : Int32) (l4 : Int32) (l5 : Int32), fX9_home_27 n k M l1 l2 l3 l4 l5 = some (r, M') → fm_G X (YM D dA ad) (0, 0) 7 M 27 [(0, .ref (ad 0)), (1, .int l1), (2, .int l2), (3, .int l3), (4, .int l4), (5, .int l5)] [] := by
  intro k
  induction k with
  | zero =>
    intro M l1 l2 l3 l4 l5 hf
    rw [fX9_home_27] at hf
    cases hf
  | succ k ih =>
    intro M l1 l2 l3 l4 l5 hf
    rw [fX9_home_27] at hf
    refine fm_iload (pc := 27) F dX9_home_27 5 rfl ?_
    refine fm_aload_n (pc := 29) F dX9_home_29 0 rfl ?_
    refine fm_get (v := .ref (ad 2)) (pc := 30) F (ci := 9) (T := TX9) (n := 29) rfl in_X9 9 (fm_lt rfl) dX9_home_30 q804 0 (fm_lt rfl) rfl rfl ?_
    refine fm_iconst (v := 0) (pc := 33) F dX9_home_33 (by decide) ?_
    refine fm_ialdK (pc := 34) F dX9_home_34 2 (fm_lt rfl) rfl 0 (fm_ok (by decide)) rfl ?_
    refine fm_icmp_ge (tgt := 138) (pc := 35) F dX9_home_35 (by decide) (fun c1 => ?_) (fun c1 => ?_)
    · replace hf := fm_ip c1 hf
      refine fm_iload_n (pc := 138) F dX9_home_138 1 rfl ?_
      refine fm_if_ne (tgt := 146) (pc := 139) F dX9_home_139 (by decide) (fun c2 => ?_) (fun c2 => ?_)
      · replace hf := fm_in c2 hf
        refine fm_iload (pc := 146) F dX9_home_146 4 rfl ?_
        exact fm_iret (pc := 148) F E hf dX9_home_148
      · replace hf := fm_ip c2 hf
        refine fm_iload_n (pc := 142) F dX9_home_142 3 rfl ?_
        refine fm_goto (tgt := 148) (pc := 143) F dX9_home_143 (by decide) ?_
        exact fm_iret (pc := 148) F E hf dX9_home_148
    · replace hf := fm_in c1 hf
      refine fm_iload (pc := 38) F dX9_home_38 4 rfl ?_
      refine fm_bipush (v := (-9)) (pc := 40) F dX9_home_40 (by decide) ?_
      refine fm_icmp_ne (tgt := 77) (pc := 42) F dX9_home_42 (by decide) (fun c3 => ?_) (fun c3 => ?_)
      · replace hf := fm_in c3 hf
        exact wX9_home_77 F E ih _ _ _ _ _ _ hf
      · replace hf := fm_ip c3 hf
        refine fm_aload_n (pc := 45) F dX9_home_45 0 rfl ?_
        refine fm_get (v := .ref (ad 11)) (pc := 46) F (ci := 9) (T := TX9) (n := 29) rfl in_X9 18 (fm_lt rfl) dX9_home_46 q813 0 (fm_lt rfl) rfl rfl ?_
        refine fm_iconst (v := 2) (pc := 49) F dX9_home_49 (by decide) ?_
        refine fm_iload (pc := 50) F dX9_home_50 5 rfl ?_
        refine fm_iadd (pc := 52) F dX9_home_52 ?_
        obtain ⟨b4, hf⟩ := fm_b_inv hf
        refine fm_iald (pc := 53) F dX9_home_53 11 (fm_lt rfl) rfl b4 ?_
        refine fm_iload (pc := 54) F dX9_home_54 5 rfl ?_
        refine fm_icmp_eq (tgt := 77) (pc := 56) F dX9_home_56 (by decide) (fun c5 => ?_) (fun c5 => ?_)
        · replace hf := fm_ip c5 hf
          exact wX9_home_77 F E ih _ _ _ _ _ _ hf
        · replace hf := fm_in c5 hf
          refine fm_bipush (v := 10) (pc := 59) F dX9_home_59 (by decide) ?_
          refine fm_iload (pc := 61) F dX9_home_61 5 rfl ?_
          refine fm_imul (pc := 63) F dX9_home_63 ?_
          refine fm_aload_n (pc := 64) F dX9_home_64 0 rfl ?_
          refine fm_get (v := .ref (ad 11)) (pc := 65) F (ci := 9) (T := TX9) (n := 29) rfl in_X9 18 (fm_lt rfl) dX9_home_65 q813 0 (fm_lt rfl) rfl rfl ?_
          refine fm_iload (pc := 68) F dX9_home_68 5 rfl ?_
          obtain ⟨r6, M7, h8, hf⟩ := fm_bi_inv hf
          refine fm_callS (As := [.ref (ad 11), .int l5]) (rest := [.int (10 * l5)]) (pc := 70) F (mX9_hangs (Or.inl rfl) F.inj h8) q935 q936 q50 q937 ⟨rfl, rfl⟩ hdX9_hangs.2 ⟨fm_le rfl, fm_le rfl, Nat.zero_le _, Nat.zero_le _⟩ rfl rfl (fm_le rfl) dX9_home_70 ?_
          refine fm_iadd (pc := 73) F dX9_home_73 ?_
          refine fm_goto (tgt := 79) (pc := 74) F dX9_home_74 (by decide) ?_
          refine fm_pick [0, 1, 2, 3, 5] rfl ?_
          exact wX9_home_79 F E ih _ _ _ _ _ _ hf
set_option maxHeartbeats 4000000 in
theorem mX9_home {l : Launch} {D : va_G} {dA : Nat → ClassId} {ad : Nat → Nat} {n : Nat}  (inj : ∀ i j, i < 20 → j < 20 → ad i = ad j → i = j) {M M' : fm_M} {l1 : Int32} {r : Int32} (hf : fX9_home n M l1 = some (r, M')) : fm_C l yX9_home (ws_ yX9_home cX9_home 7 (some .int)) rmX9_home (YM D dA ad) [.ref (ad 0), .int l1] M (some (.int r)) M' := by
  refine fm_enter (by decide) rfl (fm_le rfl) inj ?_
  intro X hXl F E
  subst hXl
  unfold fX9_home at hf
  show fm_G X (YM D dA ad) (0, 0) 7 M 0 [(0, .ref (ad 0)), (1, .int l1)] []
  refine fm_aload_n (pc := 0) F dX9_home_0 0 rfl ?_
  refine fm_iconst (v := 0) (pc := 1) F dX9_home_1 (by decide) ?_
  refine fm_putI (v := 0) (pc := 2) F clX9 0 (fm_lt rfl) dX9_home_2 q795 rfl rfl 0 (fm_lt rfl) rfl (fm_lt rfl) rfl ?_
  refine fm_nameM (fun M1 eM1 => ?_)
  replace hf := fm_let_inv eM1 hf
  refine fm_iload_n (pc := 5) F dX9_home_5 1 rfl ?_
  refine fm_iconst (v := 0) (pc := 6) F dX9_home_6 (by decide) ?_
  refine fm_iconst (v := 1) (pc := 7) F dX9_home_7 (by decide) ?_
  obtain ⟨r2, M3, h4, hf⟩ := fm_bi_inv hf
  refine fm_callS (As := [.int l1, .int 0, .int 1]) (rest := []) (pc := 8) F (mX9_in F.inj h4) q887 q888 q50 q889 ⟨rfl, rfl⟩ hdX9_in.2 ⟨fm_le rfl, fm_le rfl, Nat.zero_le _, Nat.zero_le _⟩ rfl rfl (fm_le rfl) dX9_home_8 ?_
  refine fm_if_ne (tgt := 16) (pc := 11) F dX9_home_11 (by decide) (fun c6 => ?_) (fun c6 => ?_)
  · replace hf := fm_in c6 hf
    refine fm_iconst (v := 0) (pc := 16) F dX9_home_16 (by decide) ?_
    refine fm_istore_n (lv' := [(2, .int 0), (0, .ref (ad 0)), (1, .int l1)]) (pc := 17) F dX9_home_17 rfl (fm_lt rfl) rfl ?_
    refine fm_iconst (v := 0) (pc := 18) F dX9_home_18 (by decide) ?_
    refine fm_istore_n (lv' := [(3, .int 0), (2, .int 0), (0, .ref (ad 0)), (1, .int l1)]) (pc := 19) F dX9_home_19 rfl (fm_lt rfl) rfl ?_
    refine fm_bipush (v := (-9)) (pc := 20) F dX9_home_20 (by decide) ?_
    refine fm_istore (lv' := [(4, .int (-9)), (3, .int 0), (2, .int 0), (0, .ref (ad 0)), (1, .int l1)]) (pc := 22) F dX9_home_22 (fm_lt rfl) rfl ?_
    refine fm_iconst (v := 0) (pc := 24) F dX9_home_24 (by decide) ?_
    refine fm_istore (lv' := [(5, .int 0), (4, .int (-9)), (3, .int 0), (2, .int 0), (0, .ref (ad 0)), (1, .int l1)]) (pc := 25) F dX9_home_25 (fm_lt rfl) rfl ?_
    refine fm_pick [4, 5, 3, 2, 1, 0] rfl ?_
    exact wX9_home_27 F E n _ _ _ _ _ _ hf
  · replace hf := fm_ip c6 hf
    refine fm_iconst (v := (-1)) (pc := 14) F dX9_home_14 (by decide) ?_
    exact fm_iret (pc := 15) F E hf dX9_home_15
abbrev rmX9_isRow : Room := { frames := 2, cells := 0, slots := 0, locals := 80 }
def fX9_isRow_69 (n : Nat) (k17 : fm_M → Int32 → Int32 → Int32 → Int32 → Option (Int32 × fm_M)) (M : fm_M) (l2 : Int32) (l3 : Int32) (l5 : Int32) : Option (Int32 × fm_M) :=
  fm_b l5 6 <|
  fm_let (l3 ||| (1 <<< ((M.1 18 l5.toNatClampNeg) &&& 31))) fun x2 =>
  k17 M l2 x2 0 (l5 + (-1))
def fX9_isRow_17 (n : Nat) : Nat → fm_M → Int32 → Int32 → Int32 → Int32 → Option (Int32 × fm_M)
  | 0, _, _, _, _, _ => none
  | k + 1, M, l2, l3, l4, l5 =>
    if l5 < 0 then
      fm_bz l4 (some (l4, M))
    else
      fm_nz (M.1 2 0) <|
      fm_let (l2 - l2 / (M.1 2 0) * (M.1 2 0)) fun x4 =>
      fm_b l5 6 <|
      fm_let (fm_wr M 18 l5.toNatClampNeg x4) fun M6 =>
      fm_nz (M6.1 2 0) <|
      fm_let (l2 / (M6.1 2 0)) fun x8 =>
      if l4 = 0 then
        fX9_isRow_69 n (fX9_isRow_17 n k) M6 x8 l3 l5
      else
        fm_b l5 6 <|
        if ((l3 >>> ((M6.1 18 l5.toNatClampNeg) &&& 31)) &&& 1) = 0 then
          fm_b l5 6 <|
          fm_let (l3 ||| (1 <<< ((M6.1 18 l5.toNatClampNeg) &&& 31))) fun x13 =>
          fX9_isRow_17 n k M6 x8 x13 1 (l5 + (-1))
        else
          fX9_isRow_69 n (fX9_isRow_17 n k) M6 x8 l3 l5
def fX9_isRow (n : Nat) (M : fm_M) (l1 : Int32) : Option (Int32 × fm_M) :=
  fm_let ((M.1 2 0) - 1) fun x1 =>
  fX9_isRow_17 n n M l1 0 1 x1
theorem hdX9_isRow : yX9_isRow.cls = RX9 ∧ yX9_isRow.cls ≠ "java/lang/invoke/MethodHandle" ∧ yX9_isRow.cls ≠ "java/lang/invoke/VarHandle" ∧ (parseMethodDescriptor yX9_isRow.desc).map (fun d => d.parameters.length) = some 1 := by decide +kernel
set_option maxHeartbeats 4000000 in
theorem wX9_isRow_69 {X : fm_X} {D : va_G} {dA : Nat → ClassId} {ad : Nat → Nat} {n : Nat}  {r : Int32} (F : fm_F X (YM D dA ad) cX9_isRow 6 RX9 rmX9_isRow) {M' : fm_M} (E : fm_E X (YM D dA ad) (some (.int r)) M' (some .boolean)) {k17 : fm_M → Int32 → Int32 → Int32 → Int32 → Option (Int32 × fm_M)} (hk17 : ∀ (M : fm_M) (l2 : Int32) (l3 : Int32) (l4 : Int32) (l5 : Int32), k17 M l2 l3 l4 l5 = some (r, M') → fm_G X (YM D dA ad) (0, 0) 6 M 17 [(0, .ref (ad 0)), (2, .int l2), (3, .int l3), (4, .int l4), (5, .int l5)] []) : ∀ (M : fm_M) (l2 : Int32) (l3 : Int32) (l5 : Int32), fX9_isRow_69 n k17 M l2 l3 l5 = some (r, M') → fm_G X (YM D dA ad) (0, 0) 6 M 69 [(0, .ref (ad 0)), (2, .int l2), (3, .int l3), (5, .int l5)] [] := by
  intro M l2 l3 l5 hf
  unfold fX9_isRow_69 at hf
  refine fm_iconst (v := 0) (pc := 69) F dX9_isRow_69 (by decide) ?_
  refine fm_istore (lv' := [(4, .int 0), (0, .ref (ad 0)), (2, .int l2), (3, .int l3), (5, .int l5)]) (pc := 70) F dX9_isRow_70 (fm_lt rfl) rfl ?_
  refine fm_iload_n (pc := 72) F dX9_isRow_72 3 rfl ?_
  refine fm_iconst (v := 1) (pc := 73) F dX9_isRow_73 (by decide) ?_
  refine fm_aload_n (pc := 74) F dX9_isRow_74 1 rfl ?_
  refine fm_get (v := .ref (ad 18)) (pc := 75) F (ci := 9) (T := TX9) (n := 29) rfl in_X9 27 (fm_lt rfl) dX9_isRow_75 q822 0 (fm_lt rfl) rfl rfl ?_
  refine fm_iload (pc := 78) F dX9_isRow_78 4 rfl ?_
  obtain ⟨b1, hf⟩ := fm_b_inv hf
  refine fm_iald (pc := 80) F dX9_isRow_80 18 (fm_lt rfl) rfl b1 ?_
  refine fm_ishl (pc := 81) F dX9_isRow_81 ?_
  refine fm_ior (pc := 82) F dX9_isRow_82 ?_
  refine fm_topi (fun x2 ex2 => ?_)
  replace hf := fm_let_inv ex2 hf
  refine fm_istore_n (lv' := [(3, .int x2), (4, .int 0), (0, .ref (ad 0)), (2, .int l2), (5, .int l5)]) (pc := 83) F dX9_isRow_83 rfl (fm_lt rfl) rfl ?_
  refine fm_iinc (v := (l5 + (-1))) (lv' := [(5, .int (l5 + (-1))), (3, .int x2), (4, .int 0), (0, .ref (ad 0)), (2, .int l2)]) (pc := 84) F dX9_isRow_84 4 rfl rfl (fm_lt rfl) rfl ?_
  refine fm_goto (tgt := 17) (pc := 87) F dX9_isRow_87 (by decide) ?_
  refine fm_pick [3, 4, 1, 2, 0] rfl ?_
  exact hk17 _ _ _ _ _ hf
set_option maxHeartbeats 4000000 in
theorem wX9_isRow_17 {X : fm_X} {D : va_G} {dA : Nat → ClassId} {ad : Nat → Nat} {n : Nat}  {r : Int32} (F : fm_F X (YM D dA ad) cX9_isRow 6 RX9 rmX9_isRow) {M' : fm_M} (E : fm_E X (YM D dA ad) (some (.int r)) M' (some .boolean)) : ∀ (k : Nat) (M : fm_M) (l2 : Int32) (l3 : Int32) (l4 : Int32) (l5 : Int32), fX9_isRow_17 n k M l2 l3 l4 l5 = some (r, M') → fm_G X (YM D dA ad) (0, 0) 6 M 17 [(0, .ref (ad 0)), (2, .int l2), (3, .int l3), (4, .int l4), (5, .int l5)] [] := by
  intro k
  induction k with
  | zero =>
    intro M l2 l3 l4 l5 hf
    rw [fX9_isRow_17] at hf
    cases hf
  | succ k ih =>
    intro M l2 l3 l4 l5 hf
    rw [fX9_isRow_17] at hf
    refine fm_iload (pc := 17) F dX9_isRow_17 4 rfl ?_
    refine fm_if_lt (tgt := 90) (pc := 19) F dX9_isRow_19 (by decide) (fun c1 => ?_) (fun c1 => ?_)
    · replace hf := fm_ip c1 hf
      refine fm_iload (pc := 90) F dX9_isRow_90 3 rfl ?_
      obtain ⟨b2, hf⟩ := fm_bz_inv hf
      exact fm_zret (pc := 92) F E b2 hf dX9_isRow_92
    · replace hf := fm_in c1 hf
      refine fm_aload_n (pc := 22) F dX9_isRow_22 0 rfl ?_
      refine fm_get (v := .ref (ad 18)) (pc := 23) F (ci := 9) (T := TX9) (n := 29) rfl in_X9 27 (fm_lt rfl) dX9_isRow_23 q822 0 (fm_lt rfl) rfl rfl ?_
      refine fm_iload (pc := 26) F dX9_isRow_26 4 rfl ?_
      refine fm_iload_n (pc := 28) F dX9_isRow_28 1 rfl ?_
      refine fm_aload_n (pc := 29) F dX9_isRow_29 0 rfl ?_
      refine fm_get (v := .ref (ad 2)) (pc := 30) F (ci := 9) (T := TX9) (n := 29) rfl in_X9 9 (fm_lt rfl) dX9_isRow_30 q804 0 (fm_lt rfl) rfl rfl ?_
      refine fm_iconst (v := 0) (pc := 33) F dX9_isRow_33 (by decide) ?_
      refine fm_ialdK (pc := 34) F dX9_isRow_34 2 (fm_lt rfl) rfl 0 (fm_ok (by decide)) rfl ?_
      obtain ⟨b3, hf⟩ := fm_nz_inv hf
      refine fm_irem (pc := 35) F dX9_isRow_35 b3 ?_
      refine fm_topi (fun x4 ex4 => ?_)
      replace hf := fm_let_inv ex4 hf
      obtain ⟨b5, hf⟩ := fm_b_inv hf
      refine fm_iast (pc := 36) F dX9_isRow_36 18 (fm_lt rfl) (fun _ => rfl) b5 ?_
      refine fm_nameM (fun M6 eM6 => ?_)
      replace hf := fm_let_inv eM6 hf
      refine fm_iload_n (pc := 37) F dX9_isRow_37 1 rfl ?_
      refine fm_aload_n (pc := 38) F dX9_isRow_38 0 rfl ?_
      refine fm_get (v := .ref (ad 2)) (pc := 39) F (ci := 9) (T := TX9) (n := 29) rfl in_X9 9 (fm_lt rfl) dX9_isRow_39 q804 0 (fm_lt rfl) rfl rfl ?_
      refine fm_iconst (v := 0) (pc := 42) F dX9_isRow_42 (by decide) ?_
      refine fm_ialdK (pc := 43) F dX9_isRow_43 2 (fm_lt rfl) rfl 0 (fm_ok (by decide)) rfl ?_
      obtain ⟨b7, hf⟩ := fm_nz_inv hf
      refine fm_idiv (pc := 44) F dX9_isRow_44 b7 ?_
      refine fm_topi (fun x8 ex8 => ?_)
      replace hf := fm_let_inv ex8 hf
      refine fm_istore_n (lv' := [(2, .int x8), (0, .ref (ad 0)), (3, .int l3), (4, .int l4), (5, .int l5)]) (pc := 45) F dX9_isRow_45 rfl (fm_lt rfl) rfl ?_
      refine fm_iload (pc := 46) F dX9_isRow_46 3 rfl ?_
      refine fm_if_eq (tgt := 69) (pc := 48) F dX9_isRow_48 (by decide) (fun c9 => ?_) (fun c9 => ?_)
      · replace hf := fm_ip c9 hf
        refine fm_pick [1, 0, 2, 4] rfl ?_
        exact wX9_isRow_69 F E ih _ _ _ _ hf
      · replace hf := fm_in c9 hf
        refine fm_iload_n (pc := 51) F dX9_isRow_51 2 rfl ?_
        refine fm_aload_n (pc := 52) F dX9_isRow_52 1 rfl ?_
        refine fm_get (v := .ref (ad 18)) (pc := 53) F (ci := 9) (T := TX9) (n := 29) rfl in_X9 27 (fm_lt rfl) dX9_isRow_53 q822 0 (fm_lt rfl) rfl rfl ?_
        refine fm_iload (pc := 56) F dX9_isRow_56 4 rfl ?_
        obtain ⟨b10, hf⟩ := fm_b_inv hf
        refine fm_iald (pc := 58) F dX9_isRow_58 18 (fm_lt rfl) rfl b10 ?_
        refine fm_ishr (pc := 59) F dX9_isRow_59 ?_
        refine fm_iconst (v := 1) (pc := 60) F dX9_isRow_60 (by decide) ?_
        refine fm_iand (pc := 61) F dX9_isRow_61 ?_
        refine fm_if_ne (tgt := 69) (pc := 62) F dX9_isRow_62 (by decide) (fun c11 => ?_) (fun c11 => ?_)
        · replace hf := fm_in c11 hf
          refine fm_pick [1, 0, 2, 4] rfl ?_
          exact wX9_isRow_69 F E ih _ _ _ _ hf
        · replace hf := fm_ip c11 hf
          refine fm_iconst (v := 1) (pc := 65) F dX9_isRow_65 (by decide) ?_
          refine fm_goto (tgt := 70) (pc := 66) F dX9_isRow_66 (by decide) ?_
          refine fm_istore (lv' := [(4, .int 1), (2, .int x8), (0, .ref (ad 0)), (3, .int l3), (5, .int l5)]) (pc := 70) F dX9_isRow_70 (fm_lt rfl) rfl ?_
          refine fm_iload_n (pc := 72) F dX9_isRow_72 3 rfl ?_
          refine fm_iconst (v := 1) (pc := 73) F dX9_isRow_73 (by decide) ?_
          refine fm_aload_n (pc := 74) F dX9_isRow_74 2 rfl ?_
          refine fm_get (v := .ref (ad 18)) (pc := 75) F (ci := 9) (T := TX9) (n := 29) rfl in_X9 27 (fm_lt rfl) dX9_isRow_75 q822 0 (fm_lt rfl) rfl rfl ?_
          refine fm_iload (pc := 78) F dX9_isRow_78 4 rfl ?_
          obtain ⟨b12, hf⟩ := fm_b_inv hf
          refine fm_iald (pc := 80) F dX9_isRow_80 18 (fm_lt rfl) rfl b12 ?_
          refine fm_ishl (pc := 81) F dX9_isRow_81 ?_
          refine fm_ior (pc := 82) F dX9_isRow_82 ?_
          refine fm_topi (fun x13 ex13 => ?_)
          replace hf := fm_let_inv ex13 hf
          refine fm_istore_n (lv' := [(3, .int x13), (4, .int 1), (2, .int x8), (0, .ref (ad 0)), (5, .int l5)]) (pc := 83) F dX9_isRow_83 rfl (fm_lt rfl) rfl ?_
          refine fm_iinc (v := (l5 + (-1))) (lv' := [(5, .int (l5 + (-1))), (3, .int x13), (4, .int 1), (2, .int x8), (0, .ref (ad 0))]) (pc := 84) F dX9_isRow_84 4 rfl rfl (fm_lt rfl) rfl ?_
          refine fm_goto (tgt := 17) (pc := 87) F dX9_isRow_87 (by decide) ?_
          refine fm_pick [4, 3, 1, 2, 0] rfl ?_
          exact ih _ _ _ _ _ hf
set_option maxHeartbeats 4000000 in
theorem mX9_isRow {l : Launch} {D : va_G} {dA : Nat → ClassId} {ad : Nat → Nat} {n : Nat}  (inj : ∀ i j, i < 20 → j < 20 → ad i = ad j → i = j) {M M' : fm_M} {l1 : Int32} {r : Int32} (hf : fX9_isRow n M l1 = some (r, M')) : fm_C l yX9_isRow (ws_ yX9_isRow cX9_isRow 6 (some .boolean)) rmX9_isRow (YM D dA ad) [.ref (ad 0), .int l1] M (some (.int r)) M' := by
  refine fm_enter (by decide) rfl (fm_le rfl) inj ?_
  intro X hXl F E
  subst hXl
  unfold fX9_isRow at hf
  show fm_G X (YM D dA ad) (0, 0) 6 M 0 [(0, .ref (ad 0)), (1, .int l1)] []
  refine fm_iload_n (pc := 0) F dX9_isRow_0 1 rfl ?_
  refine fm_istore_n (lv' := [(2, .int l1), (0, .ref (ad 0)), (1, .int l1)]) (pc := 1) F dX9_isRow_1 rfl (fm_lt rfl) rfl ?_
  refine fm_iconst (v := 0) (pc := 2) F dX9_isRow_2 (by decide) ?_
  refine fm_istore_n (lv' := [(3, .int 0), (2, .int l1), (0, .ref (ad 0)), (1, .int l1)]) (pc := 3) F dX9_isRow_3 rfl (fm_lt rfl) rfl ?_
  refine fm_iconst (v := 1) (pc := 4) F dX9_isRow_4 (by decide) ?_
  refine fm_istore (lv' := [(4, .int 1), (3, .int 0), (2, .int l1), (0, .ref (ad 0)), (1, .int l1)]) (pc := 5) F dX9_isRow_5 (fm_lt rfl) rfl ?_
  refine fm_aload_n (pc := 7) F dX9_isRow_7 3 rfl ?_
  refine fm_get (v := .ref (ad 2)) (pc := 8) F (ci := 9) (T := TX9) (n := 29) rfl in_X9 9 (fm_lt rfl) dX9_isRow_8 q804 0 (fm_lt rfl) rfl rfl ?_
  refine fm_iconst (v := 0) (pc := 11) F dX9_isRow_11 (by decide) ?_
  refine fm_ialdK (pc := 12) F dX9_isRow_12 2 (fm_lt rfl) rfl 0 (fm_ok (by decide)) rfl ?_
  refine fm_iconst (v := 1) (pc := 13) F dX9_isRow_13 (by decide) ?_
  refine fm_isub (pc := 14) F dX9_isRow_14 ?_
  refine fm_topi (fun x1 ex1 => ?_)
  replace hf := fm_let_inv ex1 hf
  refine fm_istore (lv' := [(5, .int x1), (4, .int 1), (3, .int 0), (2, .int l1), (0, .ref (ad 0)), (1, .int l1)]) (pc := 15) F dX9_isRow_15 (fm_lt rfl) rfl ?_
  refine fm_pick [4, 3, 2, 1, 0] rfl ?_
  exact wX9_isRow_17 F E n _ _ _ _ _ hf
abbrev rmX9_rows : Room := { frames := 2, cells := 0, slots := 0, locals := 80 }
def fX9_rows_4 (n : Nat) : Nat → fm_M → Int32 → Int32 → Option (Int32 × fm_M)
  | 0, _, _, _ => none
  | k + 1, M, l1, l2 =>
    if (M.1 2 0) ≤ l2 then
      some (l1, M)
    else
      fm_let (l1 * (M.1 2 0)) fun x2 =>
      fX9_rows_4 n k M x2 (l2 + 1)
def fX9_rows (n : Nat) (M : fm_M) : Option (Int32 × fm_M) :=
  fX9_rows_4 n n M 1 0
theorem hdX9_rows : yX9_rows.cls = RX9 ∧ yX9_rows.cls ≠ "java/lang/invoke/MethodHandle" ∧ yX9_rows.cls ≠ "java/lang/invoke/VarHandle" ∧ (parseMethodDescriptor yX9_rows.desc).map (fun d => d.parameters.length) = some 0 := by decide +kernel
set_option maxHeartbeats 4000000 in
theorem wX9_rows_4 {X : fm_X} {D : va_G} {dA : Nat → ClassId} {ad : Nat → Nat} {n : Nat}  {r : Int32} (F : fm_F X (YM D dA ad) cX9_rows 3 RX9 rmX9_rows) {M' : fm_M} (E : fm_E X (YM D dA ad) (some (.int r)) M' (some .int)) : ∀ (k : Nat) (M : fm_M) (l1 : Int32) (l2 : Int32), fX9_rows_4 n k M l1 l2 = some (r, M') → fm_G X (YM D dA ad) (0, 0) 3 M 4 [(0, .ref (ad 0)), (1, .int l1), (2, .int l2)] [] := by
  intro k
  induction k with
  | zero =>
    intro M l1 l2 hf
    rw [fX9_rows_4] at hf
    cases hf
  | succ k ih =>
    intro M l1 l2 hf
    rw [fX9_rows_4] at hf
    refine fm_iload_n (pc := 4) F dX9_rows_4 2 rfl ?_
    refine fm_aload_n (pc := 5) F dX9_rows_5 0 rfl ?_
    refine fm_get (v := .ref (ad 2)) (pc := 6) F (ci := 9) (T := TX9) (n := 29) rfl in_X9 9 (fm_lt rfl) dX9_rows_6 q804 0 (fm_lt rfl) rfl rfl ?_
    refine fm_iconst (v := 0) (pc := 9) F dX9_rows_9 (by decide) ?_
    refine fm_ialdK (pc := 10) F dX9_rows_10 2 (fm_lt rfl) rfl 0 (fm_ok (by decide)) rfl ?_
    refine fm_icmp_ge (tgt := 29) (pc := 11) F dX9_rows_11 (by decide) (fun c1 => ?_) (fun c1 => ?_)
    · replace hf := fm_ip c1 hf
      refine fm_iload_n (pc := 29) F dX9_rows_29 1 rfl ?_
      exact fm_iret (pc := 30) F E hf dX9_rows_30
    · replace hf := fm_in c1 hf
      refine fm_iload_n (pc := 14) F dX9_rows_14 1 rfl ?_
      refine fm_aload_n (pc := 15) F dX9_rows_15 0 rfl ?_
      refine fm_get (v := .ref (ad 2)) (pc := 16) F (ci := 9) (T := TX9) (n := 29) rfl in_X9 9 (fm_lt rfl) dX9_rows_16 q804 0 (fm_lt rfl) rfl rfl ?_
      refine fm_iconst (v := 0) (pc := 19) F dX9_rows_19 (by decide) ?_
      refine fm_ialdK (pc := 20) F dX9_rows_20 2 (fm_lt rfl) rfl 0 (fm_ok (by decide)) rfl ?_
      refine fm_imul (pc := 21) F dX9_rows_21 ?_
      refine fm_topi (fun x2 ex2 => ?_)
      replace hf := fm_let_inv ex2 hf
      refine fm_istore_n (lv' := [(1, .int x2), (0, .ref (ad 0)), (2, .int l2)]) (pc := 22) F dX9_rows_22 rfl (fm_lt rfl) rfl ?_
      refine fm_iinc (v := (l2 + 1)) (lv' := [(2, .int (l2 + 1)), (1, .int x2), (0, .ref (ad 0))]) (pc := 23) F dX9_rows_23 2 rfl rfl (fm_lt rfl) rfl ?_
      refine fm_goto (tgt := 4) (pc := 26) F dX9_rows_26 (by decide) ?_
      refine fm_pick [2, 1, 0] rfl ?_
      exact ih _ _ _ hf
set_option maxHeartbeats 4000000 in
theorem mX9_rows {l : Launch} {D : va_G} {dA : Nat → ClassId} {ad : Nat → Nat} {n : Nat}  (inj : ∀ i j, i < 20 → j < 20 → ad i = ad j → i = j) {M M' : fm_M} {r : Int32} (hf : fX9_rows n M = some (r, M')) : fm_C l yX9_rows (ws_ yX9_rows cX9_rows 3 (some .int)) rmX9_rows (YM D dA ad) [.ref (ad 0)] M (some (.int r)) M' := by
  refine fm_enter (by decide) rfl (fm_le rfl) inj ?_
  intro X hXl F E
  subst hXl
  unfold fX9_rows at hf
  show fm_G X (YM D dA ad) (0, 0) 3 M 0 [(0, .ref (ad 0))] []
  refine fm_iconst (v := 1) (pc := 0) F dX9_rows_0 (by decide) ?_
  refine fm_istore_n (lv' := [(1, .int 1), (0, .ref (ad 0))]) (pc := 1) F dX9_rows_1 rfl (fm_lt rfl) rfl ?_
  refine fm_iconst (v := 0) (pc := 2) F dX9_rows_2 (by decide) ?_
  refine fm_istore_n (lv' := [(2, .int 0), (1, .int 1), (0, .ref (ad 0))]) (pc := 3) F dX9_rows_3 rfl (fm_lt rfl) rfl ?_
  refine fm_pick [2, 1, 0] rfl ?_
  exact wX9_rows_4 F E n _ _ _ hf
abbrev rmX9_isBorne : Room := { frames := 2, cells := 0, slots := 0, locals := 80 }
def fX9_isBorne_4 (n : Nat) : Nat → fm_M → Int32 → Int32 → Option (Int32 × fm_M)
  | 0, _, _, _ => none
  | k + 1, M, l1, l2 =>
    if (M.1 2 0) ≤ l2 then
      fm_bz l1 (some (l1, M))
    else
      if l1 = 0 then
        fX9_isBorne_4 n k M 0 (l2 + 1)
      else
        fm_b (8 + l2) 56 <|
        fm_b l2 6 <|
        fm_b (M.1 18 l2.toNatClampNeg) 12 <|
        if (M.1 11 (8 + l2).toNatClampNeg) < (M.1 4 (M.1 18 l2.toNatClampNeg).toNatClampNeg) then
          fX9_isBorne_4 n k M 0 (l2 + 1)
        else
          fX9_isBorne_4 n k M 1 (l2 + 1)
def fX9_isBorne (n : Nat) (M : fm_M) : Option (Int32 × fm_M) :=
  fX9_isBorne_4 n n M 1 0
theorem hdX9_isBorne : yX9_isBorne.cls = RX9 ∧ yX9_isBorne.cls ≠ "java/lang/invoke/MethodHandle" ∧ yX9_isBorne.cls ≠ "java/lang/invoke/VarHandle" ∧ (parseMethodDescriptor yX9_isBorne.desc).map (fun d => d.parameters.length) = some 0 := by decide +kernel
set_option maxHeartbeats 4000000 in
theorem wX9_isBorne_4 {X : fm_X} {D : va_G} {dA : Nat → ClassId} {ad : Nat → Nat} {n : Nat}  {r : Int32} (F : fm_F X (YM D dA ad) cX9_isBorne 3 RX9 rmX9_isBorne) {M' : fm_M} (E : fm_E X (YM D dA ad) (some (.int r)) M' (some .boolean)) : ∀ (k : Nat) (M : fm_M) (l1 : Int32) (l2 : Int32), fX9_isBorne_4 n k M l1 l2 = some (r, M') → fm_G X (YM D dA ad) (0, 0) 3 M 4 [(0, .ref (ad 0)), (1, .int l1), (2, .int l2)] [] := by
  intro k
  induction k with
  | zero =>
    intro M l1 l2 hf
    rw [fX9_isBorne_4] at hf
    cases hf
  | succ k ih =>
    intro M l1 l2 hf
    rw [fX9_isBorne_4] at hf
    refine fm_iload_n (pc := 4) F dX9_isBorne_4 2 rfl ?_
    refine fm_aload_n (pc := 5) F dX9_isBorne_5 0 rfl ?_
    refine fm_get (v := .ref (ad 2)) (pc := 6) F (ci := 9) (T := TX9) (n := 29) rfl in_X9 9 (fm_lt rfl) dX9_isBorne_6 q804 0 (fm_lt rfl) rfl rfl ?_
    refine fm_iconst (v := 0) (pc := 9) F dX9_isBorne_9 (by decide) ?_
    refine fm_ialdK (pc := 10) F dX9_isBorne_10 2 (fm_lt rfl) rfl 0 (fm_ok (by decide)) rfl ?_
    refine fm_icmp_ge (tgt := 53) (pc := 11) F dX9_isBorne_11 (by decide) (fun c1 => ?_) (fun c1 => ?_)
    · replace hf := fm_ip c1 hf
      refine fm_iload_n (pc := 53) F dX9_isBorne_53 1 rfl ?_
      obtain ⟨b2, hf⟩ := fm_bz_inv hf
      exact fm_zret (pc := 54) F E b2 hf dX9_isBorne_54
    · replace hf := fm_in c1 hf
      refine fm_iload_n (pc := 14) F dX9_isBorne_14 1 rfl ?_
      refine fm_if_eq (tgt := 45) (pc := 15) F dX9_isBorne_15 (by decide) (fun c3 => ?_) (fun c3 => ?_)
      · replace hf := fm_ip c3 hf
        refine fm_iconst (v := 0) (pc := 45) F dX9_isBorne_45 (by decide) ?_
        refine fm_istore_n (lv' := [(1, .int 0), (0, .ref (ad 0)), (2, .int l2)]) (pc := 46) F dX9_isBorne_46 rfl (fm_lt rfl) rfl ?_
        refine fm_iinc (v := (l2 + 1)) (lv' := [(2, .int (l2 + 1)), (1, .int 0), (0, .ref (ad 0))]) (pc := 47) F dX9_isBorne_47 2 rfl rfl (fm_lt rfl) rfl ?_
        refine fm_goto (tgt := 4) (pc := 50) F dX9_isBorne_50 (by decide) ?_
        refine fm_pick [2, 1, 0] rfl ?_
        exact ih _ _ _ hf
      · replace hf := fm_in c3 hf
        refine fm_aload_n (pc := 18) F dX9_isBorne_18 0 rfl ?_
        refine fm_get (v := .ref (ad 11)) (pc := 19) F (ci := 9) (T := TX9) (n := 29) rfl in_X9 18 (fm_lt rfl) dX9_isBorne_19 q813 0 (fm_lt rfl) rfl rfl ?_
        refine fm_bipush (v := 8) (pc := 22) F dX9_isBorne_22 (by decide) ?_
        refine fm_iload_n (pc := 24) F dX9_isBorne_24 2 rfl ?_
        refine fm_iadd (pc := 25) F dX9_isBorne_25 ?_
        obtain ⟨b4, hf⟩ := fm_b_inv hf
        refine fm_iald (pc := 26) F dX9_isBorne_26 11 (fm_lt rfl) rfl b4 ?_
        refine fm_aload_n (pc := 27) F dX9_isBorne_27 0 rfl ?_
        refine fm_get (v := .ref (ad 4)) (pc := 28) F (ci := 9) (T := TX9) (n := 29) rfl in_X9 11 (fm_lt rfl) dX9_isBorne_28 q806 0 (fm_lt rfl) rfl rfl ?_
        refine fm_aload_n (pc := 31) F dX9_isBorne_31 0 rfl ?_
        refine fm_get (v := .ref (ad 18)) (pc := 32) F (ci := 9) (T := TX9) (n := 29) rfl in_X9 27 (fm_lt rfl) dX9_isBorne_32 q822 0 (fm_lt rfl) rfl rfl ?_
        refine fm_iload_n (pc := 35) F dX9_isBorne_35 2 rfl ?_
        obtain ⟨b5, hf⟩ := fm_b_inv hf
        refine fm_iald (pc := 36) F dX9_isBorne_36 18 (fm_lt rfl) rfl b5 ?_
        obtain ⟨b6, hf⟩ := fm_b_inv hf
        refine fm_iald (pc := 37) F dX9_isBorne_37 4 (fm_lt rfl) rfl b6 ?_
        refine fm_icmp_lt (tgt := 45) (pc := 38) F dX9_isBorne_38 (by decide) (fun c7 => ?_) (fun c7 => ?_)
        · replace hf := fm_ip c7 hf
          refine fm_iconst (v := 0) (pc := 45) F dX9_isBorne_45 (by decide) ?_
          refine fm_istore_n (lv' := [(1, .int 0), (0, .ref (ad 0)), (2, .int l2)]) (pc := 46) F dX9_isBorne_46 rfl (fm_lt rfl) rfl ?_
          refine fm_iinc (v := (l2 + 1)) (lv' := [(2, .int (l2 + 1)), (1, .int 0), (0, .ref (ad 0))]) (pc := 47) F dX9_isBorne_47 2 rfl rfl (fm_lt rfl) rfl ?_
          refine fm_goto (tgt := 4) (pc := 50) F dX9_isBorne_50 (by decide) ?_
          refine fm_pick [2, 1, 0] rfl ?_
          exact ih _ _ _ hf
        · replace hf := fm_in c7 hf
          refine fm_iconst (v := 1) (pc := 41) F dX9_isBorne_41 (by decide) ?_
          refine fm_goto (tgt := 46) (pc := 42) F dX9_isBorne_42 (by decide) ?_
          refine fm_istore_n (lv' := [(1, .int 1), (0, .ref (ad 0)), (2, .int l2)]) (pc := 46) F dX9_isBorne_46 rfl (fm_lt rfl) rfl ?_
          refine fm_iinc (v := (l2 + 1)) (lv' := [(2, .int (l2 + 1)), (1, .int 1), (0, .ref (ad 0))]) (pc := 47) F dX9_isBorne_47 2 rfl rfl (fm_lt rfl) rfl ?_
          refine fm_goto (tgt := 4) (pc := 50) F dX9_isBorne_50 (by decide) ?_
          refine fm_pick [2, 1, 0] rfl ?_
          exact ih _ _ _ hf
set_option maxHeartbeats 4000000 in
theorem mX9_isBorne {l : Launch} {D : va_G} {dA : Nat → ClassId} {ad : Nat → Nat} {n : Nat}  (inj : ∀ i j, i < 20 → j < 20 → ad i = ad j → i = j) {M M' : fm_M} {r : Int32} (hf : fX9_isBorne n M = some (r, M')) : fm_C l yX9_isBorne (ws_ yX9_isBorne cX9_isBorne 3 (some .boolean)) rmX9_isBorne (YM D dA ad) [.ref (ad 0)] M (some (.int r)) M' := by
  refine fm_enter (by decide) rfl (fm_le rfl) inj ?_
  intro X hXl F E
  subst hXl
  unfold fX9_isBorne at hf
  show fm_G X (YM D dA ad) (0, 0) 3 M 0 [(0, .ref (ad 0))] []
  refine fm_iconst (v := 1) (pc := 0) F dX9_isBorne_0 (by decide) ?_
  refine fm_istore_n (lv' := [(1, .int 1), (0, .ref (ad 0))]) (pc := 1) F dX9_isBorne_1 rfl (fm_lt rfl) rfl ?_
  refine fm_iconst (v := 0) (pc := 2) F dX9_isBorne_2 (by decide) ?_
  refine fm_istore_n (lv' := [(2, .int 0), (1, .int 1), (0, .ref (ad 0))]) (pc := 3) F dX9_isBorne_3 rfl (fm_lt rfl) rfl ?_
  refine fm_pick [2, 1, 0] rfl ?_
  exact wX9_isBorne_4 F E n _ _ _ hf
abbrev rmX9_costOfRow : Room := { frames := 3, cells := 0, slots := 0, locals := 102 }
def fX9_costOfRow_4 (n : Nat) : Nat → fm_M → Int32 → Int32 → Option (Int32 × fm_M)
  | 0, _, _, _ => none
  | k + 1, M, l1, l2 =>
    if (M.1 2 0) ≤ l2 then
      some (l1, M)
    else
      fm_b l2 6 <|
      fm_bi (fX9_hangs n 11 M (M.1 18 l2.toNatClampNeg)) fun r3 M4 =>
      fm_b ((6 * r3) + l2) 36 <|
      fm_let (M4.1 10 ((6 * r3) + l2).toNatClampNeg) fun x8 =>
      if 1000000 ≤ x8 then
        fX9_costOfRow_4 n k M4 1000000 (l2 + 1)
      else
        if l1 < 1000000 then
          fm_b l2 6 <|
          fm_b (M4.1 18 l2.toNatClampNeg) 12 <|
          fm_let (l1 + ((M4.1 4 (M4.1 18 l2.toNatClampNeg).toNatClampNeg) * x8)) fun x13 =>
          fX9_costOfRow_4 n k M4 x13 (l2 + 1)
        else
          fX9_costOfRow_4 n k M4 1000000 (l2 + 1)
def fX9_costOfRow (n : Nat) (M : fm_M) : Option (Int32 × fm_M) :=
  fX9_costOfRow_4 n n M 0 0
theorem hdX9_costOfRow : yX9_costOfRow.cls = RX9 ∧ yX9_costOfRow.cls ≠ "java/lang/invoke/MethodHandle" ∧ yX9_costOfRow.cls ≠ "java/lang/invoke/VarHandle" ∧ (parseMethodDescriptor yX9_costOfRow.desc).map (fun d => d.parameters.length) = some 0 := by decide +kernel
set_option maxHeartbeats 4000000 in
theorem wX9_costOfRow_4 {X : fm_X} {D : va_G} {dA : Nat → ClassId} {ad : Nat → Nat} {n : Nat}  {r : Int32} (F : fm_F X (YM D dA ad) cX9_costOfRow 4 RX9 rmX9_costOfRow) {M' : fm_M} (E : fm_E X (YM D dA ad) (some (.int r)) M' (some .int)) : ∀ (k : Nat) (M : fm_M) (l1 : Int32) (l2 : Int32), fX9_costOfRow_4 n k M l1 l2 = some (r, M') → fm_G X (YM D dA ad) (0, 0) 4 M 4 [(0, .ref (ad 0)), (1, .int l1), (2, .int l2)] [] := by
  intro k
  induction k with
  | zero =>
    intro M l1 l2 hf
    rw [fX9_costOfRow_4] at hf
    cases hf
  | succ k ih =>
    intro M l1 l2 hf
    rw [fX9_costOfRow_4] at hf
    refine fm_iload_n (pc := 4) F dX9_costOfRow_4 2 rfl ?_
    refine fm_aload_n (pc := 5) F dX9_costOfRow_5 0 rfl ?_
    refine fm_get (v := .ref (ad 2)) (pc := 6) F (ci := 9) (T := TX9) (n := 29) rfl in_X9 9 (fm_lt rfl) dX9_costOfRow_6 q804 0 (fm_lt rfl) rfl rfl ?_
    refine fm_iconst (v := 0) (pc := 9) F dX9_costOfRow_9 (by decide) ?_
    refine fm_ialdK (pc := 10) F dX9_costOfRow_10 2 (fm_lt rfl) rfl 0 (fm_ok (by decide)) rfl ?_
    refine fm_icmp_ge (tgt := 77) (pc := 11) F dX9_costOfRow_11 (by decide) (fun c1 => ?_) (fun c1 => ?_)
    · replace hf := fm_ip c1 hf
      refine fm_iload_n (pc := 77) F dX9_costOfRow_77 1 rfl ?_
      exact fm_iret (pc := 78) F E hf dX9_costOfRow_78
    · replace hf := fm_in c1 hf
      refine fm_aload_n (pc := 14) F dX9_costOfRow_14 0 rfl ?_
      refine fm_get (v := .ref (ad 10)) (pc := 15) F (ci := 9) (T := TX9) (n := 29) rfl in_X9 17 (fm_lt rfl) dX9_costOfRow_15 q812 0 (fm_lt rfl) rfl rfl ?_
      refine fm_bipush (v := 6) (pc := 18) F dX9_costOfRow_18 (by decide) ?_
      refine fm_aload_n (pc := 20) F dX9_costOfRow_20 0 rfl ?_
      refine fm_get (v := .ref (ad 11)) (pc := 21) F (ci := 9) (T := TX9) (n := 29) rfl in_X9 18 (fm_lt rfl) dX9_costOfRow_21 q813 0 (fm_lt rfl) rfl rfl ?_
      refine fm_aload_n (pc := 24) F dX9_costOfRow_24 0 rfl ?_
      refine fm_get (v := .ref (ad 18)) (pc := 25) F (ci := 9) (T := TX9) (n := 29) rfl in_X9 27 (fm_lt rfl) dX9_costOfRow_25 q822 0 (fm_lt rfl) rfl rfl ?_
      refine fm_iload_n (pc := 28) F dX9_costOfRow_28 2 rfl ?_
      obtain ⟨b2, hf⟩ := fm_b_inv hf
      refine fm_iald (pc := 29) F dX9_costOfRow_29 18 (fm_lt rfl) rfl b2 ?_
      obtain ⟨r3, M4, h5, hf⟩ := fm_bi_inv hf
      refine fm_callS (As := [.ref (ad 11), .int (M.1 18 l2.toNatClampNeg)]) (rest := [.int 6, .ref (ad 10)]) (pc := 30) F (mX9_hangs (Or.inl rfl) F.inj h5) q935 q936 q50 q937 ⟨rfl, rfl⟩ hdX9_hangs.2 ⟨fm_le rfl, fm_le rfl, Nat.zero_le _, Nat.zero_le _⟩ rfl rfl (fm_le rfl) dX9_costOfRow_30 ?_
      refine fm_imul (pc := 33) F dX9_costOfRow_33 ?_
      refine fm_iload_n (pc := 34) F dX9_costOfRow_34 2 rfl ?_
      refine fm_iadd (pc := 35) F dX9_costOfRow_35 ?_
      obtain ⟨b7, hf⟩ := fm_b_inv hf
      refine fm_iald (pc := 36) F dX9_costOfRow_36 10 (fm_lt rfl) rfl b7 ?_
      refine fm_topi (fun x8 ex8 => ?_)
      replace hf := fm_let_inv ex8 hf
      refine fm_istore_n (lv' := [(3, .int x8), (0, .ref (ad 0)), (1, .int l1), (2, .int l2)]) (pc := 37) F dX9_costOfRow_37 rfl (fm_lt rfl) rfl ?_
      refine fm_iload_n (pc := 38) F dX9_costOfRow_38 0 rfl ?_
      refine fm_ldc (pc := 39) F dX9_costOfRow_39 q926 ?_
      refine fm_icmp_ge (tgt := 50) (pc := 41) F dX9_costOfRow_41 (by decide) (fun c9 => ?_) (fun c9 => ?_)
      · replace hf := fm_ip c9 hf
        refine fm_ldc (pc := 50) F dX9_costOfRow_50 q926 ?_
        refine fm_goto (tgt := 70) (pc := 52) F dX9_costOfRow_52 (by decide) ?_
        refine fm_istore_n (lv' := [(1, .int 1000000), (3, .int x8), (0, .ref (ad 0)), (2, .int l2)]) (pc := 70) F dX9_costOfRow_70 rfl (fm_lt rfl) rfl ?_
        refine fm_iinc (v := (l2 + 1)) (lv' := [(2, .int (l2 + 1)), (1, .int 1000000), (3, .int x8), (0, .ref (ad 0))]) (pc := 71) F dX9_costOfRow_71 3 rfl rfl (fm_lt rfl) rfl ?_
        refine fm_goto (tgt := 4) (pc := 74) F dX9_costOfRow_74 (by decide) ?_
        refine fm_pick [3, 1, 0] rfl ?_
        exact ih _ _ _ hf
      · replace hf := fm_in c9 hf
        refine fm_iload_n (pc := 44) F dX9_costOfRow_44 2 rfl ?_
        refine fm_ldc (pc := 45) F dX9_costOfRow_45 q926 ?_
        refine fm_icmp_lt (tgt := 55) (pc := 47) F dX9_costOfRow_47 (by decide) (fun c10 => ?_) (fun c10 => ?_)
        · replace hf := fm_ip c10 hf
          refine fm_iload_n (pc := 55) F dX9_costOfRow_55 2 rfl ?_
          refine fm_aload_n (pc := 56) F dX9_costOfRow_56 1 rfl ?_
          refine fm_get (v := .ref (ad 4)) (pc := 57) F (ci := 9) (T := TX9) (n := 29) rfl in_X9 11 (fm_lt rfl) dX9_costOfRow_57 q806 0 (fm_lt rfl) rfl rfl ?_
          refine fm_aload_n (pc := 60) F dX9_costOfRow_60 1 rfl ?_
          refine fm_get (v := .ref (ad 18)) (pc := 61) F (ci := 9) (T := TX9) (n := 29) rfl in_X9 27 (fm_lt rfl) dX9_costOfRow_61 q822 0 (fm_lt rfl) rfl rfl ?_
          refine fm_iload_n (pc := 64) F dX9_costOfRow_64 3 rfl ?_
          obtain ⟨b11, hf⟩ := fm_b_inv hf
          refine fm_iald (pc := 65) F dX9_costOfRow_65 18 (fm_lt rfl) rfl b11 ?_
          obtain ⟨b12, hf⟩ := fm_b_inv hf
          refine fm_iald (pc := 66) F dX9_costOfRow_66 4 (fm_lt rfl) rfl b12 ?_
          refine fm_iload_n (pc := 67) F dX9_costOfRow_67 0 rfl ?_
          refine fm_imul (pc := 68) F dX9_costOfRow_68 ?_
          refine fm_iadd (pc := 69) F dX9_costOfRow_69 ?_
          refine fm_topi (fun x13 ex13 => ?_)
          replace hf := fm_let_inv ex13 hf
          refine fm_istore_n (lv' := [(1, .int x13), (3, .int x8), (0, .ref (ad 0)), (2, .int l2)]) (pc := 70) F dX9_costOfRow_70 rfl (fm_lt rfl) rfl ?_
          refine fm_iinc (v := (l2 + 1)) (lv' := [(2, .int (l2 + 1)), (1, .int x13), (3, .int x8), (0, .ref (ad 0))]) (pc := 71) F dX9_costOfRow_71 3 rfl rfl (fm_lt rfl) rfl ?_
          refine fm_goto (tgt := 4) (pc := 74) F dX9_costOfRow_74 (by decide) ?_
          refine fm_pick [3, 1, 0] rfl ?_
          exact ih _ _ _ hf
        · replace hf := fm_in c10 hf
          refine fm_ldc (pc := 50) F dX9_costOfRow_50 q926 ?_
          refine fm_goto (tgt := 70) (pc := 52) F dX9_costOfRow_52 (by decide) ?_
          refine fm_istore_n (lv' := [(1, .int 1000000), (3, .int x8), (0, .ref (ad 0)), (2, .int l2)]) (pc := 70) F dX9_costOfRow_70 rfl (fm_lt rfl) rfl ?_
          refine fm_iinc (v := (l2 + 1)) (lv' := [(2, .int (l2 + 1)), (1, .int 1000000), (3, .int x8), (0, .ref (ad 0))]) (pc := 71) F dX9_costOfRow_71 3 rfl rfl (fm_lt rfl) rfl ?_
          refine fm_goto (tgt := 4) (pc := 74) F dX9_costOfRow_74 (by decide) ?_
          refine fm_pick [3, 1, 0] rfl ?_
          exact ih _ _ _ hf
set_option maxHeartbeats 4000000 in
theorem mX9_costOfRow {l : Launch} {D : va_G} {dA : Nat → ClassId} {ad : Nat → Nat} {n : Nat}  (inj : ∀ i j, i < 20 → j < 20 → ad i = ad j → i = j) {M M' : fm_M} {r : Int32} (hf : fX9_costOfRow n M = some (r, M')) : fm_C l yX9_costOfRow (ws_ yX9_costOfRow cX9_costOfRow 4 (some .int)) rmX9_costOfRow (YM D dA ad) [.ref (ad 0)] M (some (.int r)) M' := by
  refine fm_enter (by decide) rfl (fm_le rfl) inj ?_
  intro X hXl F E
  subst hXl
  unfold fX9_costOfRow at hf
  show fm_G X (YM D dA ad) (0, 0) 4 M 0 [(0, .ref (ad 0))] []
  refine fm_iconst (v := 0) (pc := 0) F dX9_costOfRow_0 (by decide) ?_
  refine fm_istore_n (lv' := [(1, .int 0), (0, .ref (ad 0))]) (pc := 1) F dX9_costOfRow_1 rfl (fm_lt rfl) rfl ?_
  refine fm_iconst (v := 0) (pc := 2) F dX9_costOfRow_2 (by decide) ?_
  refine fm_istore_n (lv' := [(2, .int 0), (1, .int 0), (0, .ref (ad 0))]) (pc := 3) F dX9_costOfRow_3 rfl (fm_lt rfl) rfl ?_
  refine fm_pick [2, 1, 0] rfl ?_
  exact wX9_costOfRow_4 F E n _ _ _ hf
