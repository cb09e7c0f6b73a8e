/-! the reference: its methods as functions, and their walks (printed by gen/genM.py) -/
set_option maxRecDepth 100000
abbrev rmX9_hang : Room := { frames := 4, cells := 0, slots := 0, locals := 125 }
def fX9_hang_64 (n : Nat) (k25 : fm_M → Int32 → Int32 → Int32 → Option (Int32 × fm_M)) : Nat → fm_M → Int32 → Int32 → Int32 → Int32 → Option (Int32 × fm_M)
  | 0, _, _, _, _, _ => none
  | k + 1, M, l1, l2, l3, l4 =>
    if (M.1 2 0) ≤ l4 then
      k25 M l1 l2 (l3 + 1)
    else
      fm_b l4 6 <|
      fm_b l4 6 <|
      fm_let (fm_wr M 19 l4.toNatClampNeg (M.1 18 l4.toNatClampNeg)) fun M4 =>
      fX9_hang_64 n k25 k M4 l1 l2 l3 (l4 + 1)
def fX9_hang_25 (n : Nat) : Nat → fm_M → Int32 → Int32 → Int32 → Option (Int32 × fm_M)
  | 0, _, _, _, _ => none
  | k + 1, M, l1, l2, l3 =>
    fm_bi (fX9_rows n M) fun r1 M2 =>
    if r1 ≤ l3 then
      if l2 = 1000000 then
        some ((-9), M2)
      else
        if l1 = (-1) then
          some (l2, M2)
        else
          fm_b l1 6 <|
          some ((M2.1 19 l1.toNatClampNeg), M2)
    else
      fm_bi (fX9_isRow n M2 l3) fun r9 M10 =>
      if r9 = 0 then
        fX9_hang_25 n k M10 l1 l2 (l3 + 1)
      else
        fm_bi (fX9_isBorne n M10) fun r14 M15 =>
        if r14 = 0 then
          fX9_hang_25 n k M15 l1 l2 (l3 + 1)
        else
          fm_bi (fX9_costOfRow n M15) fun r19 M20 =>
          if l2 ≤ r19 then
            fX9_hang_25 n k M20 l1 l2 (l3 + 1)
          else
            fm_bi (fX9_costOfRow n M20) fun r24 M25 =>
            fX9_hang_64 n (fX9_hang_25 n k) n M25 l1 r24 l3 0
def fX9_hang (n : Nat) (M : fm_M) (l1 : Int32) : Option (Int32 × fm_M) :=
  fm_let (fm_wr M 0 0 0) fun M1 =>
  if l1 = (-1) then
    fX9_hang_25 n n M1 l1 1000000 0
  else
    fm_bi (fX9_isTown n M1 l1) fun r3 M4 =>
    if r3 = 0 then
      some ((-1), M4)
    else
      fX9_hang_25 n n M4 l1 1000000 0
theorem hdX9_hang : yX9_hang.cls = RX9 ∧ yX9_hang.cls ≠ "java/lang/invoke/MethodHandle" ∧ yX9_hang.cls ≠ "java/lang/invoke/VarHandle" ∧ (parseMethodDescriptor yX9_hang.desc).map (fun d => d.parameters.length) = some 1 := by decide +kernel
set_option maxHeartbeats 4000000 in
theorem wX9_hang_64 {X : fm_X} {D : va_G} {dA : Nat → ClassId} {ad : Nat → Nat} {n : Nat}  {r : Int32} (F : fm_F X (YM D dA ad) cX9_hang 5 RX9 rmX9_hang) {M' : fm_M} (E : fm_E X (YM D dA ad) (some (.int r)) M' (some .int)) {k25 : fm_M → Int32 → Int32 → Int32 → Option (Int32 × fm_M)} (hk25 : ∀ (M : fm_M) (l1 : Int32) (l2 : Int32) (l3 : Int32), k25 M l1 l2 l3 = some (r, M') → fm_G X (YM D dA ad) (0, 0) 5 M 25 [(0, .ref (ad 0)), (1, .int l1), (2, .int l2), (3, .int l3)] []) : ∀ (k : Nat) (M : fm_M) (l1 : Int32) (l2 : Int32) (l3 : Int32) (l4 : Int32), fX9_hang_64 n k25 k M l1 l2 l3 l4 = some (r, M') → fm_G X (YM D dA ad) (0, 0) 5 M 64 [(0, .ref (ad 0)), (1, .int l1), (2, .int l2), (3, .int l3), (4, .int l4)] [] := by
  intro k
  induction k with
  | zero =>
    intro M l1 l2 l3 l4 hf
    rw [fX9_hang_64] at hf
    cases hf
  | succ k ih =>
    intro M l1 l2 l3 l4 hf
    rw [fX9_hang_64] at hf
    refine fm_iload (pc := 64) F dX9_hang_64 4 rfl ?_
    refine fm_aload_n (pc := 66) F dX9_hang_66 0 rfl ?_
    refine fm_get (v := .ref (ad 2)) (pc := 67) F (ci := 9) (T := TX9) (n := 29) rfl in_X9 9 (fm_lt rfl) dX9_hang_67 q804 0 (fm_lt rfl) rfl rfl ?_
    refine fm_iconst (v := 0) (pc := 70) F dX9_hang_70 (by decide) ?_
    refine fm_ialdK (pc := 71) F dX9_hang_71 2 (fm_lt rfl) rfl 0 (fm_ok (by decide)) rfl ?_
    refine fm_icmp_ge (tgt := 95) (pc := 72) F dX9_hang_72 (by decide) (fun c1 => ?_) (fun c1 => ?_)
    · replace hf := fm_ip c1 hf
      refine fm_iinc (v := (l3 + 1)) (lv' := [(3, .int (l3 + 1)), (0, .ref (ad 0)), (1, .int l1), (2, .int l2), (4, .int l4)]) (pc := 95) F dX9_hang_95 3 rfl rfl (fm_lt rfl) rfl ?_
      refine fm_goto (tgt := 25) (pc := 98) F dX9_hang_98 (by decide) ?_
      refine fm_pick [1, 2, 3, 0] rfl ?_
      exact hk25 _ _ _ _ hf
    · replace hf := fm_in c1 hf
      refine fm_aload_n (pc := 75) F dX9_hang_75 0 rfl ?_
      refine fm_get (v := .ref (ad 19)) (pc := 76) F (ci := 9) (T := TX9) (n := 29) rfl in_X9 28 (fm_lt rfl) dX9_hang_76 q823 0 (fm_lt rfl) rfl rfl ?_
      refine fm_iload (pc := 79) F dX9_hang_79 4 rfl ?_
      refine fm_aload_n (pc := 81) F dX9_hang_81 0 rfl ?_
      refine fm_get (v := .ref (ad 18)) (pc := 82) F (ci := 9) (T := TX9) (n := 29) rfl in_X9 27 (fm_lt rfl) dX9_hang_82 q822 0 (fm_lt rfl) rfl rfl ?_
      refine fm_iload (pc := 85) F dX9_hang_85 4 rfl ?_
      obtain ⟨b2, hf⟩ := fm_b_inv hf
      refine fm_iald (pc := 87) F dX9_hang_87 18 (fm_lt rfl) rfl b2 ?_
      obtain ⟨b3, hf⟩ := fm_b_inv hf
      refine fm_iast (pc := 88) F dX9_hang_88 19 (fm_lt rfl) (fun _ => rfl) b3 ?_
      refine fm_nameM (fun M4 eM4 => ?_)
      replace hf := fm_let_inv eM4 hf
      refine fm_iinc (v := (l4 + 1)) (lv' := [(4, .int (l4 + 1)), (0, .ref (ad 0)), (1, .int l1), (2, .int l2), (3, .int l3)]) (pc := 89) F dX9_hang_89 4 rfl rfl (fm_lt rfl) rfl ?_
      refine fm_goto (tgt := 64) (pc := 92) F dX9_hang_92 (by decide) ?_
      refine fm_pick [1, 2, 3, 4, 0] rfl ?_
      exact ih _ _ _ _ _ hf
set_option maxHeartbeats 4000000 in
theorem wX9_hang_25 {X : fm_X} {D : va_G} {dA : Nat → ClassId} {ad : Nat → Nat} {n : Nat}  {r : Int32} (F : fm_F X (YM D dA ad) cX9_hang 5 RX9 rmX9_hang) {M' : fm_M} (E : fm_E X (YM D dA ad) (some (.int r)) M' (some .int)) : ∀ (k : Nat) (M : fm_M) (l1 : Int32) (l2 : Int32) (l3 : Int32), fX9_hang_25 n k M l1 l2 l3 = some (r, M') → fm_G X (YM D dA ad) (0, 0) 5 M 25 [(0, .ref (ad 0)), (1, .int l1), (2, .int l2), (3, .int l3)] [] := by
  intro k
  induction k with
  | zero =>
    intro M l1 l2 l3 hf
    rw [fX9_hang_25] at hf
    cases hf
  | succ k ih =>
    intro M l1 l2 l3 hf
    rw [fX9_hang_25] at hf
    refine fm_iload_n (pc := 25) F dX9_hang_25 3 rfl ?_
    refine fm_aload_n (pc := 26) F dX9_hang_26 0 rfl ?_
    obtain ⟨r1, M2, h3, hf⟩ := fm_bi_inv hf
    refine fm_callV (As := []) (rest := [.int l3]) (pc := 27) F (ci := 9) 0 (fm_lt rfl) rfl rfl (mX9_rows F.inj h3) q1018 q1020 qs33 q50 q1021 ⟨rfl, rfl⟩ hdX9_rows ⟨fm_le rfl, fm_le rfl, Nat.zero_le _, Nat.zero_le _⟩ rfl rfl (fm_le rfl) dX9_hang_27 ?_
    refine fm_icmp_ge (tgt := 101) (pc := 30) F dX9_hang_30 (by decide) (fun c5 => ?_) (fun c5 => ?_)
    · replace hf := fm_ip c5 hf
      refine fm_iload_n (pc := 101) F dX9_hang_101 2 rfl ?_
      refine fm_ldc (pc := 102) F dX9_hang_102 q926 ?_
      refine fm_icmp_ne (tgt := 112) (pc := 104) F dX9_hang_104 (by decide) (fun c6 => ?_) (fun c6 => ?_)
      · replace hf := fm_in c6 hf
        refine fm_iload_n (pc := 112) F dX9_hang_112 1 rfl ?_
        refine fm_iconst (v := (-1)) (pc := 113) F dX9_hang_113 (by decide) ?_
        refine fm_icmp_ne (tgt := 121) (pc := 114) F dX9_hang_114 (by decide) (fun c7 => ?_) (fun c7 => ?_)
        · replace hf := fm_in c7 hf
          refine fm_aload_n (pc := 121) F dX9_hang_121 0 rfl ?_
          refine fm_get (v := .ref (ad 19)) (pc := 122) F (ci := 9) (T := TX9) (n := 29) rfl in_X9 28 (fm_lt rfl) dX9_hang_122 q823 0 (fm_lt rfl) rfl rfl ?_
          refine fm_iload_n (pc := 125) F dX9_hang_125 1 rfl ?_
          obtain ⟨b8, hf⟩ := fm_b_inv hf
          refine fm_iald (pc := 126) F dX9_hang_126 19 (fm_lt rfl) rfl b8 ?_
          exact fm_iret (pc := 127) F E hf dX9_hang_127
        · replace hf := fm_ip c7 hf
          refine fm_iload_n (pc := 117) F dX9_hang_117 2 rfl ?_
          refine fm_goto (tgt := 127) (pc := 118) F dX9_hang_118 (by decide) ?_
          exact fm_iret (pc := 127) F E hf dX9_hang_127
      · replace hf := fm_ip c6 hf
        refine fm_bipush (v := (-9)) (pc := 107) F dX9_hang_107 (by decide) ?_
        refine fm_goto (tgt := 127) (pc := 109) F dX9_hang_109 (by decide) ?_
        exact fm_iret (pc := 127) F E hf dX9_hang_127
    · replace hf := fm_in c5 hf
      refine fm_aload_n (pc := 33) F dX9_hang_33 0 rfl ?_
      refine fm_iload_n (pc := 34) F dX9_hang_34 3 rfl ?_
      obtain ⟨r9, M10, h11, hf⟩ := fm_bi_inv hf
      refine fm_callV (As := [.int l3]) (rest := []) (pc := 35) F (ci := 9) 0 (fm_lt rfl) rfl rfl (mX9_isRow F.inj h11) q1022 q1024 qs34 q50 q1025 ⟨rfl, rfl⟩ hdX9_isRow ⟨fm_le rfl, fm_le rfl, Nat.zero_le _, Nat.zero_le _⟩ rfl rfl (fm_le rfl) dX9_hang_35 ?_
      refine fm_if_eq (tgt := 95) (pc := 38) F dX9_hang_38 (by decide) (fun c13 => ?_) (fun c13 => ?_)
      · replace hf := fm_ip c13 hf
        refine fm_iinc (v := (l3 + 1)) (lv' := [(3, .int (l3 + 1)), (0, .ref (ad 0)), (1, .int l1), (2, .int l2)]) (pc := 95) F dX9_hang_95 3 rfl rfl (fm_lt rfl) rfl ?_
        refine fm_goto (tgt := 25) (pc := 98) F dX9_hang_98 (by decide) ?_
        refine fm_pick [1, 2, 3, 0] rfl ?_
        exact ih _ _ _ _ hf
      · replace hf := fm_in c13 hf
        refine fm_aload_n (pc := 41) F dX9_hang_41 0 rfl ?_
        obtain ⟨r14, M15, h16, hf⟩ := fm_bi_inv hf
        refine fm_callV (As := []) (rest := []) (pc := 42) F (ci := 9) 0 (fm_lt rfl) rfl rfl (mX9_isBorne F.inj h16) q1026 q1028 qs35 q50 q1029 ⟨rfl, rfl⟩ hdX9_isBorne ⟨fm_le rfl, fm_le rfl, Nat.zero_le _, Nat.zero_le _⟩ rfl rfl (fm_le rfl) dX9_hang_42 ?_
        refine fm_if_eq (tgt := 95) (pc := 45) F dX9_hang_45 (by decide) (fun c18 => ?_) (fun c18 => ?_)
        · replace hf := fm_ip c18 hf
          refine fm_iinc (v := (l3 + 1)) (lv' := [(3, .int (l3 + 1)), (0, .ref (ad 0)), (1, .int l1), (2, .int l2)]) (pc := 95) F dX9_hang_95 3 rfl rfl (fm_lt rfl) rfl ?_
          refine fm_goto (tgt := 25) (pc := 98) F dX9_hang_98 (by decide) ?_
          refine fm_pick [1, 2, 3, 0] rfl ?_
          exact ih _ _ _ _ hf
        · replace hf := fm_in c18 hf
          refine fm_aload_n (pc := 48) F dX9_hang_48 0 rfl ?_
          obtain ⟨r19, M20, h21, hf⟩ := fm_bi_inv hf
          refine fm_callV (As := []) (rest := []) (pc := 49) F (ci := 9) 0 (fm_lt rfl) rfl rfl (mX9_costOfRow F.inj h21) q1030 q1032 qs36 q50 q1033 ⟨rfl, rfl⟩ hdX9_costOfRow ⟨fm_le rfl, fm_le rfl, Nat.zero_le _, Nat.zero_le _⟩ rfl rfl (fm_le rfl) dX9_hang_49 ?_
          refine fm_iload_n (pc := 52) F dX9_hang_52 2 rfl ?_
          refine fm_icmp_ge (tgt := 95) (pc := 53) F dX9_hang_53 (by decide) (fun c23 => ?_) (fun c23 => ?_)
          · replace hf := fm_ip c23 hf
            refine fm_iinc (v := (l3 + 1)) (lv' := [(3, .int (l3 + 1)), (0, .ref (ad 0)), (1, .int l1), (2, .int l2)]) (pc := 95) F dX9_hang_95 3 rfl rfl (fm_lt rfl) rfl ?_
            refine fm_goto (tgt := 25) (pc := 98) F dX9_hang_98 (by decide) ?_
            refine fm_pick [1, 2, 3, 0] rfl ?_
            exact ih _ _ _ _ hf
          · replace hf := fm_in c23 hf
            refine fm_aload_n (pc := 56) F dX9_hang_56 0 rfl ?_
            obtain ⟨r24, M25, h26, hf⟩ := fm_bi_inv hf
            refine fm_callV (As := []) (rest := []) (pc := 57) F (ci := 9) 0 (fm_lt rfl) rfl rfl (mX9_costOfRow F.inj h26) q1030 q1032 qs36 q50 q1033 ⟨rfl, rfl⟩ hdX9_costOfRow ⟨fm_le rfl, fm_le rfl, Nat.zero_le _, Nat.zero_le _⟩ rfl rfl (fm_le rfl) dX9_hang_57 ?_
            refine fm_istore_n (lv' := [(2, .int r24), (0, .ref (ad 0)), (1, .int l1), (3, .int l3)]) (pc := 60) F dX9_hang_60 rfl (fm_lt rfl) rfl ?_
            refine fm_iconst (v := 0) (pc := 61) F dX9_hang_61 (by decide) ?_
            refine fm_istore (lv' := [(4, .int 0), (2, .int r24), (0, .ref (ad 0)), (1, .int l1), (3, .int l3)]) (pc := 62) F dX9_hang_62 (fm_lt rfl) rfl ?_
            refine fm_pick [2, 3, 1, 4, 0] rfl ?_
            exact wX9_hang_64 F E ih n _ _ _ _ _ hf
set_option maxHeartbeats 4000000 in
theorem mX9_hang {l : Launch} {D : va_G} {dA : Nat → ClassId} {ad : Nat → Nat} {n : Nat}  (inj : ∀ i j, i < 20 → j < 20 → ad i = ad j → i = j) {M M' : fm_M} {l1 : Int32} {r : Int32} (hf : fX9_hang n M l1 = some (r, M')) : fm_C l yX9_hang (ws_ yX9_hang cX9_hang 5 (some .int)) rmX9_hang (YM D dA ad) [.ref (ad 0), .int l1] M (some (.int r)) M' := by
  refine fm_enter (by decide) rfl (fm_le rfl) inj ?_
  intro X hXl F E
  subst hXl
  unfold fX9_hang at hf
  show fm_G X (YM D dA ad) (0, 0) 5 M 0 [(0, .ref (ad 0)), (1, .int l1)] []
  refine fm_aload_n (pc := 0) F dX9_hang_0 0 rfl ?_
  refine fm_iconst (v := 0) (pc := 1) F dX9_hang_1 (by decide) ?_
  refine fm_putI (v := 0) (pc := 2) F clX9 0 (fm_lt rfl) dX9_hang_2 q795 rfl rfl 0 (fm_lt rfl) rfl (fm_lt rfl) rfl ?_
  refine fm_nameM (fun M1 eM1 => ?_)
  replace hf := fm_let_inv eM1 hf
  refine fm_iload_n (pc := 5) F dX9_hang_5 1 rfl ?_
  refine fm_iconst (v := (-1)) (pc := 6) F dX9_hang_6 (by decide) ?_
  refine fm_icmp_eq (tgt := 20) (pc := 7) F dX9_hang_7 (by decide) (fun c2 => ?_) (fun c2 => ?_)
  · replace hf := fm_ip c2 hf
    refine fm_ldc (pc := 20) F dX9_hang_20 q926 ?_
    refine fm_istore_n (lv' := [(2, .int 1000000), (0, .ref (ad 0)), (1, .int l1)]) (pc := 22) F dX9_hang_22 rfl (fm_lt rfl) rfl ?_
    refine fm_iconst (v := 0) (pc := 23) F dX9_hang_23 (by decide) ?_
    refine fm_istore_n (lv' := [(3, .int 0), (2, .int 1000000), (0, .ref (ad 0)), (1, .int l1)]) (pc := 24) F dX9_hang_24 rfl (fm_lt rfl) rfl ?_
    refine fm_pick [2, 3, 1, 0] rfl ?_
    exact wX9_hang_25 F E n _ _ _ _ hf
  · replace hf := fm_in c2 hf
    refine fm_aload_n (pc := 10) F dX9_hang_10 0 rfl ?_
    refine fm_iload_n (pc := 11) F dX9_hang_11 1 rfl ?_
    obtain ⟨r3, M4, h5, hf⟩ := fm_bi_inv hf
    refine fm_callV (As := [.int l1]) (rest := []) (pc := 12) F (ci := 9) 0 (fm_lt rfl) rfl rfl (mX9_isTown F.inj h5) q931 q933 qs25 q50 q934 ⟨rfl, rfl⟩ hdX9_isTown ⟨fm_le rfl, fm_le rfl, Nat.zero_le _, Nat.zero_le _⟩ rfl rfl (fm_le rfl) dX9_hang_12 ?_
    refine fm_if_ne (tgt := 20) (pc := 15) F dX9_hang_15 (by decide) (fun c7 => ?_) (fun c7 => ?_)
    · replace hf := fm_in c7 hf
      refine fm_ldc (pc := 20) F dX9_hang_20 q926 ?_
      refine fm_istore_n (lv' := [(2, .int 1000000), (0, .ref (ad 0)), (1, .int l1)]) (pc := 22) F dX9_hang_22 rfl (fm_lt rfl) rfl ?_
      refine fm_iconst (v := 0) (pc := 23) F dX9_hang_23 (by decide) ?_
      refine fm_istore_n (lv' := [(3, .int 0), (2, .int 1000000), (0, .ref (ad 0)), (1, .int l1)]) (pc := 24) F dX9_hang_24 rfl (fm_lt rfl) rfl ?_
      refine fm_pick [2, 3, 1, 0] rfl ?_
      exact wX9_hang_25 F E n _ _ _ _ hf
    · replace hf := fm_ip c7 hf
      refine fm_iconst (v := (-1)) (pc := 18) F dX9_hang_18 (by decide) ?_
      exact fm_iret (pc := 19) F E hf dX9_hang_19
abbrev rmX9_round : Room := { frames := 3, cells := 0, slots := 0, locals := 107 }
def fX9_round_68 (n : Nat) (k56 : fm_M → Int32 → Int32 → Option (Int32 × fm_M)) : Nat → fm_M → Int32 → Int32 → Int32 → Option (Int32 × fm_M)
  | 0, _, _, _, _ => none
  | k + 1, M, l2, l3, l4 =>
    if (M.1 2 0) ≤ l4 then
      k56 M l2 l3
    else
      fm_b l4 6 <|
      fm_b (M.1 19 l4.toNatClampNeg) 6 <|
      fm_b l4 6 <|
      fm_let (fm_wr M 19 l4.toNatClampNeg (M.1 18 (M.1 19 l4.toNatClampNeg).toNatClampNeg)) fun M5 =>
      if l3 = 0 then
        fm_b l4 6 <|
        if (M5.1 19 l4.toNatClampNeg) = l4 then
          fX9_round_68 n k56 k M5 l2 0 (l4 + 1)
        else
          fX9_round_68 n k56 k M5 l2 1 (l4 + 1)
      else
        fX9_round_68 n k56 k M5 l2 1 (l4 + 1)
def fX9_round_56 (n : Nat) : Nat → fm_M → Int32 → Int32 → Option (Int32 × fm_M)
  | 0, _, _, _ => none
  | k + 1, M, l2, l3 =>
    if l3 = 0 then
      some (l2, M)
    else
      fX9_round_68 n (fX9_round_56 n k) n M (l2 + 1) 0 0
def fX9_round_30 (n : Nat) : Nat → fm_M → Int32 → Int32 → Int32 → Option (Int32 × fm_M)
  | 0, _, _, _, _ => none
  | k + 1, M, l2, l3, l4 =>
    if (M.1 2 0) ≤ l4 then
      fX9_round_56 n n M l2 l3
    else
      fm_b l4 6 <|
      fm_let (fm_wr M 19 l4.toNatClampNeg l4) fun M3 =>
      fX9_round_30 n k M3 l2 l3 (l4 + 1)
def fX9_round (n : Nat) (M : fm_M) (l1 : Int32) : Option (Int32 × fm_M) :=
  fm_let (fm_wr M 0 0 0) fun M1 =>
  fm_bi (fX9_in n M1 l1 0 9999) fun r2 M3 =>
  if r2 = 0 then
    some ((-1), M3)
  else
    fm_bv (fX9_draws n M3 l1) fun M8 =>
    fX9_round_30 n n M8 0 1 0
theorem hdX9_round : yX9_round.cls = RX9 ∧ yX9_round.cls ≠ "java/lang/invoke/MethodHandle" ∧ yX9_round.cls ≠ "java/lang/invoke/VarHandle" ∧ (parseMethodDescriptor yX9_round.desc).map (fun d => d.parameters.length) = some 1 := by decide +kernel
set_option maxHeartbeats 4000000 in
theorem wX9_round_68 {X : fm_X} {D : va_G} {dA : Nat → ClassId} {ad : Nat → Nat} {n : Nat}  {r : Int32} (F : fm_F X (YM D dA ad) cX9_round 5 RX9 rmX9_round) {M' : fm_M} (E : fm_E X (YM D dA ad) (some (.int r)) M' (some .int)) {k56 : fm_M → Int32 → Int32 → Option (Int32 × fm_M)} (hk56 : ∀ (M : fm_M) (l2 : Int32) (l3 : Int32), k56 M l2 l3 = some (r, M') → fm_G X (YM D dA ad) (0, 0) 5 M 56 [(0, .ref (ad 0)), (2, .int l2), (3, .int l3)] []) : ∀ (k : Nat) (M : fm_M) (l2 : Int32) (l3 : Int32) (l4 : Int32), fX9_round_68 n k56 k M l2 l3 l4 = some (r, M') → fm_G X (YM D dA ad) (0, 0) 5 M 68 [(0, .ref (ad 0)), (2, .int l2), (3, .int l3), (4, .int l4)] [] := by
  intro k
  induction k with
  | zero =>
    intro M l2 l3 l4 hf
    rw [fX9_round_68] at hf
    cases hf
  | succ k ih =>
    intro M l2 l3 l4 hf
    rw [fX9_round_68] at hf
    refine fm_iload (pc := 68) F dX9_round_68 3 rfl ?_
    refine fm_aload_n (pc := 70) F dX9_round_70 0 rfl ?_
    refine fm_get (v := .ref (ad 2)) (pc := 71) F (ci := 9) (T := TX9) (n := 29) rfl in_X9 9 (fm_lt rfl) dX9_round_71 q804 0 (fm_lt rfl) rfl rfl ?_
    refine fm_iconst (v := 0) (pc := 74) F dX9_round_74 (by decide) ?_
    refine fm_ialdK (pc := 75) F dX9_round_75 2 (fm_lt rfl) rfl 0 (fm_ok (by decide)) rfl ?_
    refine fm_icmp_ge (tgt := 126) (pc := 76) F dX9_round_76 (by decide) (fun c1 => ?_) (fun c1 => ?_)
    · replace hf := fm_ip c1 hf
      refine fm_goto (tgt := 56) (pc := 126) F dX9_round_126 (by decide) ?_
      refine fm_pick [0, 1, 2] rfl ?_
      exact hk56 _ _ _ hf
    · replace hf := fm_in c1 hf
      refine fm_aload_n (pc := 79) F dX9_round_79 0 rfl ?_
      refine fm_get (v := .ref (ad 19)) (pc := 80) F (ci := 9) (T := TX9) (n := 29) rfl in_X9 28 (fm_lt rfl) dX9_round_80 q823 0 (fm_lt rfl) rfl rfl ?_
      refine fm_iload (pc := 83) F dX9_round_83 3 rfl ?_
      refine fm_aload_n (pc := 85) F dX9_round_85 0 rfl ?_
      refine fm_get (v := .ref (ad 18)) (pc := 86) F (ci := 9) (T := TX9) (n := 29) rfl in_X9 27 (fm_lt rfl) dX9_round_86 q822 0 (fm_lt rfl) rfl rfl ?_
      refine fm_aload_n (pc := 89) F dX9_round_89 0 rfl ?_
      refine fm_get (v := .ref (ad 19)) (pc := 90) F (ci := 9) (T := TX9) (n := 29) rfl in_X9 28 (fm_lt rfl) dX9_round_90 q823 0 (fm_lt rfl) rfl rfl ?_
      refine fm_iload (pc := 93) F dX9_round_93 3 rfl ?_
      obtain ⟨b2, hf⟩ := fm_b_inv hf
      refine fm_iald (pc := 95) F dX9_round_95 19 (fm_lt rfl) rfl b2 ?_
      obtain ⟨b3, hf⟩ := fm_b_inv hf
      refine fm_iald (pc := 96) F dX9_round_96 18 (fm_lt rfl) rfl b3 ?_
      obtain ⟨b4, hf⟩ := fm_b_inv hf
      refine fm_iast (pc := 97) F dX9_round_97 19 (fm_lt rfl) (fun _ => rfl) b4 ?_
      refine fm_nameM (fun M5 eM5 => ?_)
      replace hf := fm_let_inv eM5 hf
      refine fm_iload_n (pc := 98) F dX9_round_98 2 rfl ?_
      refine fm_if_ne (tgt := 114) (pc := 99) F dX9_round_99 (by decide) (fun c6 => ?_) (fun c6 => ?_)
      · replace hf := fm_in c6 hf
        refine fm_iconst (v := 1) (pc := 114) F dX9_round_114 (by decide) ?_
        refine fm_goto (tgt := 119) (pc := 115) F dX9_round_115 (by decide) ?_
        refine fm_istore_n (lv' := [(3, .int 1), (0, .ref (ad 0)), (2, .int l2), (4, .int l4)]) (pc := 119) F dX9_round_119 rfl (fm_lt rfl) rfl ?_
        refine fm_iinc (v := (l4 + 1)) (lv' := [(4, .int (l4 + 1)), (3, .int 1), (0, .ref (ad 0)), (2, .int l2)]) (pc := 120) F dX9_round_120 3 rfl rfl (fm_lt rfl) rfl ?_
        refine fm_goto (tgt := 68) (pc := 123) F dX9_round_123 (by decide) ?_
        refine fm_pick [2, 3, 1, 0] rfl ?_
        exact ih _ _ _ _ hf
      · replace hf := fm_ip c6 hf
        refine fm_aload_n (pc := 102) F dX9_round_102 0 rfl ?_
        refine fm_get (v := .ref (ad 19)) (pc := 103) F (ci := 9) (T := TX9) (n := 29) rfl in_X9 28 (fm_lt rfl) dX9_round_103 q823 0 (fm_lt rfl) rfl rfl ?_
        refine fm_iload (pc := 106) F dX9_round_106 3 rfl ?_
        obtain ⟨b7, hf⟩ := fm_b_inv hf
        refine fm_iald (pc := 108) F dX9_round_108 19 (fm_lt rfl) rfl b7 ?_
        refine fm_iload (pc := 109) F dX9_round_109 3 rfl ?_
        refine fm_icmp_eq (tgt := 118) (pc := 111) F dX9_round_111 (by decide) (fun c8 => ?_) (fun c8 => ?_)
        · replace hf := fm_ip c8 hf
          refine fm_iconst (v := 0) (pc := 118) F dX9_round_118 (by decide) ?_
          refine fm_istore_n (lv' := [(3, .int 0), (0, .ref (ad 0)), (2, .int l2), (4, .int l4)]) (pc := 119) F dX9_round_119 rfl (fm_lt rfl) rfl ?_
          refine fm_iinc (v := (l4 + 1)) (lv' := [(4, .int (l4 + 1)), (3, .int 0), (0, .ref (ad 0)), (2, .int l2)]) (pc := 120) F dX9_round_120 3 rfl rfl (fm_lt rfl) rfl ?_
          refine fm_goto (tgt := 68) (pc := 123) F dX9_round_123 (by decide) ?_
          refine fm_pick [2, 3, 1, 0] rfl ?_
          exact ih _ _ _ _ hf
        · replace hf := fm_in c8 hf
          refine fm_iconst (v := 1) (pc := 114) F dX9_round_114 (by decide) ?_
          refine fm_goto (tgt := 119) (pc := 115) F dX9_round_115 (by decide) ?_
          refine fm_istore_n (lv' := [(3, .int 1), (0, .ref (ad 0)), (2, .int l2), (4, .int l4)]) (pc := 119) F dX9_round_119 rfl (fm_lt rfl) rfl ?_
          refine fm_iinc (v := (l4 + 1)) (lv' := [(4, .int (l4 + 1)), (3, .int 1), (0, .ref (ad 0)), (2, .int l2)]) (pc := 120) F dX9_round_120 3 rfl rfl (fm_lt rfl) rfl ?_
          refine fm_goto (tgt := 68) (pc := 123) F dX9_round_123 (by decide) ?_
          refine fm_pick [2, 3, 1, 0] rfl ?_
          exact ih _ _ _ _ hf
set_option maxHeartbeats 4000000 in
theorem wX9_round_56 {X : fm_X} {D : va_G} {dA : Nat → ClassId} {ad : Nat → Nat} {n : Nat}  {r : Int32} (F : fm_F X (YM D dA ad) cX9_round 5 RX9 rmX9_round) {M' : fm_M} (E : fm_E X (YM D dA ad) (some (.int r)) M' (some .int)) : ∀ (k : Nat) (M : fm_M) (l2 : Int32) (l3 : Int32), fX9_round_56 n k M l2 l3 = some (r, M') → fm_G X (YM D dA ad) (0, 0) 5 M 56 [(0, .ref (ad 0)), (2, .int l2), (3, .int l3)] [] := by
  intro k
  induction k with
  | zero =>
    intro M l2 l3 hf
    rw [fX9_round_56] at hf
    cases hf
  | succ k ih =>
    intro M l2 l3 hf
    rw [fX9_round_56] at hf
    refine fm_iload_n (pc := 56) F dX9_round_56 2 rfl ?_
    refine fm_if_eq (tgt := 129) (pc := 57) F dX9_round_57 (by decide) (fun c1 => ?_) (fun c1 => ?_)
    · replace hf := fm_ip c1 hf
      refine fm_iload_n (pc := 129) F dX9_round_129 1 rfl ?_
      exact fm_iret (pc := 130) F E hf dX9_round_130
    · replace hf := fm_in c1 hf
      refine fm_iinc (v := (l2 + 1)) (lv' := [(2, .int (l2 + 1)), (0, .ref (ad 0)), (3, .int l3)]) (pc := 60) F dX9_round_60 1 rfl rfl (fm_lt rfl) rfl ?_
      refine fm_iconst (v := 0) (pc := 63) F dX9_round_63 (by decide) ?_
      refine fm_istore_n (lv' := [(3, .int 0), (2, .int (l2 + 1)), (0, .ref (ad 0))]) (pc := 64) F dX9_round_64 rfl (fm_lt rfl) rfl ?_
      refine fm_iconst (v := 0) (pc := 65) F dX9_round_65 (by decide) ?_
      refine fm_istore (lv' := [(4, .int 0), (3, .int 0), (2, .int (l2 + 1)), (0, .ref (ad 0))]) (pc := 66) F dX9_round_66 (fm_lt rfl) rfl ?_
      refine fm_pick [3, 2, 1, 0] rfl ?_
      exact wX9_round_68 F E ih n _ _ _ _ hf
set_option maxHeartbeats 4000000 in
theorem wX9_round_30 {X : fm_X} {D : va_G} {dA : Nat → ClassId} {ad : Nat → Nat} {n : Nat}  {r : Int32} (F : fm_F X (YM D dA ad) cX9_round 5 RX9 rmX9_round) {M' : fm_M} (E : fm_E X (YM D dA ad) (some (.int r)) M' (some .int)) : ∀ (k : Nat) (M : fm_M) (l2 : Int32) (l3 : Int32) (l4 : Int32), fX9_round_30 n k M l2 l3 l4 = some (r, M') → fm_G X (YM D dA ad) (0, 0) 5 M 30 [(0, .ref (ad 0)), (2, .int l2), (3, .int l3), (4, .int l4)] [] := by
  intro k
  induction k with
  | zero =>
    intro M l2 l3 l4 hf
    rw [fX9_round_30] at hf
    cases hf
  | succ k ih =>
    intro M l2 l3 l4 hf
    rw [fX9_round_30] at hf
    refine fm_iload (pc := 30) F dX9_round_30 3 rfl ?_
    refine fm_aload_n (pc := 32) F dX9_round_32 0 rfl ?_
    refine fm_get (v := .ref (ad 2)) (pc := 33) F (ci := 9) (T := TX9) (n := 29) rfl in_X9 9 (fm_lt rfl) dX9_round_33 q804 0 (fm_lt rfl) rfl rfl ?_
    refine fm_iconst (v := 0) (pc := 36) F dX9_round_36 (by decide) ?_
    refine fm_ialdK (pc := 37) F dX9_round_37 2 (fm_lt rfl) rfl 0 (fm_ok (by decide)) rfl ?_
    refine fm_icmp_ge (tgt := 56) (pc := 38) F dX9_round_38 (by decide) (fun c1 => ?_) (fun c1 => ?_)
    · replace hf := fm_ip c1 hf
      refine fm_pick [0, 1, 2] rfl ?_
      exact wX9_round_56 F E n _ _ _ hf
    · replace hf := fm_in c1 hf
      refine fm_aload_n (pc := 41) F dX9_round_41 0 rfl ?_
      refine fm_get (v := .ref (ad 19)) (pc := 42) F (ci := 9) (T := TX9) (n := 29) rfl in_X9 28 (fm_lt rfl) dX9_round_42 q823 0 (fm_lt rfl) rfl rfl ?_
      refine fm_iload (pc := 45) F dX9_round_45 3 rfl ?_
      refine fm_iload (pc := 47) F dX9_round_47 3 rfl ?_
      obtain ⟨b2, hf⟩ := fm_b_inv hf
      refine fm_iast (pc := 49) F dX9_round_49 19 (fm_lt rfl) (fun _ => rfl) b2 ?_
      refine fm_nameM (fun M3 eM3 => ?_)
      replace hf := fm_let_inv eM3 hf
      refine fm_iinc (v := (l4 + 1)) (lv' := [(4, .int (l4 + 1)), (0, .ref (ad 0)), (2, .int l2), (3, .int l3)]) (pc := 50) F dX9_round_50 3 rfl rfl (fm_lt rfl) rfl ?_
      refine fm_goto (tgt := 30) (pc := 53) F dX9_round_53 (by decide) ?_
      refine fm_pick [1, 2, 3, 0] rfl ?_
      exact ih _ _ _ _ hf
set_option maxHeartbeats 4000000 in
theorem mX9_round {l : Launch} {D : va_G} {dA : Nat → ClassId} {ad : Nat → Nat} {n : Nat}  (inj : ∀ i j, i < 20 → j < 20 → ad i = ad j → i = j) {M M' : fm_M} {l1 : Int32} {r : Int32} (hf : fX9_round n M l1 = some (r, M')) : fm_C l yX9_round (ws_ yX9_round cX9_round 5 (some .int)) rmX9_round (YM D dA ad) [.ref (ad 0), .int l1] M (some (.int r)) M' := by
  refine fm_enter (by decide) rfl (fm_le rfl) inj ?_
  intro X hXl F E
  subst hXl
  unfold fX9_round at hf
  show fm_G X (YM D dA ad) (0, 0) 5 M 0 [(0, .ref (ad 0)), (1, .int l1)] []
  refine fm_aload_n (pc := 0) F dX9_round_0 0 rfl ?_
  refine fm_iconst (v := 0) (pc := 1) F dX9_round_1 (by decide) ?_
  refine fm_putI (v := 0) (pc := 2) F clX9 0 (fm_lt rfl) dX9_round_2 q795 rfl rfl 0 (fm_lt rfl) rfl (fm_lt rfl) rfl ?_
  refine fm_nameM (fun M1 eM1 => ?_)
  replace hf := fm_let_inv eM1 hf
  refine fm_iload_n (pc := 5) F dX9_round_5 1 rfl ?_
  refine fm_iconst (v := 0) (pc := 6) F dX9_round_6 (by decide) ?_
  refine fm_sipush (v := 9999) (pc := 7) F dX9_round_7 (by decide) ?_
  obtain ⟨r2, M3, h4, hf⟩ := fm_bi_inv hf
  refine fm_callS (As := [.int l1, .int 0, .int 9999]) (rest := []) (pc := 10) F (mX9_in F.inj h4) q887 q888 q50 q889 ⟨rfl, rfl⟩ hdX9_in.2 ⟨fm_le rfl, fm_le rfl, Nat.zero_le _, Nat.zero_le _⟩ rfl rfl (fm_le rfl) dX9_round_10 ?_
  refine fm_if_ne (tgt := 18) (pc := 13) F dX9_round_13 (by decide) (fun c6 => ?_) (fun c6 => ?_)
  · replace hf := fm_in c6 hf
    refine fm_aload_n (pc := 18) F dX9_round_18 0 rfl ?_
    refine fm_iload_n (pc := 19) F dX9_round_19 1 rfl ?_
    obtain ⟨M8, h9, hf⟩ := fm_bv_inv hf
    refine fm_callV (As := [.int l1]) (rest := []) (pc := 20) F (ci := 9) 0 (fm_lt rfl) rfl rfl (mX9_draws F.inj h9) q974 q976 qs30 q50 q977 ⟨rfl, rfl⟩ hdX9_draws ⟨fm_le rfl, fm_le rfl, Nat.zero_le _, Nat.zero_le _⟩ rfl rfl (fm_le rfl) dX9_round_20 ?_
    refine fm_iconst (v := 0) (pc := 23) F dX9_round_23 (by decide) ?_
    refine fm_istore_n (lv' := [(2, .int 0), (0, .ref (ad 0)), (1, .int l1)]) (pc := 24) F dX9_round_24 rfl (fm_lt rfl) rfl ?_
    refine fm_iconst (v := 1) (pc := 25) F dX9_round_25 (by decide) ?_
    refine fm_istore_n (lv' := [(3, .int 1), (2, .int 0), (0, .ref (ad 0)), (1, .int l1)]) (pc := 26) F dX9_round_26 rfl (fm_lt rfl) rfl ?_
    refine fm_iconst (v := 0) (pc := 27) F dX9_round_27 (by decide) ?_
    refine fm_istore (lv' := [(4, .int 0), (3, .int 1), (2, .int 0), (0, .ref (ad 0)), (1, .int l1)]) (pc := 28) F dX9_round_28 (fm_lt rfl) rfl ?_
    refine fm_pick [3, 2, 1, 0] rfl ?_
    exact wX9_round_30 F E n _ _ _ _ hf
  · replace hf := fm_ip c6 hf
    refine fm_iconst (v := (-1)) (pc := 16) F dX9_round_16 (by decide) ?_
    exact fm_iret (pc := 17) F E hf dX9_round_17
abbrev rmX9_crossed : Room := { frames := 2, cells := 0, slots := 0, locals := 80 }
def fX9_crossed_72 (n : Nat) (k7 : fm_M → Int32 → Option (Int32 × fm_M)) (k21 : fm_M → Int32 → Int32 → Option (Int32 × fm_M)) (M : fm_M) (l1 : Int32) (l2 : Int32) (l3 : Int32) (s0 : Int32) : Option (Int32 × fm_M) :=
  fm_b l1 12 <|
  fm_b l2 12 <|
  if (M.1 9 l1.toNatClampNeg) = (M.1 9 l2.toNatClampNeg) then
    if l3 = s0 then
      k21 M l1 (l2 + 1)
    else
      some (((10 * l1) + l2), M)
  else
    k21 M l1 (l2 + 1)
def fX9_crossed_51 (n : Nat) (k7 : fm_M → Int32 → Option (Int32 × fm_M)) (k21 : fm_M → Int32 → Int32 → Option (Int32 × fm_M)) (M : fm_M) (l1 : Int32) (l2 : Int32) (s0 : Int32) : Option (Int32 × fm_M) :=
  fm_b l1 12 <|
  fm_b l2 12 <|
  if (M.1 8 l1.toNatClampNeg) = (M.1 8 l2.toNatClampNeg) then
    fX9_crossed_72 n k7 k21 M l1 l2 s0 1
  else
    fX9_crossed_72 n k7 k21 M l1 l2 s0 0
def fX9_crossed_21 (n : Nat) (k7 : fm_M → Int32 → Option (Int32 × fm_M)) : Nat → fm_M → Int32 → Int32 → Option (Int32 × fm_M)
  | 0, _, _, _ => none
  | k + 1, M, l1, l2 =>
    if (M.1 2 1) ≤ l2 then
      k7 M (l1 + 1)
    else
      fm_b l1 12 <|
      fm_b l2 12 <|
      if (M.1 7 l1.toNatClampNeg) = (M.1 7 l2.toNatClampNeg) then
        fX9_crossed_51 n k7 (fX9_crossed_21 n k7 k) M l1 l2 1
      else
        fX9_crossed_51 n k7 (fX9_crossed_21 n k7 k) M l1 l2 0
def fX9_crossed_7 (n : Nat) : Nat → fm_M → Int32 → Option (Int32 × fm_M)
  | 0, _, _ => none
  | k + 1, M, l1 =>
    if (M.1 2 1) ≤ l1 then
      some ((-9), M)
    else
      fX9_crossed_21 n (fX9_crossed_7 n k) n M l1 (l1 + 1)
def fX9_crossed (n : Nat) (M : fm_M) : Option (Int32 × fm_M) :=
  fm_let (fm_wr M 0 0 0) fun M1 =>
  fX9_crossed_7 n n M1 0
theorem hdX9_crossed : yX9_crossed.cls = RX9 ∧ yX9_crossed.cls ≠ "java/lang/invoke/MethodHandle" ∧ yX9_crossed.cls ≠ "java/lang/invoke/VarHandle" ∧ (parseMethodDescriptor yX9_crossed.desc).map (fun d => d.parameters.length) = some 0 := by decide +kernel
set_option maxHeartbeats 4000000 in
theorem wX9_crossed_72 {X : fm_X} {D : va_G} {dA : Nat → ClassId} {ad : Nat → Nat} {n : Nat}  {r : Int32} (F : fm_F X (YM D dA ad) cX9_crossed 5 RX9 rmX9_crossed) {M' : fm_M} (E : fm_E X (YM D dA ad) (some (.int r)) M' (some .int)) {k7 : fm_M → Int32 → Option (Int32 × fm_M)} (hk7 : ∀ (M : fm_M) (l1 : Int32), k7 M l1 = some (r, M') → fm_G X (YM D dA ad) (0, 0) 5 M 7 [(0, .ref (ad 0)), (1, .int l1)] []) {k21 : fm_M → Int32 → Int32 → Option (Int32 × fm_M)} (hk21 : ∀ (M : fm_M) (l1 : Int32) (l2 : Int32), k21 M l1 l2 = some (r, M') → fm_G X (YM D dA ad) (0, 0) 5 M 21 [(0, .ref (ad 0)), (1, .int l1), (2, .int l2)] []) : ∀ (M : fm_M) (l1 : Int32) (l2 : Int32) (l3 : Int32) (s0 : Int32), fX9_crossed_72 n k7 k21 M l1 l2 l3 s0 = some (r, M') → fm_G X (YM D dA ad) (0, 0) 5 M 72 [(0, .ref (ad 0)), (1, .int l1), (2, .int l2), (3, .int l3)] [.int s0] := by
  intro M l1 l2 l3 s0 hf
  unfold fX9_crossed_72 at hf
  refine fm_istore (lv' := [(4, .int s0), (0, .ref (ad 0)), (1, .int l1), (2, .int l2), (3, .int l3)]) (pc := 72) F dX9_crossed_72 (fm_lt rfl) rfl ?_
  refine fm_aload_n (pc := 74) F dX9_crossed_74 1 rfl ?_
  refine fm_get (v := .ref (ad 9)) (pc := 75) F (ci := 9) (T := TX9) (n := 29) rfl in_X9 16 (fm_lt rfl) dX9_crossed_75 q811 0 (fm_lt rfl) rfl rfl ?_
  refine fm_iload_n (pc := 78) F dX9_crossed_78 2 rfl ?_
  obtain ⟨b1, hf⟩ := fm_b_inv hf
  refine fm_iald (pc := 79) F dX9_crossed_79 9 (fm_lt rfl) rfl b1 ?_
  refine fm_aload_n (pc := 80) F dX9_crossed_80 1 rfl ?_
  refine fm_get (v := .ref (ad 9)) (pc := 81) F (ci := 9) (T := TX9) (n := 29) rfl in_X9 16 (fm_lt rfl) dX9_crossed_81 q811 0 (fm_lt rfl) rfl rfl ?_
  refine fm_iload_n (pc := 84) F dX9_crossed_84 3 rfl ?_
  obtain ⟨b2, hf⟩ := fm_b_inv hf
  refine fm_iald (pc := 85) F dX9_crossed_85 9 (fm_lt rfl) rfl b2 ?_
  refine fm_icmp_ne (tgt := 102) (pc := 86) F dX9_crossed_86 (by decide) (fun c3 => ?_) (fun c3 => ?_)
  · replace hf := fm_in c3 hf
    refine fm_iinc (v := (l2 + 1)) (lv' := [(2, .int (l2 + 1)), (4, .int s0), (0, .ref (ad 0)), (1, .int l1), (3, .int l3)]) (pc := 102) F dX9_crossed_102 3 rfl rfl (fm_lt rfl) rfl ?_
    refine fm_goto (tgt := 21) (pc := 105) F dX9_crossed_105 (by decide) ?_
    refine fm_pick [2, 3, 0] rfl ?_
    exact hk21 _ _ _ hf
  · replace hf := fm_ip c3 hf
    refine fm_iload_n (pc := 89) F dX9_crossed_89 4 rfl ?_
    refine fm_iload (pc := 90) F dX9_crossed_90 0 rfl ?_
    refine fm_icmp_eq (tgt := 102) (pc := 92) F dX9_crossed_92 (by decide) (fun c4 => ?_) (fun c4 => ?_)
    · replace hf := fm_ip c4 hf
      refine fm_iinc (v := (l2 + 1)) (lv' := [(2, .int (l2 + 1)), (4, .int s0), (0, .ref (ad 0)), (1, .int l1), (3, .int l3)]) (pc := 102) F dX9_crossed_102 3 rfl rfl (fm_lt rfl) rfl ?_
      refine fm_goto (tgt := 21) (pc := 105) F dX9_crossed_105 (by decide) ?_
      refine fm_pick [2, 3, 0] rfl ?_
      exact hk21 _ _ _ hf
    · replace hf := fm_in c4 hf
      refine fm_bipush (v := 10) (pc := 95) F dX9_crossed_95 (by decide) ?_
      refine fm_iload_n (pc := 97) F dX9_crossed_97 2 rfl ?_
      refine fm_imul (pc := 98) F dX9_crossed_98 ?_
      refine fm_iload_n (pc := 99) F dX9_crossed_99 3 rfl ?_
      refine fm_iadd (pc := 100) F dX9_crossed_100 ?_
      exact fm_iret (pc := 101) F E hf dX9_crossed_101
set_option maxHeartbeats 4000000 in
theorem wX9_crossed_51 {X : fm_X} {D : va_G} {dA : Nat → ClassId} {ad : Nat → Nat} {n : Nat}  {r : Int32} (F : fm_F X (YM D dA ad) cX9_crossed 5 RX9 rmX9_crossed) {M' : fm_M} (E : fm_E X (YM D dA ad) (some (.int r)) M' (some .int)) {k7 : fm_M → Int32 → Option (Int32 × fm_M)} (hk7 : ∀ (M : fm_M) (l1 : Int32), k7 M l1 = some (r, M') → fm_G X (YM D dA ad) (0, 0) 5 M 7 [(0, .ref (ad 0)), (1, .int l1)] []) {k21 : fm_M → Int32 → Int32 → Option (Int32 × fm_M)} (hk21 : ∀ (M : fm_M) (l1 : Int32) (l2 : Int32), k21 M l1 l2 = some (r, M') → fm_G X (YM D dA ad) (0, 0) 5 M 21 [(0, .ref (ad 0)), (1, .int l1), (2, .int l2)] []) : ∀ (M : fm_M) (l1 : Int32) (l2 : Int32) (s0 : Int32), fX9_crossed_51 n k7 k21 M l1 l2 s0 = some (r, M') → fm_G X (YM D dA ad) (0, 0) 5 M 51 [(0, .ref (ad 0)), (1, .int l1), (2, .int l2)] [.int s0] := by
  intro M l1 l2 s0 hf
  unfold fX9_crossed_51 at hf
  refine fm_istore_n (lv' := [(3, .int s0), (0, .ref (ad 0)), (1, .int l1), (2, .int l2)]) (pc := 51) F dX9_crossed_51 rfl (fm_lt rfl) rfl ?_
  refine fm_aload_n (pc := 52) F dX9_crossed_52 1 rfl ?_
  refine fm_get (v := .ref (ad 8)) (pc := 53) F (ci := 9) (T := TX9) (n := 29) rfl in_X9 15 (fm_lt rfl) dX9_crossed_53 q810 0 (fm_lt rfl) rfl rfl ?_
  refine fm_iload_n (pc := 56) F dX9_crossed_56 2 rfl ?_
  obtain ⟨b1, hf⟩ := fm_b_inv hf
  refine fm_iald (pc := 57) F dX9_crossed_57 8 (fm_lt rfl) rfl b1 ?_
  refine fm_aload_n (pc := 58) F dX9_crossed_58 1 rfl ?_
  refine fm_get (v := .ref (ad 8)) (pc := 59) F (ci := 9) (T := TX9) (n := 29) rfl in_X9 15 (fm_lt rfl) dX9_crossed_59 q810 0 (fm_lt rfl) rfl rfl ?_
  refine fm_iload_n (pc := 62) F dX9_crossed_62 3 rfl ?_
  obtain ⟨b2, hf⟩ := fm_b_inv hf
  refine fm_iald (pc := 63) F dX9_crossed_63 8 (fm_lt rfl) rfl b2 ?_
  refine fm_icmp_ne (tgt := 71) (pc := 64) F dX9_crossed_64 (by decide) (fun c3 => ?_) (fun c3 => ?_)
  · replace hf := fm_in c3 hf
    refine fm_iconst (v := 0) (pc := 71) F dX9_crossed_71 (by decide) ?_
    refine fm_pick [1, 2, 3, 0] rfl ?_
    exact wX9_crossed_72 F E hk7 hk21 _ _ _ _ _ hf
  · replace hf := fm_ip c3 hf
    refine fm_iconst (v := 1) (pc := 67) F dX9_crossed_67 (by decide) ?_
    refine fm_goto (tgt := 72) (pc := 68) F dX9_crossed_68 (by decide) ?_
    refine fm_pick [1, 2, 3, 0] rfl ?_
    exact wX9_crossed_72 F E hk7 hk21 _ _ _ _ _ hf
set_option maxHeartbeats 4000000 in
theorem wX9_crossed_21 {X : fm_X} {D : va_G} {dA : Nat → ClassId} {ad : Nat → Nat} {n : Nat}  {r : Int32} (F : fm_F X (YM D dA ad) cX9_crossed 5 RX9 rmX9_crossed) {M' : fm_M} (E : fm_E X (YM D dA ad) (some (.int r)) M' (some .int)) {k7 : fm_M → Int32 → Option (Int32 × fm_M)} (hk7 : ∀ (M : fm_M) (l1 : Int32), k7 M l1 = some (r, M') → fm_G X (YM D dA ad) (0, 0) 5 M 7 [(0, .ref (ad 0)), (1, .int l1)] []) : ∀ (k : Nat) (M : fm_M) (l1 : Int32) (l2 : Int32), fX9_crossed_21 n k7 k M l1 l2 = some (r, M') → fm_G X (YM D dA ad) (0, 0) 5 M 21 [(0, .ref (ad 0)), (1, .int l1), (2, .int l2)] [] := by
  intro k
  induction k with
  | zero =>
    intro M l1 l2 hf
    rw [fX9_crossed_21] at hf
    cases hf
  | succ k ih =>
    intro M l1 l2 hf
    rw [fX9_crossed_21] at hf
    refine fm_iload_n (pc := 21) F dX9_crossed_21 2 rfl ?_
    refine fm_aload_n (pc := 22) F dX9_crossed_22 0 rfl ?_
    refine fm_get (v := .ref (ad 2)) (pc := 23) F (ci := 9) (T := TX9) (n := 29) rfl in_X9 9 (fm_lt rfl) dX9_crossed_23 q804 0 (fm_lt rfl) rfl rfl ?_
    refine fm_iconst (v := 1) (pc := 26) F dX9_crossed_26 (by decide) ?_
    refine fm_ialdK (pc := 27) F dX9_crossed_27 2 (fm_lt rfl) rfl 1 (fm_ok (by decide)) rfl ?_
    refine fm_icmp_ge (tgt := 108) (pc := 28) F dX9_crossed_28 (by decide) (fun c1 => ?_) (fun c1 => ?_)
    · replace hf := fm_ip c1 hf
      refine fm_iinc (v := (l1 + 1)) (lv' := [(1, .int (l1 + 1)), (0, .ref (ad 0)), (2, .int l2)]) (pc := 108) F dX9_crossed_108 1 rfl rfl (fm_lt rfl) rfl ?_
      refine fm_goto (tgt := 7) (pc := 111) F dX9_crossed_111 (by decide) ?_
      refine fm_pick [1, 0] rfl ?_
      exact hk7 _ _ hf
    · replace hf := fm_in c1 hf
      refine fm_aload_n (pc := 31) F dX9_crossed_31 0 rfl ?_
      refine fm_get (v := .ref (ad 7)) (pc := 32) F (ci := 9) (T := TX9) (n := 29) rfl in_X9 14 (fm_lt rfl) dX9_crossed_32 q809 0 (fm_lt rfl) rfl rfl ?_
      refine fm_iload_n (pc := 35) F dX9_crossed_35 1 rfl ?_
      obtain ⟨b2, hf⟩ := fm_b_inv hf
      refine fm_iald (pc := 36) F dX9_crossed_36 7 (fm_lt rfl) rfl b2 ?_
      refine fm_aload_n (pc := 37) F dX9_crossed_37 0 rfl ?_
      refine fm_get (v := .ref (ad 7)) (pc := 38) F (ci := 9) (T := TX9) (n := 29) rfl in_X9 14 (fm_lt rfl) dX9_crossed_38 q809 0 (fm_lt rfl) rfl rfl ?_
      refine fm_iload_n (pc := 41) F dX9_crossed_41 2 rfl ?_
      obtain ⟨b3, hf⟩ := fm_b_inv hf
      refine fm_iald (pc := 42) F dX9_crossed_42 7 (fm_lt rfl) rfl b3 ?_
      refine fm_icmp_ne (tgt := 50) (pc := 43) F dX9_crossed_43 (by decide) (fun c4 => ?_) (fun c4 => ?_)
      · replace hf := fm_in c4 hf
        refine fm_iconst (v := 0) (pc := 50) F dX9_crossed_50 (by decide) ?_
        exact wX9_crossed_51 F E hk7 ih _ _ _ _ hf
      · replace hf := fm_ip c4 hf
        refine fm_iconst (v := 1) (pc := 46) F dX9_crossed_46 (by decide) ?_
        refine fm_goto (tgt := 51) (pc := 47) F dX9_crossed_47 (by decide) ?_
        exact wX9_crossed_51 F E hk7 ih _ _ _ _ hf
set_option maxHeartbeats 4000000 in
theorem wX9_crossed_7 {X : fm_X} {D : va_G} {dA : Nat → ClassId} {ad : Nat → Nat} {n : Nat}  {r : Int32} (F : fm_F X (YM D dA ad) cX9_crossed 5 RX9 rmX9_crossed) {M' : fm_M} (E : fm_E X (YM D dA ad) (some (.int r)) M' (some .int)) : ∀ (k : Nat) (M : fm_M) (l1 : Int32), fX9_crossed_7 n k M l1 = some (r, M') → fm_G X (YM D dA ad) (0, 0) 5 M 7 [(0, .ref (ad 0)), (1, .int l1)] [] := by
  intro k
  induction k with
  | zero =>
    intro M l1 hf
    rw [fX9_crossed_7] at hf
    cases hf
  | succ k ih =>
    intro M l1 hf
    rw [fX9_crossed_7] at hf
    refine fm_iload_n (pc := 7) F dX9_crossed_7 1 rfl ?_
    refine fm_aload_n (pc := 8) F dX9_crossed_8 0 rfl ?_
    refine fm_get (v := .ref (ad 2)) (pc := 9) F (ci := 9) (T := TX9) (n := 29) rfl in_X9 9 (fm_lt rfl) dX9_crossed_9 q804 0 (fm_lt rfl) rfl rfl ?_
    refine fm_iconst (v := 1) (pc := 12) F dX9_crossed_12 (by decide) ?_
    refine fm_ialdK (pc := 13) F dX9_crossed_13 2 (fm_lt rfl) rfl 1 (fm_ok (by decide)) rfl ?_
    refine fm_icmp_ge (tgt := 114) (pc := 14) F dX9_crossed_14 (by decide) (fun c1 => ?_) (fun c1 => ?_)
    · replace hf := fm_ip c1 hf
      refine fm_bipush (v := (-9)) (pc := 114) F dX9_crossed_114 (by decide) ?_
      exact fm_iret (pc := 116) F E hf dX9_crossed_116
    · replace hf := fm_in c1 hf
      refine fm_iload_n (pc := 17) F dX9_crossed_17 1 rfl ?_
      refine fm_iconst (v := 1) (pc := 18) F dX9_crossed_18 (by decide) ?_
      refine fm_iadd (pc := 19) F dX9_crossed_19 ?_
      refine fm_istore_n (lv' := [(2, .int (l1 + 1)), (0, .ref (ad 0)), (1, .int l1)]) (pc := 20) F dX9_crossed_20 rfl (fm_lt rfl) rfl ?_
      refine fm_pick [1, 2, 0] rfl ?_
      exact wX9_crossed_21 F E ih n _ _ _ hf
set_option maxHeartbeats 4000000 in
theorem mX9_crossed {l : Launch} {D : va_G} {dA : Nat → ClassId} {ad : Nat → Nat} {n : Nat}  (inj : ∀ i j, i < 20 → j < 20 → ad i = ad j → i = j) {M M' : fm_M} {r : Int32} (hf : fX9_crossed n M = some (r, M')) : fm_C l yX9_crossed (ws_ yX9_crossed cX9_crossed 5 (some .int)) rmX9_crossed (YM D dA ad) [.ref (ad 0)] M (some (.int r)) M' := by
  refine fm_enter (by decide) rfl (fm_le rfl) inj ?_
  intro X hXl F E
  subst hXl
  unfold fX9_crossed at hf
  show fm_G X (YM D dA ad) (0, 0) 5 M 0 [(0, .ref (ad 0))] []
  refine fm_aload_n (pc := 0) F dX9_crossed_0 0 rfl ?_
  refine fm_iconst (v := 0) (pc := 1) F dX9_crossed_1 (by decide) ?_
  refine fm_putI (v := 0) (pc := 2) F clX9 0 (fm_lt rfl) dX9_crossed_2 q795 rfl rfl 0 (fm_lt rfl) rfl (fm_lt rfl) rfl ?_
  refine fm_nameM (fun M1 eM1 => ?_)
  replace hf := fm_let_inv eM1 hf
  refine fm_iconst (v := 0) (pc := 5) F dX9_crossed_5 (by decide) ?_
  refine fm_istore_n (lv' := [(1, .int 0), (0, .ref (ad 0))]) (pc := 6) F dX9_crossed_6 rfl (fm_lt rfl) rfl ?_
  refine fm_pick [1, 0] rfl ?_
  exact wX9_crossed_7 F E n _ _ hf
abbrev rmX9_oaths : Room := { frames := 3, cells := 0, slots := 0, locals := 102 }
def fX9_oaths_20 (n : Nat) : Nat → fm_M → Int32 → Int32 → Int32 → Option (Int32 × fm_M)
  | 0, _, _, _, _ => none
  | k + 1, M, l1, l2, l3 =>
    if (M.1 2 1) ≤ l3 then
      some (l2, M)
    else
      fm_b (14 + l3) 56 <|
      if (M.1 11 (14 + l3).toNatClampNeg) = l1 then
        fX9_oaths_20 n k M l1 (l2 + 1) (l3 + 1)
      else
        fX9_oaths_20 n k M l1 (l2 + 0) (l3 + 1)
def fX9_oaths (n : Nat) (M : fm_M) (l1 : Int32) : Option (Int32 × fm_M) :=
  fm_let (fm_wr M 0 0 0) fun M1 =>
  fm_bi (fX9_in n M1 l1 0 2) fun r2 M3 =>
  if r2 = 0 then
    some ((-1), M3)
  else
    fX9_oaths_20 n n M3 l1 0 0
theorem hdX9_oaths : yX9_oaths.cls = RX9 ∧ yX9_oaths.cls ≠ "java/lang/invoke/MethodHandle" ∧ yX9_oaths.cls ≠ "java/lang/invoke/VarHandle" ∧ (parseMethodDescriptor yX9_oaths.desc).map (fun d => d.parameters.length) = some 1 := by decide +kernel
set_option maxHeartbeats 4000000 in
theorem wX9_oaths_20 {X : fm_X} {D : va_G} {dA : Nat → ClassId} {ad : Nat → Nat} {n : Nat}  {r : Int32} (F : fm_F X (YM D dA ad) cX9_oaths 4 RX9 rmX9_oaths) {M' : fm_M} (E : fm_E X (YM D dA ad) (some (.int r)) M' (some .int)) : ∀ (k : Nat) (M : fm_M) (l1 : Int32) (l2 : Int32) (l3 : Int32), fX9_oaths_20 n k M l1 l2 l3 = some (r, M') → fm_G X (YM D dA ad) (0, 0) 4 M 20 [(0, .ref (ad 0)), (1, .int l1), (2, .int l2), (3, .int l3)] [] := by
  intro k
  induction k with
  | zero =>
    intro M l1 l2 l3 hf
    rw [fX9_oaths_20] at hf
    cases hf
  | succ k ih =>
    intro M l1 l2 l3 hf
    rw [fX9_oaths_20] at hf
    refine fm_iload_n (pc := 20) F dX9_oaths_20 3 rfl ?_
    refine fm_aload_n (pc := 21) F dX9_oaths_21 0 rfl ?_
    refine fm_get (v := .ref (ad 2)) (pc := 22) F (ci := 9) (T := TX9) (n := 29) rfl in_X9 9 (fm_lt rfl) dX9_oaths_22 q804 0 (fm_lt rfl) rfl rfl ?_
    refine fm_iconst (v := 1) (pc := 25) F dX9_oaths_25 (by decide) ?_
    refine fm_ialdK (pc := 26) F dX9_oaths_26 2 (fm_lt rfl) rfl 1 (fm_ok (by decide)) rfl ?_
    refine fm_icmp_ge (tgt := 57) (pc := 27) F dX9_oaths_27 (by decide) (fun c1 => ?_) (fun c1 => ?_)
    · replace hf := fm_ip c1 hf
      refine fm_iload_n (pc := 57) F dX9_oaths_57 2 rfl ?_
      exact fm_iret (pc := 58) F E hf dX9_oaths_58
    · replace hf := fm_in c1 hf
      refine fm_iload_n (pc := 30) F dX9_oaths_30 2 rfl ?_
      refine fm_aload_n (pc := 31) F dX9_oaths_31 0 rfl ?_
      refine fm_get (v := .ref (ad 11)) (pc := 32) F (ci := 9) (T := TX9) (n := 29) rfl in_X9 18 (fm_lt rfl) dX9_oaths_32 q813 0 (fm_lt rfl) rfl rfl ?_
      refine fm_bipush (v := 14) (pc := 35) F dX9_oaths_35 (by decide) ?_
      refine fm_iload_n (pc := 37) F dX9_oaths_37 3 rfl ?_
      refine fm_iadd (pc := 38) F dX9_oaths_38 ?_
      obtain ⟨b2, hf⟩ := fm_b_inv hf
      refine fm_iald (pc := 39) F dX9_oaths_39 11 (fm_lt rfl) rfl b2 ?_
      refine fm_iload_n (pc := 40) F dX9_oaths_40 1 rfl ?_
      refine fm_icmp_ne (tgt := 48) (pc := 41) F dX9_oaths_41 (by decide) (fun c3 => ?_) (fun c3 => ?_)
      · replace hf := fm_in c3 hf
        refine fm_iconst (v := 0) (pc := 48) F dX9_oaths_48 (by decide) ?_
        refine fm_iadd (pc := 49) F dX9_oaths_49 ?_
        refine fm_istore_n (lv' := [(2, .int (l2 + 0)), (0, .ref (ad 0)), (1, .int l1), (3, .int l3)]) (pc := 50) F dX9_oaths_50 rfl (fm_lt rfl) rfl ?_
        refine fm_iinc (v := (l3 + 1)) (lv' := [(3, .int (l3 + 1)), (2, .int (l2 + 0)), (0, .ref (ad 0)), (1, .int l1)]) (pc := 51) F dX9_oaths_51 3 rfl rfl (fm_lt rfl) rfl ?_
        refine fm_goto (tgt := 20) (pc := 54) F dX9_oaths_54 (by decide) ?_
        refine fm_pick [2, 3, 1, 0] rfl ?_
        exact ih _ _ _ _ hf
      · replace hf := fm_ip c3 hf
        refine fm_iconst (v := 1) (pc := 44) F dX9_oaths_44 (by decide) ?_
        refine fm_goto (tgt := 49) (pc := 45) F dX9_oaths_45 (by decide) ?_
        refine fm_iadd (pc := 49) F dX9_oaths_49 ?_
        refine fm_istore_n (lv' := [(2, .int (l2 + 1)), (0, .ref (ad 0)), (1, .int l1), (3, .int l3)]) (pc := 50) F dX9_oaths_50 rfl (fm_lt rfl) rfl ?_
        refine fm_iinc (v := (l3 + 1)) (lv' := [(3, .int (l3 + 1)), (2, .int (l2 + 1)), (0, .ref (ad 0)), (1, .int l1)]) (pc := 51) F dX9_oaths_51 3 rfl rfl (fm_lt rfl) rfl ?_
        refine fm_goto (tgt := 20) (pc := 54) F dX9_oaths_54 (by decide) ?_
        refine fm_pick [2, 3, 1, 0] rfl ?_
        exact ih _ _ _ _ hf
set_option maxHeartbeats 4000000 in
theorem mX9_oaths {l : Launch} {D : va_G} {dA : Nat → ClassId} {ad : Nat → Nat} {n : Nat}  (inj : ∀ i j, i < 20 → j < 20 → ad i = ad j → i = j) {M M' : fm_M} {l1 : Int32} {r : Int32} (hf : fX9_oaths n M l1 = some (r, M')) : fm_C l yX9_oaths (ws_ yX9_oaths cX9_oaths 4 (some .int)) rmX9_oaths (YM D dA ad) [.ref (ad 0), .int l1] M (some (.int r)) M' := by
  refine fm_enter (by decide) rfl (fm_le rfl) inj ?_
  intro X hXl F E
  subst hXl
  unfold fX9_oaths at hf
  show fm_G X (YM D dA ad) (0, 0) 4 M 0 [(0, .ref (ad 0)), (1, .int l1)] []
  refine fm_aload_n (pc := 0) F dX9_oaths_0 0 rfl ?_
  refine fm_iconst (v := 0) (pc := 1) F dX9_oaths_1 (by decide) ?_
  refine fm_putI (v := 0) (pc := 2) F clX9 0 (fm_lt rfl) dX9_oaths_2 q795 rfl rfl 0 (fm_lt rfl) rfl (fm_lt rfl) rfl ?_
  refine fm_nameM (fun M1 eM1 => ?_)
  replace hf := fm_let_inv eM1 hf
  refine fm_iload_n (pc := 5) F dX9_oaths_5 1 rfl ?_
  refine fm_iconst (v := 0) (pc := 6) F dX9_oaths_6 (by decide) ?_
  refine fm_iconst (v := 2) (pc := 7) F dX9_oaths_7 (by decide) ?_
  obtain ⟨r2, M3, h4, hf⟩ := fm_bi_inv hf
  refine fm_callS (As := [.int l1, .int 0, .int 2]) (rest := []) (pc := 8) F (mX9_in F.inj h4) q887 q888 q50 q889 ⟨rfl, rfl⟩ hdX9_in.2 ⟨fm_le rfl, fm_le rfl, Nat.zero_le _, Nat.zero_le _⟩ rfl rfl (fm_le rfl) dX9_oaths_8 ?_
  refine fm_if_ne (tgt := 16) (pc := 11) F dX9_oaths_11 (by decide) (fun c6 => ?_) (fun c6 => ?_)
  · replace hf := fm_in c6 hf
    refine fm_iconst (v := 0) (pc := 16) F dX9_oaths_16 (by decide) ?_
    refine fm_istore_n (lv' := [(2, .int 0), (0, .ref (ad 0)), (1, .int l1)]) (pc := 17) F dX9_oaths_17 rfl (fm_lt rfl) rfl ?_
    refine fm_iconst (v := 0) (pc := 18) F dX9_oaths_18 (by decide) ?_
    refine fm_istore_n (lv' := [(3, .int 0), (2, .int 0), (0, .ref (ad 0)), (1, .int l1)]) (pc := 19) F dX9_oaths_19 rfl (fm_lt rfl) rfl ?_
    refine fm_pick [2, 3, 1, 0] rfl ?_
    exact wX9_oaths_20 F E n _ _ _ _ hf
  · replace hf := fm_ip c6 hf
    refine fm_iconst (v := (-1)) (pc := 14) F dX9_oaths_14 (by decide) ?_
    exact fm_iret (pc := 15) F E hf dX9_oaths_15
abbrev rmX9_strokes : Room := { frames := 4, cells := 0, slots := 0, locals := 123 }
def fX9_strokes (n : Nat) (M : fm_M) (l1 : Int32) (l2 : Int32) : Option (Int32 × fm_M) :=
  fm_let (fm_wr M 0 0 0) fun M1 =>
  fm_bi (fX9_isTown n M1 l1) fun r2 M3 =>
  if r2 = 0 then
    some ((-1), M3)
  else
    fm_bi (fX9_isTown n M3 l2) fun r7 M8 =>
    if r7 = 0 then
      some ((-1), M8)
    else
      fm_b ((20 + (6 * l1)) + l2) 56 <|
      some ((M8.1 11 ((20 + (6 * l1)) + l2).toNatClampNeg), M8)
theorem hdX9_strokes : yX9_strokes.cls = RX9 ∧ yX9_strokes.cls ≠ "java/lang/invoke/MethodHandle" ∧ yX9_strokes.cls ≠ "java/lang/invoke/VarHandle" ∧ (parseMethodDescriptor yX9_strokes.desc).map (fun d => d.parameters.length) = some 2 := by decide +kernel
set_option maxHeartbeats 4000000 in
theorem mX9_strokes {l : Launch} {D : va_G} {dA : Nat → ClassId} {ad : Nat → Nat} {n : Nat}  (inj : ∀ i j, i < 20 → j < 20 → ad i = ad j → i = j) {M M' : fm_M} {l1 : Int32} {l2 : Int32} {r : Int32} (hf : fX9_strokes n M l1 l2 = some (r, M')) : fm_C l yX9_strokes (ws_ yX9_strokes cX9_strokes 3 (some .int)) rmX9_strokes (YM D dA ad) [.ref (ad 0), .int l1, .int l2] M (some (.int r)) M' := by
  refine fm_enter (by decide) rfl (fm_le rfl) inj ?_
  intro X hXl F E
  subst hXl
  unfold fX9_strokes at hf
  show fm_G X (YM D dA ad) (0, 0) 3 M 0 [(0, .ref (ad 0)), (1, .int l1), (2, .int l2)] []
  refine fm_aload_n (pc := 0) F dX9_strokes_0 0 rfl ?_
  refine fm_iconst (v := 0) (pc := 1) F dX9_strokes_1 (by decide) ?_
  refine fm_putI (v := 0) (pc := 2) F clX9 0 (fm_lt rfl) dX9_strokes_2 q795 rfl rfl 0 (fm_lt rfl) rfl (fm_lt rfl) rfl ?_
  refine fm_nameM (fun M1 eM1 => ?_)
  replace hf := fm_let_inv eM1 hf
  refine fm_aload_n (pc := 5) F dX9_strokes_5 0 rfl ?_
  refine fm_iload_n (pc := 6) F dX9_strokes_6 1 rfl ?_
  obtain ⟨r2, M3, h4, hf⟩ := fm_bi_inv hf
  refine fm_callV (As := [.int l1]) (rest := []) (pc := 7) F (ci := 9) 0 (fm_lt rfl) rfl rfl (mX9_isTown F.inj h4) q931 q933 qs25 q50 q934 ⟨rfl, rfl⟩ hdX9_isTown ⟨fm_le rfl, fm_le rfl, Nat.zero_le _, Nat.zero_le _⟩ rfl rfl (fm_le rfl) dX9_strokes_7 ?_
  refine fm_if_eq (tgt := 38) (pc := 10) F dX9_strokes_10 (by decide) (fun c6 => ?_) (fun c6 => ?_)
  · replace hf := fm_ip c6 hf
    refine fm_iconst (v := (-1)) (pc := 38) F dX9_strokes_38 (by decide) ?_
    exact fm_iret (pc := 39) F E hf dX9_strokes_39
  · replace hf := fm_in c6 hf
    refine fm_aload_n (pc := 13) F dX9_strokes_13 0 rfl ?_
    refine fm_iload_n (pc := 14) F dX9_strokes_14 2 rfl ?_
    obtain ⟨r7, M8, h9, hf⟩ := fm_bi_inv hf
    refine fm_callV (As := [.int l2]) (rest := []) (pc := 15) F (ci := 9) 0 (fm_lt rfl) rfl rfl (mX9_isTown F.inj h9) q931 q933 qs25 q50 q934 ⟨rfl, rfl⟩ hdX9_isTown ⟨fm_le rfl, fm_le rfl, Nat.zero_le _, Nat.zero_le _⟩ rfl rfl (fm_le rfl) dX9_strokes_15 ?_
    refine fm_if_eq (tgt := 38) (pc := 18) F dX9_strokes_18 (by decide) (fun c11 => ?_) (fun c11 => ?_)
    · replace hf := fm_ip c11 hf
      refine fm_iconst (v := (-1)) (pc := 38) F dX9_strokes_38 (by decide) ?_
      exact fm_iret (pc := 39) F E hf dX9_strokes_39
    · replace hf := fm_in c11 hf
      refine fm_aload_n (pc := 21) F dX9_strokes_21 0 rfl ?_
      refine fm_get (v := .ref (ad 11)) (pc := 22) F (ci := 9) (T := TX9) (n := 29) rfl in_X9 18 (fm_lt rfl) dX9_strokes_22 q813 0 (fm_lt rfl) rfl rfl ?_
      refine fm_bipush (v := 20) (pc := 25) F dX9_strokes_25 (by decide) ?_
      refine fm_bipush (v := 6) (pc := 27) F dX9_strokes_27 (by decide) ?_
      refine fm_iload_n (pc := 29) F dX9_strokes_29 1 rfl ?_
      refine fm_imul (pc := 30) F dX9_strokes_30 ?_
      refine fm_iadd (pc := 31) F dX9_strokes_31 ?_
      refine fm_iload_n (pc := 32) F dX9_strokes_32 2 rfl ?_
      refine fm_iadd (pc := 33) F dX9_strokes_33 ?_
      obtain ⟨b12, hf⟩ := fm_b_inv hf
      refine fm_iald (pc := 34) F dX9_strokes_34 11 (fm_lt rfl) rfl b12 ?_
      refine fm_goto (tgt := 39) (pc := 35) F dX9_strokes_35 (by decide) ?_
      exact fm_iret (pc := 39) F E hf dX9_strokes_39
abbrev rmX9_found : Room := { frames := 4, cells := 0, slots := 0, locals := 123 }
def fX9_found (n : Nat) (M : fm_M) (l1 : Int32) (l2 : Int32) : Option (Int32 × fm_M) :=
  fm_let (fm_wr M 0 0 0) fun M1 =>
  fm_bi (fX9_isTown n M1 l1) fun r2 M3 =>
  if r2 = 0 then
    some ((-1), M3)
  else
    fm_bi (fX9_isTown n M3 l2) fun r7 M8 =>
    if r7 = 0 then
      some ((-1), M8)
    else
      if (M8.1 0 26) = 5 then
        some ((-3), M8)
      else
        fm_b (M8.1 0 26) 5 <|
        fm_let (fm_wr M8 16 (M8.1 0 26).toNatClampNeg l1) fun M14 =>
        fm_b (M14.1 0 26) 5 <|
        fm_let (fm_wr M14 17 (M14.1 0 26).toNatClampNeg l2) fun M16 =>
        fm_let (fm_wr M16 0 26 ((M16.1 0 26) + 1)) fun M17 =>
        some ((M17.1 0 26), M17)
theorem hdX9_found : yX9_found.cls = RX9 ∧ yX9_found.cls ≠ "java/lang/invoke/MethodHandle" ∧ yX9_found.cls ≠ "java/lang/invoke/VarHandle" ∧ (parseMethodDescriptor yX9_found.desc).map (fun d => d.parameters.length) = some 2 := by decide +kernel
set_option maxHeartbeats 4000000 in
theorem mX9_found {l : Launch} {D : va_G} {dA : Nat → ClassId} {ad : Nat → Nat} {n : Nat}  (inj : ∀ i j, i < 20 → j < 20 → ad i = ad j → i = j) {M M' : fm_M} {l1 : Int32} {l2 : Int32} {r : Int32} (hf : fX9_found n M l1 l2 = some (r, M')) : fm_C l yX9_found (ws_ yX9_found cX9_found 3 (some .int)) rmX9_found (YM D dA ad) [.ref (ad 0), .int l1, .int l2] M (some (.int r)) M' := by
  refine fm_enter (by decide) rfl (fm_le rfl) inj ?_
  intro X hXl F E
  subst hXl
  unfold fX9_found at hf
  show fm_G X (YM D dA ad) (0, 0) 3 M 0 [(0, .ref (ad 0)), (1, .int l1), (2, .int l2)] []
  refine fm_aload_n (pc := 0) F dX9_found_0 0 rfl ?_
  refine fm_iconst (v := 0) (pc := 1) F dX9_found_1 (by decide) ?_
  refine fm_putI (v := 0) (pc := 2) F clX9 0 (fm_lt rfl) dX9_found_2 q795 rfl rfl 0 (fm_lt rfl) rfl (fm_lt rfl) rfl ?_
  refine fm_nameM (fun M1 eM1 => ?_)
  replace hf := fm_let_inv eM1 hf
  refine fm_aload_n (pc := 5) F dX9_found_5 0 rfl ?_
  refine fm_iload_n (pc := 6) F dX9_found_6 1 rfl ?_
  obtain ⟨r2, M3, h4, hf⟩ := fm_bi_inv hf
  refine fm_callV (As := [.int l1]) (rest := []) (pc := 7) F (ci := 9) 0 (fm_lt rfl) rfl rfl (mX9_isTown F.inj h4) q931 q933 qs25 q50 q934 ⟨rfl, rfl⟩ hdX9_isTown ⟨fm_le rfl, fm_le rfl, Nat.zero_le _, Nat.zero_le _⟩ rfl rfl (fm_le rfl) dX9_found_7 ?_
  refine fm_if_eq (tgt := 21) (pc := 10) F dX9_found_10 (by decide) (fun c6 => ?_) (fun c6 => ?_)
  · replace hf := fm_ip c6 hf
    refine fm_iconst (v := (-1)) (pc := 21) F dX9_found_21 (by decide) ?_
    exact fm_iret (pc := 22) F E hf dX9_found_22
  · replace hf := fm_in c6 hf
    refine fm_aload_n (pc := 13) F dX9_found_13 0 rfl ?_
    refine fm_iload_n (pc := 14) F dX9_found_14 2 rfl ?_
    obtain ⟨r7, M8, h9, hf⟩ := fm_bi_inv hf
    refine fm_callV (As := [.int l2]) (rest := []) (pc := 15) F (ci := 9) 0 (fm_lt rfl) rfl rfl (mX9_isTown F.inj h9) q931 q933 qs25 q50 q934 ⟨rfl, rfl⟩ hdX9_isTown ⟨fm_le rfl, fm_le rfl, Nat.zero_le _, Nat.zero_le _⟩ rfl rfl (fm_le rfl) dX9_found_15 ?_
    refine fm_if_ne (tgt := 23) (pc := 18) F dX9_found_18 (by decide) (fun c11 => ?_) (fun c11 => ?_)
    · replace hf := fm_in c11 hf
      refine fm_aload_n (pc := 23) F dX9_found_23 0 rfl ?_
      refine fm_get (v := .int (M8.1 0 26)) (pc := 24) F (ci := 9) (T := TX9) (n := 29) rfl in_X9 26 (fm_lt rfl) dX9_found_24 q821 0 (fm_lt rfl) rfl rfl ?_
      refine fm_iconst (v := 5) (pc := 27) F dX9_found_27 (by decide) ?_
      refine fm_icmp_ne (tgt := 34) (pc := 28) F dX9_found_28 (by decide) (fun c12 => ?_) (fun c12 => ?_)
      · replace hf := fm_in c12 hf
        refine fm_aload_n (pc := 34) F dX9_found_34 0 rfl ?_
        refine fm_get (v := .ref (ad 16)) (pc := 35) F (ci := 9) (T := TX9) (n := 29) rfl in_X9 24 (fm_lt rfl) dX9_found_35 q819 0 (fm_lt rfl) rfl rfl ?_
        refine fm_aload_n (pc := 38) F dX9_found_38 0 rfl ?_
        refine fm_get (v := .int (M8.1 0 26)) (pc := 39) F (ci := 9) (T := TX9) (n := 29) rfl in_X9 26 (fm_lt rfl) dX9_found_39 q821 0 (fm_lt rfl) rfl rfl ?_
        refine fm_iload_n (pc := 42) F dX9_found_42 1 rfl ?_
        obtain ⟨b13, hf⟩ := fm_b_inv hf
        refine fm_iast (pc := 43) F dX9_found_43 16 (fm_lt rfl) (fun _ => rfl) b13 ?_
        refine fm_nameM (fun M14 eM14 => ?_)
        replace hf := fm_let_inv eM14 hf
        refine fm_aload_n (pc := 44) F dX9_found_44 0 rfl ?_
        refine fm_get (v := .ref (ad 17)) (pc := 45) F (ci := 9) (T := TX9) (n := 29) rfl in_X9 25 (fm_lt rfl) dX9_found_45 q820 0 (fm_lt rfl) rfl rfl ?_
        refine fm_aload_n (pc := 48) F dX9_found_48 0 rfl ?_
        refine fm_get (v := .int (M14.1 0 26)) (pc := 49) F (ci := 9) (T := TX9) (n := 29) rfl in_X9 26 (fm_lt rfl) dX9_found_49 q821 0 (fm_lt rfl) rfl rfl ?_
        refine fm_iload_n (pc := 52) F dX9_found_52 2 rfl ?_
        obtain ⟨b15, hf⟩ := fm_b_inv hf
        refine fm_iast (pc := 53) F dX9_found_53 17 (fm_lt rfl) (fun _ => rfl) b15 ?_
        refine fm_nameM (fun M16 eM16 => ?_)
        replace hf := fm_let_inv eM16 hf
        refine fm_aload_n (pc := 54) F dX9_found_54 0 rfl ?_
        refine fm_dup (pc := 55) F dX9_found_55 rfl ?_
        refine fm_get (v := .int (M16.1 0 26)) (pc := 56) F (ci := 9) (T := TX9) (n := 29) rfl in_X9 26 (fm_lt rfl) dX9_found_56 q821 0 (fm_lt rfl) rfl rfl ?_
        refine fm_iconst (v := 1) (pc := 59) F dX9_found_59 (by decide) ?_
        refine fm_iadd (pc := 60) F dX9_found_60 ?_
        refine fm_putI (v := ((M16.1 0 26) + 1)) (pc := 61) F clX9 26 (fm_lt rfl) dX9_found_61 q821 rfl rfl 0 (fm_lt rfl) rfl (fm_lt rfl) rfl ?_
        refine fm_nameM (fun M17 eM17 => ?_)
        replace hf := fm_let_inv eM17 hf
        refine fm_aload_n (pc := 64) F dX9_found_64 0 rfl ?_
        refine fm_get (v := .int (M17.1 0 26)) (pc := 65) F (ci := 9) (T := TX9) (n := 29) rfl in_X9 26 (fm_lt rfl) dX9_found_65 q821 0 (fm_lt rfl) rfl rfl ?_
        exact fm_iret (pc := 68) F E hf dX9_found_68
      · replace hf := fm_ip c12 hf
        refine fm_bipush (v := (-3)) (pc := 31) F dX9_found_31 (by decide) ?_
        exact fm_iret (pc := 33) F E hf dX9_found_33
    · replace hf := fm_ip c11 hf
      refine fm_iconst (v := (-1)) (pc := 21) F dX9_found_21 (by decide) ?_
      exact fm_iret (pc := 22) F E hf dX9_found_22
abbrev rmX9_forget : Room := { frames := 2, cells := 0, slots := 0, locals := 80 }
def fX9_forget (n : Nat) (M : fm_M) : Option (Int32 × fm_M) :=
  fm_let (fm_wr M 0 0 0) fun M1 =>
  fm_let (fm_wr M1 0 26 0) fun M2 =>
  some ((M1.1 0 26), M2)
theorem hdX9_forget : yX9_forget.cls = RX9 ∧ yX9_forget.cls ≠ "java/lang/invoke/MethodHandle" ∧ yX9_forget.cls ≠ "java/lang/invoke/VarHandle" ∧ (parseMethodDescriptor yX9_forget.desc).map (fun d => d.parameters.length) = some 0 := by decide +kernel
set_option maxHeartbeats 4000000 in
theorem mX9_forget {l : Launch} {D : va_G} {dA : Nat → ClassId} {ad : Nat → Nat} {n : Nat}  (inj : ∀ i j, i < 20 → j < 20 → ad i = ad j → i = j) {M M' : fm_M} {r : Int32} (hf : fX9_forget n M = some (r, M')) : fm_C l yX9_forget (ws_ yX9_forget cX9_forget 2 (some .int)) rmX9_forget (YM D dA ad) [.ref (ad 0)] M (some (.int r)) M' := by
  refine fm_enter (by decide) rfl (fm_le rfl) inj ?_
  intro X hXl F E
  subst hXl
  unfold fX9_forget at hf
  show fm_G X (YM D dA ad) (0, 0) 2 M 0 [(0, .ref (ad 0))] []
  refine fm_aload_n (pc := 0) F dX9_forget_0 0 rfl ?_
  refine fm_iconst (v := 0) (pc := 1) F dX9_forget_1 (by decide) ?_
  refine fm_putI (v := 0) (pc := 2) F clX9 0 (fm_lt rfl) dX9_forget_2 q795 rfl rfl 0 (fm_lt rfl) rfl (fm_lt rfl) rfl ?_
  refine fm_nameM (fun M1 eM1 => ?_)
  replace hf := fm_let_inv eM1 hf
  refine fm_aload_n (pc := 5) F dX9_forget_5 0 rfl ?_
  refine fm_get (v := .int (M1.1 0 26)) (pc := 6) F (ci := 9) (T := TX9) (n := 29) rfl in_X9 26 (fm_lt rfl) dX9_forget_6 q821 0 (fm_lt rfl) rfl rfl ?_
  refine fm_istore_n (lv' := [(1, .int (M1.1 0 26)), (0, .ref (ad 0))]) (pc := 9) F dX9_forget_9 rfl (fm_lt rfl) rfl ?_
  refine fm_aload_n (pc := 10) F dX9_forget_10 1 rfl ?_
  refine fm_iconst (v := 0) (pc := 11) F dX9_forget_11 (by decide) ?_
  refine fm_putI (v := 0) (pc := 12) F clX9 26 (fm_lt rfl) dX9_forget_12 q821 rfl rfl 0 (fm_lt rfl) rfl (fm_lt rfl) rfl ?_
  refine fm_nameM (fun M2 eM2 => ?_)
  replace hf := fm_let_inv eM2 hf
  refine fm_iload_n (pc := 15) F dX9_forget_15 0 rfl ?_
  exact fm_iret (pc := 16) F E hf dX9_forget_16
abbrev rmX9_which : Room := { frames := 3, cells := 0, slots := 0, locals := 107 }
def fX9_which_115 (n : Nat) (k24 : fm_M → Int32 → Int32 → Int32 → Int32 → Option (Int32 × fm_M)) (M : fm_M) (l1 : Int32) (l2 : Int32) (l4 : Int32) (l5 : Int32) (s0 : Int32) : Option (Int32 × fm_M) :=
  if l5 = 0 then
    k24 M l1 (l2 + 0) s0 (l4 + 1)
  else
    k24 M l1 (l2 + 1) s0 (l4 + 1)
def fX9_which_114 (n : Nat) (k24 : fm_M → Int32 → Int32 → Int32 → Int32 → Option (Int32 × fm_M)) (M : fm_M) (l1 : Int32) (l2 : Int32) (l3 : Int32) (l4 : Int32) (l5 : Int32) : Option (Int32 × fm_M) :=
  fX9_which_115 n k24 M l1 l2 l4 l5 l3
def fX9_which_44 (n : Nat) (k24 : fm_M → Int32 → Int32 → Int32 → Int32 → Option (Int32 × fm_M)) : Nat → fm_M → Int32 → Int32 → Int32 → Int32 → Int32 → Int32 → Option (Int32 × fm_M)
  | 0, _, _, _, _, _, _, _ => none
  | k + 1, M, l1, l2, l3, l4, l5, l6 =>
    if (M.1 0 26) ≤ l6 then
      if l5 = 0 then
        fX9_which_114 n k24 M l1 l2 l3 l4 l5
      else
        if l2 = 0 then
          fX9_which_115 n k24 M l1 l2 l4 l5 l4
        else
          fX9_which_114 n k24 M l1 l2 l3 l4 l5
    else
      if l5 = 0 then
        fX9_which_44 n k24 k M l1 l2 l3 l4 0 (l6 + 1)
      else
        fm_b l6 5 <|
        fm_b (M.1 17 l6.toNatClampNeg) 6 <|
        fm_b (2 + (M.1 18 (M.1 17 l6.toNatClampNeg).toNatClampNeg)) 56 <|
        fm_let (M.1 11 (2 + (M.1 18 (M.1 17 l6.toNatClampNeg).toNatClampNeg)).toNatClampNeg) fun x8 =>
        fm_b l6 5 <|
        if x8 = (M.1 16 l6.toNatClampNeg) then
          fX9_which_44 n k24 k M l1 l2 l3 l4 1 (l6 + 1)
        else
          fX9_which_44 n k24 k M l1 l2 l3 l4 0 (l6 + 1)
def fX9_which_24 (n : Nat) : Nat → fm_M → Int32 → Int32 → Int32 → Int32 → Option (Int32 × fm_M)
  | 0, _, _, _, _, _ => none
  | k + 1, M, l1, l2, l3, l4 =>
    if 1000 ≤ l4 then
      if l1 = 0 then
        some (l2, M)
      else
        some (l3, M)
    else
      fm_bv (fX9_draws n M l4) fun M4 =>
      fX9_which_44 n (fX9_which_24 n k) n M4 l1 l2 l3 l4 1 0
def fX9_which (n : Nat) (M : fm_M) (l1 : Int32) : Option (Int32 × fm_M) :=
  fm_let (fm_wr M 0 0 0) fun M1 =>
  fm_bi (fX9_in n M1 l1 0 1) fun r2 M3 =>
  if r2 = 0 then
    some ((-1), M3)
  else
    fX9_which_24 n n M3 l1 0 (-9) 0
theorem hdX9_which : yX9_which.cls = RX9 ∧ yX9_which.cls ≠ "java/lang/invoke/MethodHandle" ∧ yX9_which.cls ≠ "java/lang/invoke/VarHandle" ∧ (parseMethodDescriptor yX9_which.desc).map (fun d => d.parameters.length) = some 1 := by decide +kernel
set_option maxHeartbeats 4000000 in
theorem wX9_which_115 {X : fm_X} {D : va_G} {dA : Nat → ClassId} {ad : Nat → Nat} {n : Nat}  {r : Int32} (F : fm_F X (YM D dA ad) cX9_which 7 RX9 rmX9_which) {M' : fm_M} (E : fm_E X (YM D dA ad) (some (.int r)) M' (some .int)) {k24 : fm_M → Int32 → Int32 → Int32 → Int32 → Option (Int32 × fm_M)} (hk24 : ∀ (M : fm_M) (l1 : Int32) (l2 : Int32) (l3 : Int32) (l4 : Int32), k24 M l1 l2 l3 l4 = some (r, M') → fm_G X (YM D dA ad) (0, 0) 7 M 24 [(0, .ref (ad 0)), (1, .int l1), (2, .int l2), (3, .int l3), (4, .int l4)] []) : ∀ (M : fm_M) (l1 : Int32) (l2 : Int32) (l4 : Int32) (l5 : Int32) (s0 : Int32), fX9_which_115 n k24 M l1 l2 l4 l5 s0 = some (r, M') → fm_G X (YM D dA ad) (0, 0) 7 M 115 [(0, .ref (ad 0)), (1, .int l1), (2, .int l2), (4, .int l4), (5, .int l5)] [.int s0] := by
  intro M l1 l2 l4 l5 s0 hf
  unfold fX9_which_115 at hf
  refine fm_istore_n (lv' := [(3, .int s0), (0, .ref (ad 0)), (1, .int l1), (2, .int l2), (4, .int l4), (5, .int l5)]) (pc := 115) F dX9_which_115 rfl (fm_lt rfl) rfl ?_
  refine fm_iload_n (pc := 116) F dX9_which_116 3 rfl ?_
  refine fm_iload (pc := 117) F dX9_which_117 5 rfl ?_
  refine fm_if_eq (tgt := 126) (pc := 119) F dX9_which_119 (by decide) (fun c1 => ?_) (fun c1 => ?_)
  · replace hf := fm_ip c1 hf
    refine fm_iconst (v := 0) (pc := 126) F dX9_which_126 (by decide) ?_
    refine fm_iadd (pc := 127) F dX9_which_127 ?_
    refine fm_istore_n (lv' := [(2, .int (l2 + 0)), (3, .int s0), (0, .ref (ad 0)), (1, .int l1), (4, .int l4), (5, .int l5)]) (pc := 128) F dX9_which_128 rfl (fm_lt rfl) rfl ?_
    refine fm_iinc (v := (l4 + 1)) (lv' := [(4, .int (l4 + 1)), (2, .int (l2 + 0)), (3, .int s0), (0, .ref (ad 0)), (1, .int l1), (5, .int l5)]) (pc := 129) F dX9_which_129 4 rfl rfl (fm_lt rfl) rfl ?_
    refine fm_goto (tgt := 24) (pc := 132) F dX9_which_132 (by decide) ?_
    refine fm_pick [3, 4, 1, 2, 0] rfl ?_
    exact hk24 _ _ _ _ _ hf
  · replace hf := fm_in c1 hf
    refine fm_iconst (v := 1) (pc := 122) F dX9_which_122 (by decide) ?_
    refine fm_goto (tgt := 127) (pc := 123) F dX9_which_123 (by decide) ?_
    refine fm_iadd (pc := 127) F dX9_which_127 ?_
    refine fm_istore_n (lv' := [(2, .int (l2 + 1)), (3, .int s0), (0, .ref (ad 0)), (1, .int l1), (4, .int l4), (5, .int l5)]) (pc := 128) F dX9_which_128 rfl (fm_lt rfl) rfl ?_
    refine fm_iinc (v := (l4 + 1)) (lv' := [(4, .int (l4 + 1)), (2, .int (l2 + 1)), (3, .int s0), (0, .ref (ad 0)), (1, .int l1), (5, .int l5)]) (pc := 129) F dX9_which_129 4 rfl rfl (fm_lt rfl) rfl ?_
    refine fm_goto (tgt := 24) (pc := 132) F dX9_which_132 (by decide) ?_
    refine fm_pick [3, 4, 1, 2, 0] rfl ?_
    exact hk24 _ _ _ _ _ hf
set_option maxHeartbeats 4000000 in
theorem wX9_which_114 {X : fm_X} {D : va_G} {dA : Nat → ClassId} {ad : Nat → Nat} {n : Nat}  {r : Int32} (F : fm_F X (YM D dA ad) cX9_which 7 RX9 rmX9_which) {M' : fm_M} (E : fm_E X (YM D dA ad) (some (.int r)) M' (some .int)) {k24 : fm_M → Int32 → Int32 → Int32 → Int32 → Option (Int32 × fm_M)} (hk24 : ∀ (M : fm_M) (l1 : Int32) (l2 : Int32) (l3 : Int32) (l4 : Int32), k24 M l1 l2 l3 l4 = some (r, M') → fm_G X (YM D dA ad) (0, 0) 7 M 24 [(0, .ref (ad 0)), (1, .int l1), (2, .int l2), (3, .int l3), (4, .int l4)] []) : ∀ (M : fm_M) (l1 : Int32) (l2 : Int32) (l3 : Int32) (l4 : Int32) (l5 : Int32), fX9_which_114 n k24 M l1 l2 l3 l4 l5 = some (r, M') → fm_G X (YM D dA ad) (0, 0) 7 M 114 [(0, .ref (ad 0)), (1, .int l1), (2, .int l2), (3, .int l3), (4, .int l4), (5, .int l5)] [] := by
  intro M l1 l2 l3 l4 l5 hf
  unfold fX9_which_114 at hf
  refine fm_iload_n (pc := 114) F dX9_which_114 3 rfl ?_
  refine fm_pick [0, 1, 2, 4, 5] rfl ?_
  exact wX9_which_115 F E hk24 _ _ _ _ _ _ hf
set_option maxHeartbeats 4000000 in
theorem wX9_which_44 {X : fm_X} {D : va_G} {dA : Nat → ClassId} {ad : Nat → Nat} {n : Nat}  {r : Int32} (F : fm_F X (YM D dA ad) cX9_which 7 RX9 rmX9_which) {M' : fm_M} (E : fm_E X (YM D dA ad) (some (.int r)) M' (some .int)) {k24 : fm_M → Int32 → Int32 → Int32 → Int32 → Option (Int32 × fm_M)} (hk24 : ∀ (M : fm_M) (l1 : Int32) (l2 : Int32) (l3 : Int32) (l4 : Int32), k24 M l1 l2 l3 l4 = some (r, M') → fm_G X (YM D dA ad) (0, 0) 7 M 24 [(0, .ref (ad 0)), (1, .int l1), (2, .int l2), (3, .int l3), (4, .int l4)] []) : ∀ (k : Nat) (M : fm_M) (l1 : Int32) (l2 : Int32) (l3 : Int32) (l4 : Int32) (l5 : Int32) (l6 : Int32), fX9_which_44 n k24 k M l1 l2 l3 l4 l5 l6 = some (r, M') → fm_G X (YM D dA ad) (0, 0) 7 M 44 [(0, .ref (ad 0)), (1, .int l1), (2, .int l2), (3, .int l3), (4, .int l4), (5, .int l5), (6, .int l6)] [] := by
  intro k
  induction k with
  | zero =>
    intro M l1 l2 l3 l4 l5 l6 hf
    rw [fX9_which_44] at hf
    cases hf
  | succ k ih =>
    intro M l1 l2 l3 l4 l5 l6 hf
    rw [fX9_which_44] at hf
    refine fm_iload (pc := 44) F dX9_which_44 6 rfl ?_
    refine fm_aload_n (pc := 46) F dX9_which_46 0 rfl ?_
    refine fm_get (v := .int (M.1 0 26)) (pc := 47) F (ci := 9) (T := TX9) (n := 29) rfl in_X9 26 (fm_lt rfl) dX9_which_47 q821 0 (fm_lt rfl) rfl rfl ?_
    refine fm_icmp_ge (tgt := 100) (pc := 50) F dX9_which_50 (by decide) (fun c1 => ?_) (fun c1 => ?_)
    · replace hf := fm_ip c1 hf
      refine fm_iload (pc := 100) F dX9_which_100 5 rfl ?_
      refine fm_if_eq (tgt := 114) (pc := 102) F dX9_which_102 (by decide) (fun c2 => ?_) (fun c2 => ?_)
      · replace hf := fm_ip c2 hf
        refine fm_pick [0, 1, 2, 3, 4, 5] rfl ?_
        exact wX9_which_114 F E hk24 _ _ _ _ _ _ hf
      · replace hf := fm_in c2 hf
        refine fm_iload_n (pc := 105) F dX9_which_105 2 rfl ?_
        refine fm_if_ne (tgt := 114) (pc := 106) F dX9_which_106 (by decide) (fun c3 => ?_) (fun c3 => ?_)
        · replace hf := fm_in c3 hf
          refine fm_pick [0, 1, 2, 3, 4, 5] rfl ?_
          exact wX9_which_114 F E hk24 _ _ _ _ _ _ hf
        · replace hf := fm_ip c3 hf
          refine fm_iload (pc := 109) F dX9_which_109 4 rfl ?_
          refine fm_goto (tgt := 115) (pc := 111) F dX9_which_111 (by decide) ?_
          refine fm_pick [0, 1, 2, 4, 5] rfl ?_
          exact wX9_which_115 F E hk24 _ _ _ _ _ _ hf
    · replace hf := fm_in c1 hf
      refine fm_iload (pc := 53) F dX9_which_53 5 rfl ?_
      refine fm_if_eq (tgt := 91) (pc := 55) F dX9_which_55 (by decide) (fun c4 => ?_) (fun c4 => ?_)
      · replace hf := fm_ip c4 hf
        refine fm_iconst (v := 0) (pc := 91) F dX9_which_91 (by decide) ?_
        refine fm_istore (lv' := [(5, .int 0), (0, .ref (ad 0)), (1, .int l1), (2, .int l2), (3, .int l3), (4, .int l4), (6, .int l6)]) (pc := 92) F dX9_which_92 (fm_lt rfl) rfl ?_
        refine fm_iinc (v := (l6 + 1)) (lv' := [(6, .int (l6 + 1)), (5, .int 0), (0, .ref (ad 0)), (1, .int l1), (2, .int l2), (3, .int l3), (4, .int l4)]) (pc := 94) F dX9_which_94 6 rfl rfl (fm_lt rfl) rfl ?_
        refine fm_goto (tgt := 44) (pc := 97) F dX9_which_97 (by decide) ?_
        refine fm_pick [2, 3, 4, 5, 6, 1, 0] rfl ?_
        exact ih _ _ _ _ _ _ _ hf
      · replace hf := fm_in c4 hf
        refine fm_aload_n (pc := 58) F dX9_which_58 0 rfl ?_
        refine fm_get (v := .ref (ad 11)) (pc := 59) F (ci := 9) (T := TX9) (n := 29) rfl in_X9 18 (fm_lt rfl) dX9_which_59 q813 0 (fm_lt rfl) rfl rfl ?_
        refine fm_iconst (v := 2) (pc := 62) F dX9_which_62 (by decide) ?_
        refine fm_aload_n (pc := 63) F dX9_which_63 0 rfl ?_
        refine fm_get (v := .ref (ad 18)) (pc := 64) F (ci := 9) (T := TX9) (n := 29) rfl in_X9 27 (fm_lt rfl) dX9_which_64 q822 0 (fm_lt rfl) rfl rfl ?_
        refine fm_aload_n (pc := 67) F dX9_which_67 0 rfl ?_
        refine fm_get (v := .ref (ad 17)) (pc := 68) F (ci := 9) (T := TX9) (n := 29) rfl in_X9 25 (fm_lt rfl) dX9_which_68 q820 0 (fm_lt rfl) rfl rfl ?_
        refine fm_iload (pc := 71) F dX9_which_71 6 rfl ?_
        obtain ⟨b5, hf⟩ := fm_b_inv hf
        refine fm_iald (pc := 73) F dX9_which_73 17 (fm_lt rfl) rfl b5 ?_
        obtain ⟨b6, hf⟩ := fm_b_inv hf
        refine fm_iald (pc := 74) F dX9_which_74 18 (fm_lt rfl) rfl b6 ?_
        refine fm_iadd (pc := 75) F dX9_which_75 ?_
        obtain ⟨b7, hf⟩ := fm_b_inv hf
        refine fm_iald (pc := 76) F dX9_which_76 11 (fm_lt rfl) rfl b7 ?_
        refine fm_topi (fun x8 ex8 => ?_)
        replace hf := fm_let_inv ex8 hf
        refine fm_aload_n (pc := 77) F dX9_which_77 0 rfl ?_
        refine fm_get (v := .ref (ad 16)) (pc := 78) F (ci := 9) (T := TX9) (n := 29) rfl in_X9 24 (fm_lt rfl) dX9_which_78 q819 0 (fm_lt rfl) rfl rfl ?_
        refine fm_iload (pc := 81) F dX9_which_81 6 rfl ?_
        obtain ⟨b9, hf⟩ := fm_b_inv hf
        refine fm_iald (pc := 83) F dX9_which_83 16 (fm_lt rfl) rfl b9 ?_
        refine fm_icmp_ne (tgt := 91) (pc := 84) F dX9_which_84 (by decide) (fun c10 => ?_) (fun c10 => ?_)
        · replace hf := fm_in c10 hf
          refine fm_iconst (v := 0) (pc := 91) F dX9_which_91 (by decide) ?_
          refine fm_istore (lv' := [(5, .int 0), (0, .ref (ad 0)), (1, .int l1), (2, .int l2), (3, .int l3), (4, .int l4), (6, .int l6)]) (pc := 92) F dX9_which_92 (fm_lt rfl) rfl ?_
          refine fm_iinc (v := (l6 + 1)) (lv' := [(6, .int (l6 + 1)), (5, .int 0), (0, .ref (ad 0)), (1, .int l1), (2, .int l2), (3, .int l3), (4, .int l4)]) (pc := 94) F dX9_which_94 6 rfl rfl (fm_lt rfl) rfl ?_
          refine fm_goto (tgt := 44) (pc := 97) F dX9_which_97 (by decide) ?_
          refine fm_pick [2, 3, 4, 5, 6, 1, 0] rfl ?_
          exact ih _ _ _ _ _ _ _ hf
        · replace hf := fm_ip c10 hf
          refine fm_iconst (v := 1) (pc := 87) F dX9_which_87 (by decide) ?_
          refine fm_goto (tgt := 92) (pc := 88) F dX9_which_88 (by decide) ?_
          refine fm_istore (lv' := [(5, .int 1), (0, .ref (ad 0)), (1, .int l1), (2, .int l2), (3, .int l3), (4, .int l4), (6, .int l6)]) (pc := 92) F dX9_which_92 (fm_lt rfl) rfl ?_
          refine fm_iinc (v := (l6 + 1)) (lv' := [(6, .int (l6 + 1)), (5, .int 1), (0, .ref (ad 0)), (1, .int l1), (2, .int l2), (3, .int l3), (4, .int l4)]) (pc := 94) F dX9_which_94 6 rfl rfl (fm_lt rfl) rfl ?_
          refine fm_goto (tgt := 44) (pc := 97) F dX9_which_97 (by decide) ?_
          refine fm_pick [2, 3, 4, 5, 6, 1, 0] rfl ?_
          exact ih _ _ _ _ _ _ _ hf
set_option maxHeartbeats 4000000 in
theorem wX9_which_24 {X : fm_X} {D : va_G} {dA : Nat → ClassId} {ad : Nat → Nat} {n : Nat}  {r : Int32} (F : fm_F X (YM D dA ad) cX9_which 7 RX9 rmX9_which) {M' : fm_M} (E : fm_E X (YM D dA ad) (some (.int r)) M' (some .int)) : ∀ (k : Nat) (M : fm_M) (l1 : Int32) (l2 : Int32) (l3 : Int32) (l4 : Int32), fX9_which_24 n k M l1 l2 l3 l4 = some (r, M') → fm_G X (YM D dA ad) (0, 0) 7 M 24 [(0, .ref (ad 0)), (1, .int l1), (2, .int l2), (3, .int l3), (4, .int l4)] [] := by
  intro k
  induction k with
  | zero =>
    intro M l1 l2 l3 l4 hf
    rw [fX9_which_24] at hf
    cases hf
  | succ k ih =>
    intro M l1 l2 l3 l4 hf
    rw [fX9_which_24] at hf
    refine fm_iload (pc := 24) F dX9_which_24 4 rfl ?_
    refine fm_sipush (v := 1000) (pc := 26) F dX9_which_26 (by decide) ?_
    refine fm_icmp_ge (tgt := 135) (pc := 29) F dX9_which_29 (by decide) (fun c1 => ?_) (fun c1 => ?_)
    · replace hf := fm_ip c1 hf
      refine fm_iload_n (pc := 135) F dX9_which_135 1 rfl ?_
      refine fm_if_ne (tgt := 143) (pc := 136) F dX9_which_136 (by decide) (fun c2 => ?_) (fun c2 => ?_)
      · replace hf := fm_in c2 hf
        refine fm_iload_n (pc := 143) F dX9_which_143 3 rfl ?_
        exact fm_iret (pc := 144) F E hf dX9_which_144
      · replace hf := fm_ip c2 hf
        refine fm_iload_n (pc := 139) F dX9_which_139 2 rfl ?_
        refine fm_goto (tgt := 144) (pc := 140) F dX9_which_140 (by decide) ?_
        exact fm_iret (pc := 144) F E hf dX9_which_144
    · replace hf := fm_in c1 hf
      refine fm_aload_n (pc := 32) F dX9_which_32 0 rfl ?_
      refine fm_iload (pc := 33) F dX9_which_33 4 rfl ?_
      obtain ⟨M4, h5, hf⟩ := fm_bv_inv hf
      refine fm_callV (As := [.int l4]) (rest := []) (pc := 35) F (ci := 9) 0 (fm_lt rfl) rfl rfl (mX9_draws F.inj h5) q974 q976 qs30 q50 q977 ⟨rfl, rfl⟩ hdX9_draws ⟨fm_le rfl, fm_le rfl, Nat.zero_le _, Nat.zero_le _⟩ rfl rfl (fm_le rfl) dX9_which_35 ?_
      refine fm_iconst (v := 1) (pc := 38) F dX9_which_38 (by decide) ?_
      refine fm_istore (lv' := [(5, .int 1), (0, .ref (ad 0)), (1, .int l1), (2, .int l2), (3, .int l3), (4, .int l4)]) (pc := 39) F dX9_which_39 (fm_lt rfl) rfl ?_
      refine fm_iconst (v := 0) (pc := 41) F dX9_which_41 (by decide) ?_
      refine fm_istore (lv' := [(6, .int 0), (5, .int 1), (0, .ref (ad 0)), (1, .int l1), (2, .int l2), (3, .int l3), (4, .int l4)]) (pc := 42) F dX9_which_42 (fm_lt rfl) rfl ?_
      refine fm_pick [2, 3, 4, 5, 6, 1, 0] rfl ?_
      exact wX9_which_44 F E ih n _ _ _ _ _ _ _ hf
set_option maxHeartbeats 4000000 in
theorem mX9_which {l : Launch} {D : va_G} {dA : Nat → ClassId} {ad : Nat → Nat} {n : Nat}  (inj : ∀ i j, i < 20 → j < 20 → ad i = ad j → i = j) {M M' : fm_M} {l1 : Int32} {r : Int32} (hf : fX9_which n M l1 = some (r, M')) : fm_C l yX9_which (ws_ yX9_which cX9_which 7 (some .int)) rmX9_which (YM D dA ad) [.ref (ad 0), .int l1] M (some (.int r)) M' := by
  refine fm_enter (by decide) rfl (fm_le rfl) inj ?_
  intro X hXl F E
  subst hXl
  unfold fX9_which at hf
  show fm_G X (YM D dA ad) (0, 0) 7 M 0 [(0, .ref (ad 0)), (1, .int l1)] []
  refine fm_aload_n (pc := 0) F dX9_which_0 0 rfl ?_
  refine fm_iconst (v := 0) (pc := 1) F dX9_which_1 (by decide) ?_
  refine fm_putI (v := 0) (pc := 2) F clX9 0 (fm_lt rfl) dX9_which_2 q795 rfl rfl 0 (fm_lt rfl) rfl (fm_lt rfl) rfl ?_
  refine fm_nameM (fun M1 eM1 => ?_)
  replace hf := fm_let_inv eM1 hf
  refine fm_iload_n (pc := 5) F dX9_which_5 1 rfl ?_
  refine fm_iconst (v := 0) (pc := 6) F dX9_which_6 (by decide) ?_
  refine fm_iconst (v := 1) (pc := 7) F dX9_which_7 (by decide) ?_
  obtain ⟨r2, M3, h4, hf⟩ := fm_bi_inv hf
  refine fm_callS (As := [.int l1, .int 0, .int 1]) (rest := []) (pc := 8) F (mX9_in F.inj h4) q887 q888 q50 q889 ⟨rfl, rfl⟩ hdX9_in.2 ⟨fm_le rfl, fm_le rfl, Nat.zero_le _, Nat.zero_le _⟩ rfl rfl (fm_le rfl) dX9_which_8 ?_
  refine fm_if_ne (tgt := 16) (pc := 11) F dX9_which_11 (by decide) (fun c6 => ?_) (fun c6 => ?_)
  · replace hf := fm_in c6 hf
    refine fm_iconst (v := 0) (pc := 16) F dX9_which_16 (by decide) ?_
    refine fm_istore_n (lv' := [(2, .int 0), (0, .ref (ad 0)), (1, .int l1)]) (pc := 17) F dX9_which_17 rfl (fm_lt rfl) rfl ?_
    refine fm_bipush (v := (-9)) (pc := 18) F dX9_which_18 (by decide) ?_
    refine fm_istore_n (lv' := [(3, .int (-9)), (2, .int 0), (0, .ref (ad 0)), (1, .int l1)]) (pc := 20) F dX9_which_20 rfl (fm_lt rfl) rfl ?_
    refine fm_iconst (v := 0) (pc := 21) F dX9_which_21 (by decide) ?_
    refine fm_istore (lv' := [(4, .int 0), (3, .int (-9)), (2, .int 0), (0, .ref (ad 0)), (1, .int l1)]) (pc := 22) F dX9_which_22 (fm_lt rfl) rfl ?_
    refine fm_pick [3, 4, 2, 1, 0] rfl ?_
    exact wX9_which_24 F E n _ _ _ _ _ hf
  · replace hf := fm_ip c6 hf
    refine fm_iconst (v := (-1)) (pc := 14) F dX9_which_14 (by decide) ?_
    exact fm_iret (pc := 15) F E hf dX9_which_15
abbrev rmX9_gcd : Room := { frames := 2, cells := 0, slots := 0, locals := 80 }
def fX9_gcd_4 (n : Nat) : Nat → fm_M → Int32 → Int32 → Option (Int32 × fm_M)
  | 0, _, _, _ => none
  | k + 1, M, l2, l3 =>
    if l3 = 0 then
      some (l2, M)
    else
      fm_nz l3 <|
      fm_let (l2 - l2 / l3 * l3) fun x3 =>
      fX9_gcd_4 n k M l3 x3
def fX9_gcd (n : Nat) (M : fm_M) (l0 : Int32) (l1 : Int32) : Option (Int32 × fm_M) :=
  fX9_gcd_4 n n M l0 l1
theorem hdX9_gcd : yX9_gcd.cls = RX9 ∧ yX9_gcd.cls ≠ "java/lang/invoke/MethodHandle" ∧ yX9_gcd.cls ≠ "java/lang/invoke/VarHandle" ∧ (parseMethodDescriptor yX9_gcd.desc).map (fun d => d.parameters.length) = some 2 := by decide +kernel
set_option maxHeartbeats 4000000 in
theorem wX9_gcd_4 {X : fm_X} {D : va_G} {dA : Nat → ClassId} {ad : Nat → Nat} {n : Nat}  {r : Int32} (F : fm_F X (YM D dA ad) cX9_gcd 5 RX9 rmX9_gcd) {M' : fm_M} (E : fm_E X (YM D dA ad) (some (.int r)) M' (some .int)) : ∀ (k : Nat) (M : fm_M) (l2 : Int32) (l3 : Int32), fX9_gcd_4 n k M l2 l3 = some (r, M') → fm_G X (YM D dA ad) (0, 0) 5 M 4 [(2, .int l2), (3, .int l3)] [] := by
  intro k
  induction k with
  | zero =>
    intro M l2 l3 hf
    rw [fX9_gcd_4] at hf
    cases hf
  | succ k ih =>
    intro M l2 l3 hf
    rw [fX9_gcd_4] at hf
    refine fm_iload_n (pc := 4) F dX9_gcd_4 1 rfl ?_
    refine fm_if_eq (tgt := 21) (pc := 5) F dX9_gcd_5 (by decide) (fun c1 => ?_) (fun c1 => ?_)
    · replace hf := fm_ip c1 hf
      refine fm_iload_n (pc := 21) F dX9_gcd_21 0 rfl ?_
      exact fm_iret (pc := 22) F E hf dX9_gcd_22
    · replace hf := fm_in c1 hf
      refine fm_iload_n (pc := 8) F dX9_gcd_8 0 rfl ?_
      refine fm_iload_n (pc := 9) F dX9_gcd_9 1 rfl ?_
      obtain ⟨b2, hf⟩ := fm_nz_inv hf
      refine fm_irem (pc := 10) F dX9_gcd_10 b2 ?_
      refine fm_topi (fun x3 ex3 => ?_)
      replace hf := fm_let_inv ex3 hf
      refine fm_istore (lv' := [(4, .int x3), (2, .int l2), (3, .int l3)]) (pc := 11) F dX9_gcd_11 (fm_lt rfl) rfl ?_
      refine fm_iload_n (pc := 13) F dX9_gcd_13 2 rfl ?_
      refine fm_istore_n (lv' := [(2, .int l3), (4, .int x3), (3, .int l3)]) (pc := 14) F dX9_gcd_14 rfl (fm_lt rfl) rfl ?_
      refine fm_iload (pc := 15) F dX9_gcd_15 1 rfl ?_
      refine fm_istore_n (lv' := [(3, .int x3), (2, .int l3), (4, .int x3)]) (pc := 17) F dX9_gcd_17 rfl (fm_lt rfl) rfl ?_
      refine fm_goto (tgt := 4) (pc := 18) F dX9_gcd_18 (by decide) ?_
      refine fm_pick [1, 0] rfl ?_
      exact ih _ _ _ hf
set_option maxHeartbeats 4000000 in
theorem mX9_gcd {l : Launch} {D : va_G} {dA : Nat → ClassId} {ad : Nat → Nat} {n : Nat}  (inj : ∀ i j, i < 20 → j < 20 → ad i = ad j → i = j) {M M' : fm_M} {l0 : Int32} {l1 : Int32} {r : Int32} (hf : fX9_gcd n M l0 l1 = some (r, M')) : fm_C l yX9_gcd (ws_ yX9_gcd cX9_gcd 5 (some .int)) rmX9_gcd (YM D dA ad) [.int l0, .int l1] M (some (.int r)) M' := by
  refine fm_enter (by decide) rfl (fm_le rfl) inj ?_
  intro X hXl F E
  subst hXl
  unfold fX9_gcd at hf
  show fm_G X (YM D dA ad) (0, 0) 5 M 0 [(0, .int l0), (1, .int l1)] []
  refine fm_iload_n (pc := 0) F dX9_gcd_0 0 rfl ?_
  refine fm_istore_n (lv' := [(2, .int l0), (0, .int l0), (1, .int l1)]) (pc := 1) F dX9_gcd_1 rfl (fm_lt rfl) rfl ?_
  refine fm_iload_n (pc := 2) F dX9_gcd_2 2 rfl ?_
  refine fm_istore_n (lv' := [(3, .int l1), (2, .int l0), (0, .int l0), (1, .int l1)]) (pc := 3) F dX9_gcd_3 rfl (fm_lt rfl) rfl ?_
  refine fm_pick [1, 0] rfl ?_
  exact wX9_gcd_4 F E n _ _ _ hf
abbrev rmX9_odds : Room := { frames := 3, cells := 0, slots := 0, locals := 105 }
def fX9_odds_23 (n : Nat) : Nat → fm_M → Int32 → Int32 → Int32 → Int32 → Option (Int32 × fm_M)
  | 0, _, _, _, _, _ => none
  | k + 1, M, l1, l2, l3, l4 =>
    fm_bi (fX9_rows n M) fun r1 M2 =>
    if r1 ≤ l4 then
      fm_bi (fX9_gcd n M2 l2 l3) fun r6 M7 =>
      if l1 = 0 then
        fm_nz r6 <|
        some ((l2 / r6), M7)
      else
        fm_nz r6 <|
        some ((l3 / r6), M7)
    else
      fm_bi (fX9_isRow n M2 l4) fun r13 M14 =>
      if r13 = 0 then
        fX9_odds_23 n k M14 l1 l2 l3 (l4 + 1)
      else
        fm_bi (fX9_isBorne n M14) fun r18 M19 =>
        if r18 = 0 then
          fX9_odds_23 n k M19 l1 (l2 + 0) (l3 + 1) (l4 + 1)
        else
          fX9_odds_23 n k M19 l1 (l2 + 1) (l3 + 1) (l4 + 1)
def fX9_odds (n : Nat) (M : fm_M) (l1 : Int32) : Option (Int32 × fm_M) :=
  fm_let (fm_wr M 0 0 0) fun M1 =>
  fm_bi (fX9_in n M1 l1 0 1) fun r2 M3 =>
  if r2 = 0 then
    some ((-1), M3)
  else
    fX9_odds_23 n n M3 l1 0 0 0
theorem hdX9_odds : yX9_odds.cls = RX9 ∧ yX9_odds.cls ≠ "java/lang/invoke/MethodHandle" ∧ yX9_odds.cls ≠ "java/lang/invoke/VarHandle" ∧ (parseMethodDescriptor yX9_odds.desc).map (fun d => d.parameters.length) = some 1 := by decide +kernel
set_option maxHeartbeats 4000000 in
theorem wX9_odds_23 {X : fm_X} {D : va_G} {dA : Nat → ClassId} {ad : Nat → Nat} {n : Nat}  {r : Int32} (F : fm_F X (YM D dA ad) cX9_odds 5 RX9 rmX9_odds) {M' : fm_M} (E : fm_E X (YM D dA ad) (some (.int r)) M' (some .int)) : ∀ (k : Nat) (M : fm_M) (l1 : Int32) (l2 : Int32) (l3 : Int32) (l4 : Int32), fX9_odds_23 n k M l1 l2 l3 l4 = some (r, M') → fm_G X (YM D dA ad) (0, 0) 5 M 23 [(0, .ref (ad 0)), (1, .int l1), (2, .int l2), (3, .int l3), (4, .int l4)] [] := by
  intro k
  induction k with
  | zero =>
    intro M l1 l2 l3 l4 hf
    rw [fX9_odds_23] at hf
    cases hf
  | succ k ih =>
    intro M l1 l2 l3 l4 hf
    rw [fX9_odds_23] at hf
    refine fm_iload (pc := 23) F dX9_odds_23 4 rfl ?_
    refine fm_aload_n (pc := 25) F dX9_odds_25 0 rfl ?_
    obtain ⟨r1, M2, h3, hf⟩ := fm_bi_inv hf
    refine fm_callV (As := []) (rest := [.int l4]) (pc := 26) F (ci := 9) 0 (fm_lt rfl) rfl rfl (mX9_rows F.inj h3) q1018 q1020 qs33 q50 q1021 ⟨rfl, rfl⟩ hdX9_rows ⟨fm_le rfl, fm_le rfl, Nat.zero_le _, Nat.zero_le _⟩ rfl rfl (fm_le rfl) dX9_odds_26 ?_
    refine fm_icmp_ge (tgt := 65) (pc := 29) F dX9_odds_29 (by decide) (fun c5 => ?_) (fun c5 => ?_)
    · replace hf := fm_ip c5 hf
      refine fm_iload_n (pc := 65) F dX9_odds_65 2 rfl ?_
      refine fm_iload_n (pc := 66) F dX9_odds_66 3 rfl ?_
      obtain ⟨r6, M7, h8, hf⟩ := fm_bi_inv hf
      refine fm_callS (As := [.int l2, .int l3]) (rest := []) (pc := 67) F (mX9_gcd F.inj h8) q1066 q1067 q50 q1068 ⟨rfl, rfl⟩ hdX9_gcd.2 ⟨fm_le rfl, fm_le rfl, Nat.zero_le _, Nat.zero_le _⟩ rfl rfl (fm_le rfl) dX9_odds_67 ?_
      refine fm_istore (lv' := [(4, .int r6), (0, .ref (ad 0)), (1, .int l1), (2, .int l2), (3, .int l3)]) (pc := 70) F dX9_odds_70 (fm_lt rfl) rfl ?_
      refine fm_iload_n (pc := 72) F dX9_odds_72 2 rfl ?_
      refine fm_if_ne (tgt := 83) (pc := 73) F dX9_odds_73 (by decide) (fun c10 => ?_) (fun c10 => ?_)
      · replace hf := fm_in c10 hf
        refine fm_iload_n (pc := 83) F dX9_odds_83 4 rfl ?_
        refine fm_iload (pc := 84) F dX9_odds_84 0 rfl ?_
        obtain ⟨b11, hf⟩ := fm_nz_inv hf
        refine fm_idiv (pc := 86) F dX9_odds_86 b11 ?_
        exact fm_iret (pc := 87) F E hf dX9_odds_87
      · replace hf := fm_ip c10 hf
        refine fm_iload_n (pc := 76) F dX9_odds_76 3 rfl ?_
        refine fm_iload (pc := 77) F dX9_odds_77 0 rfl ?_
        obtain ⟨b12, hf⟩ := fm_nz_inv hf
        refine fm_idiv (pc := 79) F dX9_odds_79 b12 ?_
        refine fm_goto (tgt := 87) (pc := 80) F dX9_odds_80 (by decide) ?_
        exact fm_iret (pc := 87) F E hf dX9_odds_87
    · replace hf := fm_in c5 hf
      refine fm_aload_n (pc := 32) F dX9_odds_32 0 rfl ?_
      refine fm_iload (pc := 33) F dX9_odds_33 4 rfl ?_
      obtain ⟨r13, M14, h15, hf⟩ := fm_bi_inv hf
      refine fm_callV (As := [.int l4]) (rest := []) (pc := 35) F (ci := 9) 0 (fm_lt rfl) rfl rfl (mX9_isRow F.inj h15) q1022 q1024 qs34 q50 q1025 ⟨rfl, rfl⟩ hdX9_isRow ⟨fm_le rfl, fm_le rfl, Nat.zero_le _, Nat.zero_le _⟩ rfl rfl (fm_le rfl) dX9_odds_35 ?_
      refine fm_if_eq (tgt := 59) (pc := 38) F dX9_odds_38 (by decide) (fun c17 => ?_) (fun c17 => ?_)
      · replace hf := fm_ip c17 hf
        refine fm_iinc (v := (l4 + 1)) (lv' := [(4, .int (l4 + 1)), (0, .ref (ad 0)), (1, .int l1), (2, .int l2), (3, .int l3)]) (pc := 59) F dX9_odds_59 4 rfl rfl (fm_lt rfl) rfl ?_
        refine fm_goto (tgt := 23) (pc := 62) F dX9_odds_62 (by decide) ?_
        refine fm_pick [1, 2, 3, 4, 0] rfl ?_
        exact ih _ _ _ _ _ hf
      · replace hf := fm_in c17 hf
        refine fm_iinc (v := (l3 + 1)) (lv' := [(3, .int (l3 + 1)), (0, .ref (ad 0)), (1, .int l1), (2, .int l2), (4, .int l4)]) (pc := 41) F dX9_odds_41 3 rfl rfl (fm_lt rfl) rfl ?_
        refine fm_iload_n (pc := 44) F dX9_odds_44 3 rfl ?_
        refine fm_aload_n (pc := 45) F dX9_odds_45 1 rfl ?_
        obtain ⟨r18, M19, h20, hf⟩ := fm_bi_inv hf
        refine fm_callV (As := []) (rest := [.int l2]) (pc := 46) F (ci := 9) 0 (fm_lt rfl) rfl rfl (mX9_isBorne F.inj h20) q1026 q1028 qs35 q50 q1029 ⟨rfl, rfl⟩ hdX9_isBorne ⟨fm_le rfl, fm_le rfl, Nat.zero_le _, Nat.zero_le _⟩ rfl rfl (fm_le rfl) dX9_odds_46 ?_
        refine fm_if_eq (tgt := 56) (pc := 49) F dX9_odds_49 (by decide) (fun c22 => ?_) (fun c22 => ?_)
        · replace hf := fm_ip c22 hf
          refine fm_iconst (v := 0) (pc := 56) F dX9_odds_56 (by decide) ?_
          refine fm_iadd (pc := 57) F dX9_odds_57 ?_
          refine fm_istore_n (lv' := [(2, .int (l2 + 0)), (3, .int (l3 + 1)), (0, .ref (ad 0)), (1, .int l1), (4, .int l4)]) (pc := 58) F dX9_odds_58 rfl (fm_lt rfl) rfl ?_
          refine fm_iinc (v := (l4 + 1)) (lv' := [(4, .int (l4 + 1)), (2, .int (l2 + 0)), (3, .int (l3 + 1)), (0, .ref (ad 0)), (1, .int l1)]) (pc := 59) F dX9_odds_59 4 rfl rfl (fm_lt rfl) rfl ?_
          refine fm_goto (tgt := 23) (pc := 62) F dX9_odds_62 (by decide) ?_
          refine fm_pick [3, 4, 1, 2, 0] rfl ?_
          exact ih _ _ _ _ _ hf
        · replace hf := fm_in c22 hf
          refine fm_iconst (v := 1) (pc := 52) F dX9_odds_52 (by decide) ?_
          refine fm_goto (tgt := 57) (pc := 53) F dX9_odds_53 (by decide) ?_
          refine fm_iadd (pc := 57) F dX9_odds_57 ?_
          refine fm_istore_n (lv' := [(2, .int (l2 + 1)), (3, .int (l3 + 1)), (0, .ref (ad 0)), (1, .int l1), (4, .int l4)]) (pc := 58) F dX9_odds_58 rfl (fm_lt rfl) rfl ?_
          refine fm_iinc (v := (l4 + 1)) (lv' := [(4, .int (l4 + 1)), (2, .int (l2 + 1)), (3, .int (l3 + 1)), (0, .ref (ad 0)), (1, .int l1)]) (pc := 59) F dX9_odds_59 4 rfl rfl (fm_lt rfl) rfl ?_
          refine fm_goto (tgt := 23) (pc := 62) F dX9_odds_62 (by decide) ?_
          refine fm_pick [3, 4, 1, 2, 0] rfl ?_
          exact ih _ _ _ _ _ hf
set_option maxHeartbeats 4000000 in
theorem mX9_odds {l : Launch} {D : va_G} {dA : Nat → ClassId} {ad : Nat → Nat} {n : Nat}  (inj : ∀ i j, i < 20 → j < 20 → ad i = ad j → i = j) {M M' : fm_M} {l1 : Int32} {r : Int32} (hf : fX9_odds n M l1 = some (r, M')) : fm_C l yX9_odds (ws_ yX9_odds cX9_odds 5 (some .int)) rmX9_odds (YM D dA ad) [.ref (ad 0), .int l1] M (some (.int r)) M' := by
  refine fm_enter (by decide) rfl (fm_le rfl) inj ?_
  intro X hXl F E
  subst hXl
  unfold fX9_odds at hf
  show fm_G X (YM D dA ad) (0, 0) 5 M 0 [(0, .ref (ad 0)), (1, .int l1)] []
  refine fm_aload_n (pc := 0) F dX9_odds_0 0 rfl ?_
  refine fm_iconst (v := 0) (pc := 1) F dX9_odds_1 (by decide) ?_
  refine fm_putI (v := 0) (pc := 2) F clX9 0 (fm_lt rfl) dX9_odds_2 q795 rfl rfl 0 (fm_lt rfl) rfl (fm_lt rfl) rfl ?_
  refine fm_nameM (fun M1 eM1 => ?_)
  replace hf := fm_let_inv eM1 hf
  refine fm_iload_n (pc := 5) F dX9_odds_5 1 rfl ?_
  refine fm_iconst (v := 0) (pc := 6) F dX9_odds_6 (by decide) ?_
  refine fm_iconst (v := 1) (pc := 7) F dX9_odds_7 (by decide) ?_
  obtain ⟨r2, M3, h4, hf⟩ := fm_bi_inv hf
  refine fm_callS (As := [.int l1, .int 0, .int 1]) (rest := []) (pc := 8) F (mX9_in F.inj h4) q887 q888 q50 q889 ⟨rfl, rfl⟩ hdX9_in.2 ⟨fm_le rfl, fm_le rfl, Nat.zero_le _, Nat.zero_le _⟩ rfl rfl (fm_le rfl) dX9_odds_8 ?_
  refine fm_if_ne (tgt := 16) (pc := 11) F dX9_odds_11 (by decide) (fun c6 => ?_) (fun c6 => ?_)
  · replace hf := fm_in c6 hf
    refine fm_iconst (v := 0) (pc := 16) F dX9_odds_16 (by decide) ?_
    refine fm_istore_n (lv' := [(2, .int 0), (0, .ref (ad 0)), (1, .int l1)]) (pc := 17) F dX9_odds_17 rfl (fm_lt rfl) rfl ?_
    refine fm_iconst (v := 0) (pc := 18) F dX9_odds_18 (by decide) ?_
    refine fm_istore_n (lv' := [(3, .int 0), (2, .int 0), (0, .ref (ad 0)), (1, .int l1)]) (pc := 19) F dX9_odds_19 rfl (fm_lt rfl) rfl ?_
    refine fm_iconst (v := 0) (pc := 20) F dX9_odds_20 (by decide) ?_
    refine fm_istore (lv' := [(4, .int 0), (3, .int 0), (2, .int 0), (0, .ref (ad 0)), (1, .int l1)]) (pc := 21) F dX9_odds_21 (fm_lt rfl) rfl ?_
    refine fm_pick [3, 4, 2, 1, 0] rfl ?_
    exact wX9_odds_23 F E n _ _ _ _ _ hf
  · replace hf := fm_ip c6 hf
    refine fm_iconst (v := (-1)) (pc := 14) F dX9_odds_14 (by decide) ?_
    exact fm_iret (pc := 15) F E hf dX9_odds_15
abbrev rmX9_rate : Room := { frames := 4, cells := 0, slots := 0, locals := 123 }
def fX9_rate_112 (n : Nat) (M : fm_M) (l1 : Int32) (l2 : Int32) (l3 : Int32) (l4 : Int32) (s0 : Int64) (s1 : Int64) : Option (Int32 × fm_M) :=
  fm_let (fm_wl M (s1 + s0)) fun M1 =>
  if l1 = 0 then
    some (l3, M1)
  else
    if l1 = 1 then
      fm_b l2 12 <|
      some ((l3 + (M1.1 5 l2.toNatClampNeg)), M1)
    else
      if l1 = 2 then
        some (l4, M1)
      else
        if l1 = 3 then
          fm_b l2 12 <|
          some ((2 * (l3 + (M1.1 5 l2.toNatClampNeg))), M1)
        else
          if l1 = 4 then
            some ((l4 + l2), M1)
          else
            some ((l3 + (M1.1 11 0)), M1)
def fX9_rate (n : Nat) (M : fm_M) (l1 : Int32) (l2 : Int32) : Option (Int32 × fm_M) :=
  fm_let (fm_wr M 0 0 0) fun M1 =>
  fm_bi (fX9_in n M1 l1 0 5) fun r2 M3 =>
  if r2 = 0 then
    some ((-1000000), M3)
  else
    fm_bi (fX9_isTown n M3 l2) fun r7 M8 =>
    if r7 = 0 then
      some ((-1000000), M8)
    else
      fm_b l2 12 <|
      fm_let (M8.1 4 l2.toNatClampNeg) fun x13 =>
      fm_bi (fX9_hangs n 11 M8 l2) fun r14 M15 =>
      fm_b (8 + r14) 56 <|
      fm_let (x13 - (M15.1 11 (8 + r14).toNatClampNeg)) fun x19 =>
      if l1 = 0 then
        fX9_rate_112 n M15 l1 l2 x13 x19 1 M15.2
      else
        if l1 = 1 then
          fX9_rate_112 n M15 l1 l2 x13 x19 11 M15.2
        else
          if l1 = 2 then
            fX9_rate_112 n M15 l1 l2 x13 x19 101 M15.2
          else
            if l1 = 3 then
              fX9_rate_112 n M15 l1 l2 x13 x19 1011 M15.2
            else
              if l1 = 4 then
                fX9_rate_112 n M15 l1 l2 x13 x19 10101 M15.2
              else
                fX9_rate_112 n M15 l1 l2 x13 x19 100001 M15.2
theorem hdX9_rate : yX9_rate.cls = RX9 ∧ yX9_rate.cls ≠ "java/lang/invoke/MethodHandle" ∧ yX9_rate.cls ≠ "java/lang/invoke/VarHandle" ∧ (parseMethodDescriptor yX9_rate.desc).map (fun d => d.parameters.length) = some 2 := by decide +kernel
set_option maxHeartbeats 4000000 in
theorem wX9_rate_112 {X : fm_X} {D : va_G} {dA : Nat → ClassId} {ad : Nat → Nat} {n : Nat}  {r : Int32} (F : fm_F X (YM D dA ad) cX9_rate 5 RX9 rmX9_rate) {M' : fm_M} (E : fm_E X (YM D dA ad) (some (.int r)) M' (some .int)) : ∀ (M : fm_M) (l1 : Int32) (l2 : Int32) (l3 : Int32) (l4 : Int32) (s0 : Int64) (s1 : Int64), fX9_rate_112 n M l1 l2 l3 l4 s0 s1 = some (r, M') → fm_G X (YM D dA ad) (0, 0) 5 M 112 [(0, .ref (ad 0)), (1, .int l1), (2, .int l2), (3, .int l3), (4, .int l4)] [.long s0, .long s1, .ref (ad 0)] := by
  intro M l1 l2 l3 l4 s0 s1 hf
  unfold fX9_rate_112 at hf
  refine fm_ladd (pc := 112) F dX9_rate_112 ?_
  refine fm_putL (v := (s1 + s0)) (pc := 113) F clX9 1 (fm_lt rfl) dX9_rate_113 q796 rfl rfl 0 (fm_lt rfl) rfl (fm_lt rfl) rfl mkM_z ?_
  refine fm_nameM (fun M1 eM1 => ?_)
  replace hf := fm_let_inv eM1 hf
  refine fm_iload_n (pc := 116) F dX9_rate_116 1 rfl ?_
  refine fm_if_ne (tgt := 124) (pc := 117) F dX9_rate_117 (by decide) (fun c2 => ?_) (fun c2 => ?_)
  · replace hf := fm_in c2 hf
    refine fm_iload_n (pc := 124) F dX9_rate_124 1 rfl ?_
    refine fm_iconst (v := 1) (pc := 125) F dX9_rate_125 (by decide) ?_
    refine fm_icmp_ne (tgt := 140) (pc := 126) F dX9_rate_126 (by decide) (fun c3 => ?_) (fun c3 => ?_)
    · replace hf := fm_in c3 hf
      refine fm_iload_n (pc := 140) F dX9_rate_140 1 rfl ?_
      refine fm_iconst (v := 2) (pc := 141) F dX9_rate_141 (by decide) ?_
      refine fm_icmp_ne (tgt := 150) (pc := 142) F dX9_rate_142 (by decide) (fun c4 => ?_) (fun c4 => ?_)
      · replace hf := fm_in c4 hf
        refine fm_iload_n (pc := 150) F dX9_rate_150 1 rfl ?_
        refine fm_iconst (v := 3) (pc := 151) F dX9_rate_151 (by decide) ?_
        refine fm_icmp_ne (tgt := 168) (pc := 152) F dX9_rate_152 (by decide) (fun c5 => ?_) (fun c5 => ?_)
        · replace hf := fm_in c5 hf
          refine fm_iload_n (pc := 168) F dX9_rate_168 1 rfl ?_
          refine fm_iconst (v := 4) (pc := 169) F dX9_rate_169 (by decide) ?_
          refine fm_icmp_ne (tgt := 180) (pc := 170) F dX9_rate_170 (by decide) (fun c6 => ?_) (fun c6 => ?_)
          · replace hf := fm_in c6 hf
            refine fm_iload_n (pc := 180) F dX9_rate_180 3 rfl ?_
            refine fm_aload_n (pc := 181) F dX9_rate_181 0 rfl ?_
            refine fm_get (v := .ref (ad 11)) (pc := 182) F (ci := 9) (T := TX9) (n := 29) rfl in_X9 18 (fm_lt rfl) dX9_rate_182 q813 0 (fm_lt rfl) rfl rfl ?_
            refine fm_iconst (v := 0) (pc := 185) F dX9_rate_185 (by decide) ?_
            refine fm_ialdK (pc := 186) F dX9_rate_186 11 (fm_lt rfl) rfl 0 (fm_ok (by decide)) rfl ?_
            refine fm_iadd (pc := 187) F dX9_rate_187 ?_
            exact fm_iret (pc := 188) F E hf dX9_rate_188
          · replace hf := fm_ip c6 hf
            refine fm_iload (pc := 173) F dX9_rate_173 4 rfl ?_
            refine fm_iload_n (pc := 175) F dX9_rate_175 2 rfl ?_
            refine fm_iadd (pc := 176) F dX9_rate_176 ?_
            refine fm_goto (tgt := 188) (pc := 177) F dX9_rate_177 (by decide) ?_
            exact fm_iret (pc := 188) F E hf dX9_rate_188
        · replace hf := fm_ip c5 hf
          refine fm_iconst (v := 2) (pc := 155) F dX9_rate_155 (by decide) ?_
          refine fm_iload_n (pc := 156) F dX9_rate_156 3 rfl ?_
          refine fm_aload_n (pc := 157) F dX9_rate_157 0 rfl ?_
          refine fm_get (v := .ref (ad 5)) (pc := 158) F (ci := 9) (T := TX9) (n := 29) rfl in_X9 12 (fm_lt rfl) dX9_rate_158 q807 0 (fm_lt rfl) rfl rfl ?_
          refine fm_iload_n (pc := 161) F dX9_rate_161 2 rfl ?_
          obtain ⟨b7, hf⟩ := fm_b_inv hf
          refine fm_iald (pc := 162) F dX9_rate_162 5 (fm_lt rfl) rfl b7 ?_
          refine fm_iadd (pc := 163) F dX9_rate_163 ?_
          refine fm_imul (pc := 164) F dX9_rate_164 ?_
          refine fm_goto (tgt := 188) (pc := 165) F dX9_rate_165 (by decide) ?_
          exact fm_iret (pc := 188) F E hf dX9_rate_188
      · replace hf := fm_ip c4 hf
        refine fm_iload (pc := 145) F dX9_rate_145 4 rfl ?_
        refine fm_goto (tgt := 188) (pc := 147) F dX9_rate_147 (by decide) ?_
        exact fm_iret (pc := 188) F E hf dX9_rate_188
    · replace hf := fm_ip c3 hf
      refine fm_iload_n (pc := 129) F dX9_rate_129 3 rfl ?_
      refine fm_aload_n (pc := 130) F dX9_rate_130 0 rfl ?_
      refine fm_get (v := .ref (ad 5)) (pc := 131) F (ci := 9) (T := TX9) (n := 29) rfl in_X9 12 (fm_lt rfl) dX9_rate_131 q807 0 (fm_lt rfl) rfl rfl ?_
      refine fm_iload_n (pc := 134) F dX9_rate_134 2 rfl ?_
      obtain ⟨b8, hf⟩ := fm_b_inv hf
      refine fm_iald (pc := 135) F dX9_rate_135 5 (fm_lt rfl) rfl b8 ?_
      refine fm_iadd (pc := 136) F dX9_rate_136 ?_
      refine fm_goto (tgt := 188) (pc := 137) F dX9_rate_137 (by decide) ?_
      exact fm_iret (pc := 188) F E hf dX9_rate_188
  · replace hf := fm_ip c2 hf
    refine fm_iload_n (pc := 120) F dX9_rate_120 3 rfl ?_
    refine fm_goto (tgt := 188) (pc := 121) F dX9_rate_121 (by decide) ?_
    exact fm_iret (pc := 188) F E hf dX9_rate_188
set_option maxHeartbeats 4000000 in
theorem mX9_rate {l : Launch} {D : va_G} {dA : Nat → ClassId} {ad : Nat → Nat} {n : Nat}  (inj : ∀ i j, i < 20 → j < 20 → ad i = ad j → i = j) {M M' : fm_M} {l1 : Int32} {l2 : Int32} {r : Int32} (hf : fX9_rate n M l1 l2 = some (r, M')) : fm_C l yX9_rate (ws_ yX9_rate cX9_rate 5 (some .int)) rmX9_rate (YM D dA ad) [.ref (ad 0), .int l1, .int l2] M (some (.int r)) M' := by
  refine fm_enter (by decide) rfl (fm_le rfl) inj ?_
  intro X hXl F E
  subst hXl
  unfold fX9_rate at hf
  show fm_G X (YM D dA ad) (0, 0) 5 M 0 [(0, .ref (ad 0)), (1, .int l1), (2, .int l2)] []
  refine fm_aload_n (pc := 0) F dX9_rate_0 0 rfl ?_
  refine fm_iconst (v := 0) (pc := 1) F dX9_rate_1 (by decide) ?_
  refine fm_putI (v := 0) (pc := 2) F clX9 0 (fm_lt rfl) dX9_rate_2 q795 rfl rfl 0 (fm_lt rfl) rfl (fm_lt rfl) rfl ?_
  refine fm_nameM (fun M1 eM1 => ?_)
  replace hf := fm_let_inv eM1 hf
  refine fm_iload_n (pc := 5) F dX9_rate_5 1 rfl ?_
  refine fm_iconst (v := 0) (pc := 6) F dX9_rate_6 (by decide) ?_
  refine fm_iconst (v := 5) (pc := 7) F dX9_rate_7 (by decide) ?_
  obtain ⟨r2, M3, h4, hf⟩ := fm_bi_inv hf
  refine fm_callS (As := [.int l1, .int 0, .int 5]) (rest := []) (pc := 8) F (mX9_in F.inj h4) q887 q888 q50 q889 ⟨rfl, rfl⟩ hdX9_in.2 ⟨fm_le rfl, fm_le rfl, Nat.zero_le _, Nat.zero_le _⟩ rfl rfl (fm_le rfl) dX9_rate_8 ?_
  refine fm_if_eq (tgt := 22) (pc := 11) F dX9_rate_11 (by decide) (fun c6 => ?_) (fun c6 => ?_)
  · replace hf := fm_ip c6 hf
    refine fm_ldc (pc := 22) F dX9_rate_22 q1073 ?_
    exact fm_iret (pc := 24) F E hf dX9_rate_24
  · replace hf := fm_in c6 hf
    refine fm_aload_n (pc := 14) F dX9_rate_14 0 rfl ?_
    refine fm_iload_n (pc := 15) F dX9_rate_15 2 rfl ?_
    obtain ⟨r7, M8, h9, hf⟩ := fm_bi_inv hf
    refine fm_callV (As := [.int l2]) (rest := []) (pc := 16) F (ci := 9) 0 (fm_lt rfl) rfl rfl (mX9_isTown F.inj h9) q931 q933 qs25 q50 q934 ⟨rfl, rfl⟩ hdX9_isTown ⟨fm_le rfl, fm_le rfl, Nat.zero_le _, Nat.zero_le _⟩ rfl rfl (fm_le rfl) dX9_rate_16 ?_
    refine fm_if_ne (tgt := 25) (pc := 19) F dX9_rate_19 (by decide) (fun c11 => ?_) (fun c11 => ?_)
    · replace hf := fm_in c11 hf
      refine fm_aload_n (pc := 25) F dX9_rate_25 0 rfl ?_
      refine fm_get (v := .ref (ad 4)) (pc := 26) F (ci := 9) (T := TX9) (n := 29) rfl in_X9 11 (fm_lt rfl) dX9_rate_26 q806 0 (fm_lt rfl) rfl rfl ?_
      refine fm_iload_n (pc := 29) F dX9_rate_29 2 rfl ?_
      obtain ⟨b12, hf⟩ := fm_b_inv hf
      refine fm_iald (pc := 30) F dX9_rate_30 4 (fm_lt rfl) rfl b12 ?_
      refine fm_topi (fun x13 ex13 => ?_)
      replace hf := fm_let_inv ex13 hf
      refine fm_istore_n (lv' := [(3, .int x13), (0, .ref (ad 0)), (1, .int l1), (2, .int l2)]) (pc := 31) F dX9_rate_31 rfl (fm_lt rfl) rfl ?_
      refine fm_iload_n (pc := 32) F dX9_rate_32 0 rfl ?_
      refine fm_aload_n (pc := 33) F dX9_rate_33 1 rfl ?_
      refine fm_get (v := .ref (ad 11)) (pc := 34) F (ci := 9) (T := TX9) (n := 29) rfl in_X9 18 (fm_lt rfl) dX9_rate_34 q813 0 (fm_lt rfl) rfl rfl ?_
      refine fm_bipush (v := 8) (pc := 37) F dX9_rate_37 (by decide) ?_
      refine fm_aload_n (pc := 39) F dX9_rate_39 1 rfl ?_
      refine fm_get (v := .ref (ad 11)) (pc := 40) F (ci := 9) (T := TX9) (n := 29) rfl in_X9 18 (fm_lt rfl) dX9_rate_40 q813 0 (fm_lt rfl) rfl rfl ?_
      refine fm_iload_n (pc := 43) F dX9_rate_43 3 rfl ?_
      obtain ⟨r14, M15, h16, hf⟩ := fm_bi_inv hf
      refine fm_callS (As := [.ref (ad 11), .int l2]) (rest := [.int 8, .ref (ad 11), .int x13]) (pc := 44) F (mX9_hangs (Or.inl rfl) F.inj h16) q935 q936 q50 q937 ⟨rfl, rfl⟩ hdX9_hangs.2 ⟨fm_le rfl, fm_le rfl, Nat.zero_le _, Nat.zero_le _⟩ rfl rfl (fm_le rfl) dX9_rate_44 ?_
      refine fm_iadd (pc := 47) F dX9_rate_47 ?_
      obtain ⟨b18, hf⟩ := fm_b_inv hf
      refine fm_iald (pc := 48) F dX9_rate_48 11 (fm_lt rfl) rfl b18 ?_
      refine fm_isub (pc := 49) F dX9_rate_49 ?_
      refine fm_topi (fun x19 ex19 => ?_)
      replace hf := fm_let_inv ex19 hf
      refine fm_istore (lv' := [(4, .int x19), (3, .int x13), (0, .ref (ad 0)), (1, .int l1), (2, .int l2)]) (pc := 50) F dX9_rate_50 (fm_lt rfl) rfl ?_
      refine fm_aload_n (pc := 52) F dX9_rate_52 2 rfl ?_
      refine fm_dup (pc := 53) F dX9_rate_53 rfl ?_
      refine fm_get (v := .long M15.2) (pc := 54) F (ci := 9) (T := TX9) (n := 29) rfl in_X9 1 (fm_lt rfl) dX9_rate_54 q796 0 (fm_lt rfl) rfl rfl ?_
      refine fm_iload_n (pc := 57) F dX9_rate_57 3 rfl ?_
      refine fm_if_ne (tgt := 65) (pc := 58) F dX9_rate_58 (by decide) (fun c20 => ?_) (fun c20 => ?_)
      · replace hf := fm_in c20 hf
        refine fm_iload_n (pc := 65) F dX9_rate_65 3 rfl ?_
        refine fm_iconst (v := 1) (pc := 66) F dX9_rate_66 (by decide) ?_
        refine fm_icmp_ne (tgt := 76) (pc := 67) F dX9_rate_67 (by decide) (fun c21 => ?_) (fun c21 => ?_)
        · replace hf := fm_in c21 hf
          refine fm_iload_n (pc := 76) F dX9_rate_76 3 rfl ?_
          refine fm_iconst (v := 2) (pc := 77) F dX9_rate_77 (by decide) ?_
          refine fm_icmp_ne (tgt := 87) (pc := 78) F dX9_rate_78 (by decide) (fun c22 => ?_) (fun c22 => ?_)
          · replace hf := fm_in c22 hf
            refine fm_iload_n (pc := 87) F dX9_rate_87 3 rfl ?_
            refine fm_iconst (v := 3) (pc := 88) F dX9_rate_88 (by decide) ?_
            refine fm_icmp_ne (tgt := 98) (pc := 89) F dX9_rate_89 (by decide) (fun c23 => ?_) (fun c23 => ?_)
            · replace hf := fm_in c23 hf
              refine fm_iload_n (pc := 98) F dX9_rate_98 3 rfl ?_
              refine fm_iconst (v := 4) (pc := 99) F dX9_rate_99 (by decide) ?_
              refine fm_icmp_ne (tgt := 109) (pc := 100) F dX9_rate_100 (by decide) (fun c24 => ?_) (fun c24 => ?_)
              · replace hf := fm_in c24 hf
                refine fm_ldc2 (pc := 109) F dX9_rate_109 q1078 ?_
                refine fm_pick [2, 3, 4, 1, 0] rfl ?_
                exact wX9_rate_112 F E _ _ _ _ _ _ _ hf
              · replace hf := fm_ip c24 hf
                refine fm_ldc2 (pc := 103) F dX9_rate_103 q1077 ?_
                refine fm_goto (tgt := 112) (pc := 106) F dX9_rate_106 (by decide) ?_
                refine fm_pick [2, 3, 4, 1, 0] rfl ?_
                exact wX9_rate_112 F E _ _ _ _ _ _ _ hf
            · replace hf := fm_ip c23 hf
              refine fm_ldc2 (pc := 92) F dX9_rate_92 q1076 ?_
              refine fm_goto (tgt := 112) (pc := 95) F dX9_rate_95 (by decide) ?_
              refine fm_pick [2, 3, 4, 1, 0] rfl ?_
              exact wX9_rate_112 F E _ _ _ _ _ _ _ hf
          · replace hf := fm_ip c22 hf
            refine fm_ldc2 (pc := 81) F dX9_rate_81 q1075 ?_
            refine fm_goto (tgt := 112) (pc := 84) F dX9_rate_84 (by decide) ?_
            refine fm_pick [2, 3, 4, 1, 0] rfl ?_
            exact wX9_rate_112 F E _ _ _ _ _ _ _ hf
        · replace hf := fm_ip c21 hf
          refine fm_ldc2 (pc := 70) F dX9_rate_70 q1074 ?_
          refine fm_goto (tgt := 112) (pc := 73) F dX9_rate_73 (by decide) ?_
          refine fm_pick [2, 3, 4, 1, 0] rfl ?_
          exact wX9_rate_112 F E _ _ _ _ _ _ _ hf
      · replace hf := fm_ip c20 hf
        refine fm_lconst (v := 1) (pc := 61) F dX9_rate_61 (by decide) ?_
        refine fm_goto (tgt := 112) (pc := 62) F dX9_rate_62 (by decide) ?_
        refine fm_pick [2, 3, 4, 1, 0] rfl ?_
        exact wX9_rate_112 F E _ _ _ _ _ _ _ hf
    · replace hf := fm_ip c11 hf
      refine fm_ldc (pc := 22) F dX9_rate_22 q1073 ?_
      exact fm_iret (pc := 24) F E hf dX9_rate_24
abbrev rmX9_keep : Room := { frames := 3, cells := 0, slots := 0, locals := 102 }
def fX9_keep_18 (n : Nat) : Nat → fm_M → Int32 → Int32 → Option (Int32 × fm_M)
  | 0, _, _, _ => none
  | k + 1, M, l1, l2 =>
    if 56 ≤ l2 then
      fm_b l1 2 <|
      fm_let (fm_wr M 14 l1.toNatClampNeg 1) fun M3 =>
      some ((M3.1 11 0), M3)
    else
      fm_b l2 56 <|
      fm_b ((56 * l1) + l2) 112 <|
      fm_let (fm_wr M 13 ((56 * l1) + l2).toNatClampNeg (M.1 11 l2.toNatClampNeg)) fun M6 =>
      fX9_keep_18 n k M6 l1 (l2 + 1)
def fX9_keep (n : Nat) (M : fm_M) (l1 : Int32) : Option (Int32 × fm_M) :=
  fm_let (fm_wr M 0 0 0) fun M1 =>
  fm_bi (fX9_in n M1 l1 0 1) fun r2 M3 =>
  if r2 = 0 then
    some ((-1), M3)
  else
    fX9_keep_18 n n M3 l1 0
theorem hdX9_keep : yX9_keep.cls = RX9 ∧ yX9_keep.cls ≠ "java/lang/invoke/MethodHandle" ∧ yX9_keep.cls ≠ "java/lang/invoke/VarHandle" ∧ (parseMethodDescriptor yX9_keep.desc).map (fun d => d.parameters.length) = some 1 := by decide +kernel
set_option maxHeartbeats 4000000 in
theorem wX9_keep_18 {X : fm_X} {D : va_G} {dA : Nat → ClassId} {ad : Nat → Nat} {n : Nat}  {r : Int32} (F : fm_F X (YM D dA ad) cX9_keep 3 RX9 rmX9_keep) {M' : fm_M} (E : fm_E X (YM D dA ad) (some (.int r)) M' (some .int)) : ∀ (k : Nat) (M : fm_M) (l1 : Int32) (l2 : Int32), fX9_keep_18 n k M l1 l2 = some (r, M') → fm_G X (YM D dA ad) (0, 0) 3 M 18 [(0, .ref (ad 0)), (1, .int l1), (2, .int l2)] [] := by
  intro k
  induction k with
  | zero =>
    intro M l1 l2 hf
    rw [fX9_keep_18] at hf
    cases hf
  | succ k ih =>
    intro M l1 l2 hf
    rw [fX9_keep_18] at hf
    refine fm_iload_n (pc := 18) F dX9_keep_18 2 rfl ?_
    refine fm_bipush (v := 56) (pc := 19) F dX9_keep_19 (by decide) ?_
    refine fm_icmp_ge (tgt := 47) (pc := 21) F dX9_keep_21 (by decide) (fun c1 => ?_) (fun c1 => ?_)
    · replace hf := fm_ip c1 hf
      refine fm_aload_n (pc := 47) F dX9_keep_47 0 rfl ?_
      refine fm_get (v := .ref (ad 14)) (pc := 48) F (ci := 9) (T := TX9) (n := 29) rfl in_X9 21 (fm_lt rfl) dX9_keep_48 q816 0 (fm_lt rfl) rfl rfl ?_
      refine fm_iload_n (pc := 51) F dX9_keep_51 1 rfl ?_
      refine fm_iconst (v := 1) (pc := 52) F dX9_keep_52 (by decide) ?_
      obtain ⟨b2, hf⟩ := fm_b_inv hf
      refine fm_zast (pc := 53) F dX9_keep_53 14 (fm_lt rfl) (fun _ => rfl) b2 fm_nar1 ?_
      refine fm_nameM (fun M3 eM3 => ?_)
      replace hf := fm_let_inv eM3 hf
      refine fm_aload_n (pc := 54) F dX9_keep_54 0 rfl ?_
      refine fm_get (v := .ref (ad 11)) (pc := 55) F (ci := 9) (T := TX9) (n := 29) rfl in_X9 18 (fm_lt rfl) dX9_keep_55 q813 0 (fm_lt rfl) rfl rfl ?_
      refine fm_iconst (v := 0) (pc := 58) F dX9_keep_58 (by decide) ?_
      refine fm_ialdK (pc := 59) F dX9_keep_59 11 (fm_lt rfl) rfl 0 (fm_ok (by decide)) rfl ?_
      exact fm_iret (pc := 60) F E hf dX9_keep_60
    · replace hf := fm_in c1 hf
      refine fm_aload_n (pc := 24) F dX9_keep_24 0 rfl ?_
      refine fm_get (v := .ref (ad 13)) (pc := 25) F (ci := 9) (T := TX9) (n := 29) rfl in_X9 20 (fm_lt rfl) dX9_keep_25 q815 0 (fm_lt rfl) rfl rfl ?_
      refine fm_bipush (v := 56) (pc := 28) F dX9_keep_28 (by decide) ?_
      refine fm_iload_n (pc := 30) F dX9_keep_30 1 rfl ?_
      refine fm_imul (pc := 31) F dX9_keep_31 ?_
      refine fm_iload_n (pc := 32) F dX9_keep_32 2 rfl ?_
      refine fm_iadd (pc := 33) F dX9_keep_33 ?_
      refine fm_aload_n (pc := 34) F dX9_keep_34 0 rfl ?_
      refine fm_get (v := .ref (ad 11)) (pc := 35) F (ci := 9) (T := TX9) (n := 29) rfl in_X9 18 (fm_lt rfl) dX9_keep_35 q813 0 (fm_lt rfl) rfl rfl ?_
      refine fm_iload_n (pc := 38) F dX9_keep_38 2 rfl ?_
      obtain ⟨b4, hf⟩ := fm_b_inv hf
      refine fm_iald (pc := 39) F dX9_keep_39 11 (fm_lt rfl) rfl b4 ?_
      obtain ⟨b5, hf⟩ := fm_b_inv hf
      refine fm_iast (pc := 40) F dX9_keep_40 13 (fm_lt rfl) (fun _ => rfl) b5 ?_
      refine fm_nameM (fun M6 eM6 => ?_)
      replace hf := fm_let_inv eM6 hf
      refine fm_iinc (v := (l2 + 1)) (lv' := [(2, .int (l2 + 1)), (0, .ref (ad 0)), (1, .int l1)]) (pc := 41) F dX9_keep_41 2 rfl rfl (fm_lt rfl) rfl ?_
      refine fm_goto (tgt := 18) (pc := 44) F dX9_keep_44 (by decide) ?_
      refine fm_pick [1, 2, 0] rfl ?_
      exact ih _ _ _ hf
set_option maxHeartbeats 4000000 in
theorem mX9_keep {l : Launch} {D : va_G} {dA : Nat → ClassId} {ad : Nat → Nat} {n : Nat}  (inj : ∀ i j, i < 20 → j < 20 → ad i = ad j → i = j) {M M' : fm_M} {l1 : Int32} {r : Int32} (hf : fX9_keep n M l1 = some (r, M')) : fm_C l yX9_keep (ws_ yX9_keep cX9_keep 3 (some .int)) rmX9_keep (YM D dA ad) [.ref (ad 0), .int l1] M (some (.int r)) M' := by
  refine fm_enter (by decide) rfl (fm_le rfl) inj ?_
  intro X hXl F E
  subst hXl
  unfold fX9_keep at hf
  show fm_G X (YM D dA ad) (0, 0) 3 M 0 [(0, .ref (ad 0)), (1, .int l1)] []
  refine fm_aload_n (pc := 0) F dX9_keep_0 0 rfl ?_
  refine fm_iconst (v := 0) (pc := 1) F dX9_keep_1 (by decide) ?_
  refine fm_putI (v := 0) (pc := 2) F clX9 0 (fm_lt rfl) dX9_keep_2 q795 rfl rfl 0 (fm_lt rfl) rfl (fm_lt rfl) rfl ?_
  refine fm_nameM (fun M1 eM1 => ?_)
  replace hf := fm_let_inv eM1 hf
  refine fm_iload_n (pc := 5) F dX9_keep_5 1 rfl ?_
  refine fm_iconst (v := 0) (pc := 6) F dX9_keep_6 (by decide) ?_
  refine fm_iconst (v := 1) (pc := 7) F dX9_keep_7 (by decide) ?_
  obtain ⟨r2, M3, h4, hf⟩ := fm_bi_inv hf
  refine fm_callS (As := [.int l1, .int 0, .int 1]) (rest := []) (pc := 8) F (mX9_in F.inj h4) q887 q888 q50 q889 ⟨rfl, rfl⟩ hdX9_in.2 ⟨fm_le rfl, fm_le rfl, Nat.zero_le _, Nat.zero_le _⟩ rfl rfl (fm_le rfl) dX9_keep_8 ?_
  refine fm_if_ne (tgt := 16) (pc := 11) F dX9_keep_11 (by decide) (fun c6 => ?_) (fun c6 => ?_)
  · replace hf := fm_in c6 hf
    refine fm_iconst (v := 0) (pc := 16) F dX9_keep_16 (by decide) ?_
    refine fm_istore_n (lv' := [(2, .int 0), (0, .ref (ad 0)), (1, .int l1)]) (pc := 17) F dX9_keep_17 rfl (fm_lt rfl) rfl ?_
    refine fm_pick [1, 2, 0] rfl ?_
    exact wX9_keep_18 F E n _ _ _ hf
  · replace hf := fm_ip c6 hf
    refine fm_iconst (v := (-1)) (pc := 14) F dX9_keep_14 (by decide) ?_
    exact fm_iret (pc := 15) F E hf dX9_keep_15
abbrev rmX9_back : Room := { frames := 3, cells := 0, slots := 0, locals := 102 }
def fX9_back_30 (n : Nat) : Nat → fm_M → Int32 → Int32 → Option (Int32 × fm_M)
  | 0, _, _, _ => none
  | k + 1, M, l1, l2 =>
    if 56 ≤ l2 then
      fm_let (fm_wr M 0 23 0) fun M2 =>
      some ((M2.1 11 0), M2)
    else
      fm_b ((56 * l1) + l2) 112 <|
      fm_b l2 56 <|
      fm_let (fm_wr M 11 l2.toNatClampNeg (M.1 13 ((56 * l1) + l2).toNatClampNeg)) fun M5 =>
      fX9_back_30 n k M5 l1 (l2 + 1)
def fX9_back (n : Nat) (M : fm_M) (l1 : Int32) : Option (Int32 × fm_M) :=
  fm_let (fm_wr M 0 0 0) fun M1 =>
  fm_bi (fX9_in n M1 l1 0 1) fun r2 M3 =>
  if r2 = 0 then
    some ((-1), M3)
  else
    fm_b l1 2 <|
    if (M3.1 14 l1.toNatClampNeg) = 0 then
      some ((-2), M3)
    else
      fX9_back_30 n n M3 l1 0
theorem hdX9_back : yX9_back.cls = RX9 ∧ yX9_back.cls ≠ "java/lang/invoke/MethodHandle" ∧ yX9_back.cls ≠ "java/lang/invoke/VarHandle" ∧ (parseMethodDescriptor yX9_back.desc).map (fun d => d.parameters.length) = some 1 := by decide +kernel
set_option maxHeartbeats 4000000 in
theorem wX9_back_30 {X : fm_X} {D : va_G} {dA : Nat → ClassId} {ad : Nat → Nat} {n : Nat}  {r : Int32} (F : fm_F X (YM D dA ad) cX9_back 3 RX9 rmX9_back) {M' : fm_M} (E : fm_E X (YM D dA ad) (some (.int r)) M' (some .int)) : ∀ (k : Nat) (M : fm_M) (l1 : Int32) (l2 : Int32), fX9_back_30 n k M l1 l2 = some (r, M') → fm_G X (YM D dA ad) (0, 0) 3 M 30 [(0, .ref (ad 0)), (1, .int l1), (2, .int l2)] [] := by
  intro k
  induction k with
  | zero =>
    intro M l1 l2 hf
    rw [fX9_back_30] at hf
    cases hf
  | succ k ih =>
    intro M l1 l2 hf
    rw [fX9_back_30] at hf
    refine fm_iload_n (pc := 30) F dX9_back_30 2 rfl ?_
    refine fm_bipush (v := 56) (pc := 31) F dX9_back_31 (by decide) ?_
    refine fm_icmp_ge (tgt := 59) (pc := 33) F dX9_back_33 (by decide) (fun c1 => ?_) (fun c1 => ?_)
    · replace hf := fm_ip c1 hf
      refine fm_aload_n (pc := 59) F dX9_back_59 0 rfl ?_
      refine fm_iconst (v := 0) (pc := 60) F dX9_back_60 (by decide) ?_
      refine fm_putI (v := 0) (pc := 61) F clX9 23 (fm_lt rfl) dX9_back_61 q818 rfl rfl 0 (fm_lt rfl) rfl (fm_lt rfl) rfl ?_
      refine fm_nameM (fun M2 eM2 => ?_)
      replace hf := fm_let_inv eM2 hf
      refine fm_aload_n (pc := 64) F dX9_back_64 0 rfl ?_
      refine fm_get (v := .ref (ad 11)) (pc := 65) F (ci := 9) (T := TX9) (n := 29) rfl in_X9 18 (fm_lt rfl) dX9_back_65 q813 0 (fm_lt rfl) rfl rfl ?_
      refine fm_iconst (v := 0) (pc := 68) F dX9_back_68 (by decide) ?_
      refine fm_ialdK (pc := 69) F dX9_back_69 11 (fm_lt rfl) rfl 0 (fm_ok (by decide)) rfl ?_
      exact fm_iret (pc := 70) F E hf dX9_back_70
    · replace hf := fm_in c1 hf
      refine fm_aload_n (pc := 36) F dX9_back_36 0 rfl ?_
      refine fm_get (v := .ref (ad 11)) (pc := 37) F (ci := 9) (T := TX9) (n := 29) rfl in_X9 18 (fm_lt rfl) dX9_back_37 q813 0 (fm_lt rfl) rfl rfl ?_
      refine fm_iload_n (pc := 40) F dX9_back_40 2 rfl ?_
      refine fm_aload_n (pc := 41) F dX9_back_41 0 rfl ?_
      refine fm_get (v := .ref (ad 13)) (pc := 42) F (ci := 9) (T := TX9) (n := 29) rfl in_X9 20 (fm_lt rfl) dX9_back_42 q815 0 (fm_lt rfl) rfl rfl ?_
      refine fm_bipush (v := 56) (pc := 45) F dX9_back_45 (by decide) ?_
      refine fm_iload_n (pc := 47) F dX9_back_47 1 rfl ?_
      refine fm_imul (pc := 48) F dX9_back_48 ?_
      refine fm_iload_n (pc := 49) F dX9_back_49 2 rfl ?_
      refine fm_iadd (pc := 50) F dX9_back_50 ?_
      obtain ⟨b3, hf⟩ := fm_b_inv hf
      refine fm_iald (pc := 51) F dX9_back_51 13 (fm_lt rfl) rfl b3 ?_
      obtain ⟨b4, hf⟩ := fm_b_inv hf
      refine fm_iast (pc := 52) F dX9_back_52 11 (fm_lt rfl) (fun _ => rfl) b4 ?_
      refine fm_nameM (fun M5 eM5 => ?_)
      replace hf := fm_let_inv eM5 hf
      refine fm_iinc (v := (l2 + 1)) (lv' := [(2, .int (l2 + 1)), (0, .ref (ad 0)), (1, .int l1)]) (pc := 53) F dX9_back_53 2 rfl rfl (fm_lt rfl) rfl ?_
      refine fm_goto (tgt := 30) (pc := 56) F dX9_back_56 (by decide) ?_
      refine fm_pick [1, 2, 0] rfl ?_
      exact ih _ _ _ hf
set_option maxHeartbeats 4000000 in
theorem mX9_back {l : Launch} {D : va_G} {dA : Nat → ClassId} {ad : Nat → Nat} {n : Nat}  (inj : ∀ i j, i < 20 → j < 20 → ad i = ad j → i = j) {M M' : fm_M} {l1 : Int32} {r : Int32} (hf : fX9_back n M l1 = some (r, M')) : fm_C l yX9_back (ws_ yX9_back cX9_back 3 (some .int)) rmX9_back (YM D dA ad) [.ref (ad 0), .int l1] M (some (.int r)) M' := by
  refine fm_enter (by decide) rfl (fm_le rfl) inj ?_
  intro X hXl F E
  subst hXl
  unfold fX9_back at hf
  show fm_G X (YM D dA ad) (0, 0) 3 M 0 [(0, .ref (ad 0)), (1, .int l1)] []
  refine fm_aload_n (pc := 0) F dX9_back_0 0 rfl ?_
  refine fm_iconst (v := 0) (pc := 1) F dX9_back_1 (by decide) ?_
  refine fm_putI (v := 0) (pc := 2) F clX9 0 (fm_lt rfl) dX9_back_2 q795 rfl rfl 0 (fm_lt rfl) rfl (fm_lt rfl) rfl ?_
  refine fm_nameM (fun M1 eM1 => ?_)
  replace hf := fm_let_inv eM1 hf
  refine fm_iload_n (pc := 5) F dX9_back_5 1 rfl ?_
  refine fm_iconst (v := 0) (pc := 6) F dX9_back_6 (by decide) ?_
  refine fm_iconst (v := 1) (pc := 7) F dX9_back_7 (by decide) ?_
  obtain ⟨r2, M3, h4, hf⟩ := fm_bi_inv hf
  refine fm_callS (As := [.int l1, .int 0, .int 1]) (rest := []) (pc := 8) F (mX9_in F.inj h4) q887 q888 q50 q889 ⟨rfl, rfl⟩ hdX9_in.2 ⟨fm_le rfl, fm_le rfl, Nat.zero_le _, Nat.zero_le _⟩ rfl rfl (fm_le rfl) dX9_back_8 ?_
  refine fm_if_ne (tgt := 16) (pc := 11) F dX9_back_11 (by decide) (fun c6 => ?_) (fun c6 => ?_)
  · replace hf := fm_in c6 hf
    refine fm_aload_n (pc := 16) F dX9_back_16 0 rfl ?_
    refine fm_get (v := .ref (ad 14)) (pc := 17) F (ci := 9) (T := TX9) (n := 29) rfl in_X9 21 (fm_lt rfl) dX9_back_17 q816 0 (fm_lt rfl) rfl rfl ?_
    refine fm_iload_n (pc := 20) F dX9_back_20 1 rfl ?_
    obtain ⟨b7, hf⟩ := fm_b_inv hf
    refine fm_zald (pc := 21) F dX9_back_21 14 (fm_lt rfl) rfl b7 ?_
    refine fm_if_ne (tgt := 28) (pc := 22) F dX9_back_22 (by decide) (fun c8 => ?_) (fun c8 => ?_)
    · replace hf := fm_in c8 hf
      refine fm_iconst (v := 0) (pc := 28) F dX9_back_28 (by decide) ?_
      refine fm_istore_n (lv' := [(2, .int 0), (0, .ref (ad 0)), (1, .int l1)]) (pc := 29) F dX9_back_29 rfl (fm_lt rfl) rfl ?_
      refine fm_pick [1, 2, 0] rfl ?_
      exact wX9_back_30 F E n _ _ _ hf
    · replace hf := fm_ip c8 hf
      refine fm_bipush (v := (-2)) (pc := 25) F dX9_back_25 (by decide) ?_
      exact fm_iret (pc := 27) F E hf dX9_back_27
  · replace hf := fm_ip c6 hf
    refine fm_iconst (v := (-1)) (pc := 14) F dX9_back_14 (by decide) ?_
    exact fm_iret (pc := 15) F E hf dX9_back_15
abbrev rmX9_roads : Room := { frames := 2, cells := 0, slots := 0, locals := 80 }
def fX9_roads_4 (n : Nat) : Nat → fm_M → Int32 → Int32 → Option (Int32 × fm_M)
  | 0, _, _, _ => none
  | k + 1, M, l1, l2 =>
    if 36 ≤ l2 then
      some ((l1 / 2), M)
    else
      fm_b l2 72 <|
      if (M.1 6 l2.toNatClampNeg) ≤ 0 then
        fX9_roads_4 n k M (l1 + 0) (l2 + 1)
      else
        fX9_roads_4 n k M (l1 + 1) (l2 + 1)
def fX9_roads (n : Nat) (M : fm_M) : Option (Int32 × fm_M) :=
  fX9_roads_4 n n M 0 0
theorem hdX9_roads : yX9_roads.cls = RX9 ∧ yX9_roads.cls ≠ "java/lang/invoke/MethodHandle" ∧ yX9_roads.cls ≠ "java/lang/invoke/VarHandle" ∧ (parseMethodDescriptor yX9_roads.desc).map (fun d => d.parameters.length) = some 0 := by decide +kernel
set_option maxHeartbeats 4000000 in
theorem wX9_roads_4 {X : fm_X} {D : va_G} {dA : Nat → ClassId} {ad : Nat → Nat} {n : Nat}  {r : Int32} (F : fm_F X (YM D dA ad) cX9_roads 3 RX9 rmX9_roads) {M' : fm_M} (E : fm_E X (YM D dA ad) (some (.int r)) M' (some .int)) : ∀ (k : Nat) (M : fm_M) (l1 : Int32) (l2 : Int32), fX9_roads_4 n k M l1 l2 = some (r, M') → fm_G X (YM D dA ad) (0, 0) 3 M 4 [(0, .ref (ad 0)), (1, .int l1), (2, .int l2)] [] := by
  intro k
  induction k with
  | zero =>
    intro M l1 l2 hf
    rw [fX9_roads_4] at hf
    cases hf
  | succ k ih =>
    intro M l1 l2 hf
    rw [fX9_roads_4] at hf
    refine fm_iload_n (pc := 4) F dX9_roads_4 2 rfl ?_
    refine fm_bipush (v := 36) (pc := 5) F dX9_roads_5 (by decide) ?_
    refine fm_icmp_ge (tgt := 33) (pc := 7) F dX9_roads_7 (by decide) (fun c1 => ?_) (fun c1 => ?_)
    · replace hf := fm_ip c1 hf
      refine fm_iload_n (pc := 33) F dX9_roads_33 1 rfl ?_
      refine fm_iconst (v := 2) (pc := 34) F dX9_roads_34 (by decide) ?_
      refine fm_idiv (pc := 35) F dX9_roads_35 (by decide) ?_
      exact fm_iret (pc := 36) F E hf dX9_roads_36
    · replace hf := fm_in c1 hf
      refine fm_iload_n (pc := 10) F dX9_roads_10 1 rfl ?_
      refine fm_aload_n (pc := 11) F dX9_roads_11 0 rfl ?_
      refine fm_get (v := .ref (ad 6)) (pc := 12) F (ci := 9) (T := TX9) (n := 29) rfl in_X9 13 (fm_lt rfl) dX9_roads_12 q808 0 (fm_lt rfl) rfl rfl ?_
      refine fm_iload_n (pc := 15) F dX9_roads_15 2 rfl ?_
      obtain ⟨b2, hf⟩ := fm_b_inv hf
      refine fm_iald (pc := 16) F dX9_roads_16 6 (fm_lt rfl) rfl b2 ?_
      refine fm_if_le (tgt := 24) (pc := 17) F dX9_roads_17 (by decide) (fun c3 => ?_) (fun c3 => ?_)
      · replace hf := fm_ip c3 hf
        refine fm_iconst (v := 0) (pc := 24) F dX9_roads_24 (by decide) ?_
        refine fm_iadd (pc := 25) F dX9_roads_25 ?_
        refine fm_istore_n (lv' := [(1, .int (l1 + 0)), (0, .ref (ad 0)), (2, .int l2)]) (pc := 26) F dX9_roads_26 rfl (fm_lt rfl) rfl ?_
        refine fm_iinc (v := (l2 + 1)) (lv' := [(2, .int (l2 + 1)), (1, .int (l1 + 0)), (0, .ref (ad 0))]) (pc := 27) F dX9_roads_27 2 rfl rfl (fm_lt rfl) rfl ?_
        refine fm_goto (tgt := 4) (pc := 30) F dX9_roads_30 (by decide) ?_
        refine fm_pick [2, 1, 0] rfl ?_
        exact ih _ _ _ hf
      · replace hf := fm_in c3 hf
        refine fm_iconst (v := 1) (pc := 20) F dX9_roads_20 (by decide) ?_
        refine fm_goto (tgt := 25) (pc := 21) F dX9_roads_21 (by decide) ?_
        refine fm_iadd (pc := 25) F dX9_roads_25 ?_
        refine fm_istore_n (lv' := [(1, .int (l1 + 1)), (0, .ref (ad 0)), (2, .int l2)]) (pc := 26) F dX9_roads_26 rfl (fm_lt rfl) rfl ?_
        refine fm_iinc (v := (l2 + 1)) (lv' := [(2, .int (l2 + 1)), (1, .int (l1 + 1)), (0, .ref (ad 0))]) (pc := 27) F dX9_roads_27 2 rfl rfl (fm_lt rfl) rfl ?_
        refine fm_goto (tgt := 4) (pc := 30) F dX9_roads_30 (by decide) ?_
        refine fm_pick [2, 1, 0] rfl ?_
        exact ih _ _ _ hf
set_option maxHeartbeats 4000000 in
theorem mX9_roads {l : Launch} {D : va_G} {dA : Nat → ClassId} {ad : Nat → Nat} {n : Nat}  (inj : ∀ i j, i < 20 → j < 20 → ad i = ad j → i = j) {M M' : fm_M} {r : Int32} (hf : fX9_roads n M = some (r, M')) : fm_C l yX9_roads (ws_ yX9_roads cX9_roads 3 (some .int)) rmX9_roads (YM D dA ad) [.ref (ad 0)] M (some (.int r)) M' := by
  refine fm_enter (by decide) rfl (fm_le rfl) inj ?_
  intro X hXl F E
  subst hXl
  unfold fX9_roads at hf
  show fm_G X (YM D dA ad) (0, 0) 3 M 0 [(0, .ref (ad 0))] []
  refine fm_iconst (v := 0) (pc := 0) F dX9_roads_0 (by decide) ?_
  refine fm_istore_n (lv' := [(1, .int 0), (0, .ref (ad 0))]) (pc := 1) F dX9_roads_1 rfl (fm_lt rfl) rfl ?_
  refine fm_iconst (v := 0) (pc := 2) F dX9_roads_2 (by decide) ?_
  refine fm_istore_n (lv' := [(2, .int 0), (1, .int 0), (0, .ref (ad 0))]) (pc := 3) F dX9_roads_3 rfl (fm_lt rfl) rfl ?_
  refine fm_pick [2, 1, 0] rfl ?_
  exact wX9_roads_4 F E n _ _ _ hf
abbrev rmX9_count : Room := { frames := 3, cells := 0, slots := 0, locals := 102 }
def fX9_count (n : Nat) (M : fm_M) (l1 : Int32) : Option (Int32 × fm_M) :=
  fm_let (fm_wr M 0 0 0) fun M1 =>
  if l1 = 0 then
    some ((M1.1 2 0), M1)
  else
    if l1 = 1 then
      fm_bi (fX9_roads n M1) fun r7 M8 =>
      some (r7, M8)
    else
      if l1 = 2 then
        some ((M1.1 2 1), M1)
      else
        if l1 = 3 then
          some ((M1.1 0 26), M1)
        else
          if l1 = 4 then
            some ((M1.1 0 3), M1)
          else
            some ((-1), M1)
theorem hdX9_count : yX9_count.cls = RX9 ∧ yX9_count.cls ≠ "java/lang/invoke/MethodHandle" ∧ yX9_count.cls ≠ "java/lang/invoke/VarHandle" ∧ (parseMethodDescriptor yX9_count.desc).map (fun d => d.parameters.length) = some 1 := by decide +kernel
set_option maxHeartbeats 4000000 in
theorem mX9_count {l : Launch} {D : va_G} {dA : Nat → ClassId} {ad : Nat → Nat} {n : Nat}  (inj : ∀ i j, i < 20 → j < 20 → ad i = ad j → i = j) {M M' : fm_M} {l1 : Int32} {r : Int32} (hf : fX9_count n M l1 = some (r, M')) : fm_C l yX9_count (ws_ yX9_count cX9_count 2 (some .int)) rmX9_count (YM D dA ad) [.ref (ad 0), .int l1] M (some (.int r)) M' := by
  refine fm_enter (by decide) rfl (fm_le rfl) inj ?_
  intro X hXl F E
  subst hXl
  unfold fX9_count at hf
  show fm_G X (YM D dA ad) (0, 0) 2 M 0 [(0, .ref (ad 0)), (1, .int l1)] []
  refine fm_aload_n (pc := 0) F dX9_count_0 0 rfl ?_
  refine fm_iconst (v := 0) (pc := 1) F dX9_count_1 (by decide) ?_
  refine fm_putI (v := 0) (pc := 2) F clX9 0 (fm_lt rfl) dX9_count_2 q795 rfl rfl 0 (fm_lt rfl) rfl (fm_lt rfl) rfl ?_
  refine fm_nameM (fun M1 eM1 => ?_)
  replace hf := fm_let_inv eM1 hf
  refine fm_iload_n (pc := 5) F dX9_count_5 1 rfl ?_
  refine fm_if_ne (tgt := 18) (pc := 6) F dX9_count_6 (by decide) (fun c2 => ?_) (fun c2 => ?_)
  · replace hf := fm_in c2 hf
    refine fm_iload_n (pc := 18) F dX9_count_18 1 rfl ?_
    refine fm_iconst (v := 1) (pc := 19) F dX9_count_19 (by decide) ?_
    refine fm_icmp_ne (tgt := 30) (pc := 20) F dX9_count_20 (by decide) (fun c3 => ?_) (fun c3 => ?_)
    · replace hf := fm_in c3 hf
      refine fm_iload_n (pc := 30) F dX9_count_30 1 rfl ?_
      refine fm_iconst (v := 2) (pc := 31) F dX9_count_31 (by decide) ?_
      refine fm_icmp_ne (tgt := 44) (pc := 32) F dX9_count_32 (by decide) (fun c4 => ?_) (fun c4 => ?_)
      · replace hf := fm_in c4 hf
        refine fm_iload_n (pc := 44) F dX9_count_44 1 rfl ?_
        refine fm_iconst (v := 3) (pc := 45) F dX9_count_45 (by decide) ?_
        refine fm_icmp_ne (tgt := 56) (pc := 46) F dX9_count_46 (by decide) (fun c5 => ?_) (fun c5 => ?_)
        · replace hf := fm_in c5 hf
          refine fm_iload_n (pc := 56) F dX9_count_56 1 rfl ?_
          refine fm_iconst (v := 4) (pc := 57) F dX9_count_57 (by decide) ?_
          refine fm_icmp_ne (tgt := 68) (pc := 58) F dX9_count_58 (by decide) (fun c6 => ?_) (fun c6 => ?_)
          · replace hf := fm_in c6 hf
            refine fm_iconst (v := (-1)) (pc := 68) F dX9_count_68 (by decide) ?_
            exact fm_iret (pc := 69) F E hf dX9_count_69
          · replace hf := fm_ip c6 hf
            refine fm_aload_n (pc := 61) F dX9_count_61 0 rfl ?_
            refine fm_get (v := .int (M1.1 0 3)) (pc := 62) F (ci := 9) (T := TX9) (n := 29) rfl in_X9 3 (fm_lt rfl) dX9_count_62 q798 0 (fm_lt rfl) rfl rfl ?_
            refine fm_goto (tgt := 69) (pc := 65) F dX9_count_65 (by decide) ?_
            exact fm_iret (pc := 69) F E hf dX9_count_69
        · replace hf := fm_ip c5 hf
          refine fm_aload_n (pc := 49) F dX9_count_49 0 rfl ?_
          refine fm_get (v := .int (M1.1 0 26)) (pc := 50) F (ci := 9) (T := TX9) (n := 29) rfl in_X9 26 (fm_lt rfl) dX9_count_50 q821 0 (fm_lt rfl) rfl rfl ?_
          refine fm_goto (tgt := 69) (pc := 53) F dX9_count_53 (by decide) ?_
          exact fm_iret (pc := 69) F E hf dX9_count_69
      · replace hf := fm_ip c4 hf
        refine fm_aload_n (pc := 35) F dX9_count_35 0 rfl ?_
        refine fm_get (v := .ref (ad 2)) (pc := 36) F (ci := 9) (T := TX9) (n := 29) rfl in_X9 9 (fm_lt rfl) dX9_count_36 q804 0 (fm_lt rfl) rfl rfl ?_
        refine fm_iconst (v := 1) (pc := 39) F dX9_count_39 (by decide) ?_
        refine fm_ialdK (pc := 40) F dX9_count_40 2 (fm_lt rfl) rfl 1 (fm_ok (by decide)) rfl ?_
        refine fm_goto (tgt := 69) (pc := 41) F dX9_count_41 (by decide) ?_
        exact fm_iret (pc := 69) F E hf dX9_count_69
    · replace hf := fm_ip c3 hf
      refine fm_aload_n (pc := 23) F dX9_count_23 0 rfl ?_
      obtain ⟨r7, M8, h9, hf⟩ := fm_bi_inv hf
      refine fm_callV (As := []) (rest := []) (pc := 24) F (ci := 9) 0 (fm_lt rfl) rfl rfl (mX9_roads F.inj h9) q1091 q1093 qs37 q50 q1094 ⟨rfl, rfl⟩ hdX9_roads ⟨fm_le rfl, fm_le rfl, Nat.zero_le _, Nat.zero_le _⟩ rfl rfl (fm_le rfl) dX9_count_24 ?_
      refine fm_goto (tgt := 69) (pc := 27) F dX9_count_27 (by decide) ?_
      exact fm_iret (pc := 69) F E hf dX9_count_69
  · replace hf := fm_ip c2 hf
    refine fm_aload_n (pc := 9) F dX9_count_9 0 rfl ?_
    refine fm_get (v := .ref (ad 2)) (pc := 10) F (ci := 9) (T := TX9) (n := 29) rfl in_X9 9 (fm_lt rfl) dX9_count_10 q804 0 (fm_lt rfl) rfl rfl ?_
    refine fm_iconst (v := 0) (pc := 13) F dX9_count_13 (by decide) ?_
    refine fm_ialdK (pc := 14) F dX9_count_14 2 (fm_lt rfl) rfl 0 (fm_ok (by decide)) rfl ?_
    refine fm_goto (tgt := 69) (pc := 15) F dX9_count_15 (by decide) ?_
    exact fm_iret (pc := 69) F E hf dX9_count_69
abbrev rmX9_trace : Room := { frames := 2, cells := 0, slots := 0, locals := 80 }
def fX9_trace (n : Nat) (M : fm_M) : Option (Int64 × fm_M) :=
  fm_let (fm_wr M 0 0 0) fun M1 =>
  some (M1.2, M1)
theorem hdX9_trace : yX9_trace.cls = RX9 ∧ yX9_trace.cls ≠ "java/lang/invoke/MethodHandle" ∧ yX9_trace.cls ≠ "java/lang/invoke/VarHandle" ∧ (parseMethodDescriptor yX9_trace.desc).map (fun d => d.parameters.length) = some 0 := by decide +kernel
set_option maxHeartbeats 4000000 in
theorem mX9_trace {l : Launch} {D : va_G} {dA : Nat → ClassId} {ad : Nat → Nat} {n : Nat}  (inj : ∀ i j, i < 20 → j < 20 → ad i = ad j → i = j) {M M' : fm_M} {r : Int64} (hf : fX9_trace n M = some (r, M')) : fm_C l yX9_trace (ws_ yX9_trace cX9_trace 1 (some .long)) rmX9_trace (YM D dA ad) [.ref (ad 0)] M (some (.long r)) M' := by
  refine fm_enter (by decide) rfl (fm_le rfl) inj ?_
  intro X hXl F E
  subst hXl
  unfold fX9_trace at hf
  show fm_G X (YM D dA ad) (0, 0) 1 M 0 [(0, .ref (ad 0))] []
  refine fm_aload_n (pc := 0) F dX9_trace_0 0 rfl ?_
  refine fm_iconst (v := 0) (pc := 1) F dX9_trace_1 (by decide) ?_
  refine fm_putI (v := 0) (pc := 2) F clX9 0 (fm_lt rfl) dX9_trace_2 q795 rfl rfl 0 (fm_lt rfl) rfl (fm_lt rfl) rfl ?_
  refine fm_nameM (fun M1 eM1 => ?_)
  replace hf := fm_let_inv eM1 hf
  refine fm_aload_n (pc := 5) F dX9_trace_5 0 rfl ?_
  refine fm_get (v := .long M1.2) (pc := 6) F (ci := 9) (T := TX9) (n := 29) rfl in_X9 1 (fm_lt rfl) dX9_trace_6 q796 0 (fm_lt rfl) rfl rfl ?_
  exact fm_lret (pc := 9) F E hf dX9_trace_9
