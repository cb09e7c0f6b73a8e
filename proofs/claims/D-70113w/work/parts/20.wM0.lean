/-! the reference: its methods as functions, and their walks (printed by gen/genM.py) -/
set_option maxRecDepth 100000
abbrev rmX9_in : Room := { frames := 2, cells := 0, slots := 0, locals := 80 }
def fX9_in (n : Nat) (M : fm_M) (l0 : Int32) (l1 : Int32) (l2 : Int32) : Option (Int32 × fm_M) :=
  if l0 < l1 then
    some (0, M)
  else
    if l2 < l0 then
      some (0, M)
    else
      some (1, M)
theorem hdX9_in : yX9_in.cls = RX9 ∧ yX9_in.cls ≠ "java/lang/invoke/MethodHandle" ∧ yX9_in.cls ≠ "java/lang/invoke/VarHandle" ∧ (parseMethodDescriptor yX9_in.desc).map (fun d => d.parameters.length) = some 3 := by decide +kernel
set_option maxHeartbeats 4000000 in
theorem mX9_in {l : Launch} {D : va_G} {dA : Nat → ClassId} {ad : Nat → Nat} {n : Nat}  (inj : ∀ i j, i < 20 → j < 20 → ad i = ad j → i = j) {M M' : fm_M} {l0 : Int32} {l1 : Int32} {l2 : Int32} {r : Int32} (hf : fX9_in n M l0 l1 l2 = some (r, M')) : fm_C l yX9_in (ws_ yX9_in cX9_in 3 (some .boolean)) rmX9_in (YM D dA ad) [.int l0, .int l1, .int l2] M (some (.int r)) M' := by
  refine fm_enter (by decide) rfl (fm_le rfl) inj ?_
  intro X hXl F E
  subst hXl
  unfold fX9_in at hf
  show fm_G X (YM D dA ad) (0, 0) 3 M 0 [(0, .int l0), (1, .int l1), (2, .int l2)] []
  refine fm_iload_n (pc := 0) F dX9_in_0 0 rfl ?_
  refine fm_iload_n (pc := 1) F dX9_in_1 1 rfl ?_
  refine fm_icmp_lt (tgt := 14) (pc := 2) F dX9_in_2 (by decide) (fun c1 => ?_) (fun c1 => ?_)
  · replace hf := fm_ip c1 hf
    refine fm_iconst (v := 0) (pc := 14) F dX9_in_14 (by decide) ?_
    exact fm_zret (pc := 15) F E (Or.inl rfl) hf dX9_in_15
  · replace hf := fm_in c1 hf
    refine fm_iload_n (pc := 5) F dX9_in_5 0 rfl ?_
    refine fm_iload_n (pc := 6) F dX9_in_6 2 rfl ?_
    refine fm_icmp_gt (tgt := 14) (pc := 7) F dX9_in_7 (by decide) (fun c2 => ?_) (fun c2 => ?_)
    · replace hf := fm_ip c2 hf
      refine fm_iconst (v := 0) (pc := 14) F dX9_in_14 (by decide) ?_
      exact fm_zret (pc := 15) F E (Or.inl rfl) hf dX9_in_15
    · replace hf := fm_in c2 hf
      refine fm_iconst (v := 1) (pc := 10) F dX9_in_10 (by decide) ?_
      refine fm_goto (tgt := 15) (pc := 11) F dX9_in_11 (by decide) ?_
      exact fm_zret (pc := 15) F E (Or.inr rfl) hf dX9_in_15
abbrev rmX9_type : Room := { frames := 3, cells := 0, slots := 0, locals := 102 }
def fX9_type (n : Nat) (M : fm_M) (l1 : Int32) : Option (Int32 × fm_M) :=
  fm_let (fm_wr M 0 0 0) fun M1 =>
  fm_bi (fX9_in n M1 l1 0 255) fun r2 M3 =>
  if r2 = 0 then
    some ((-1), M3)
  else
    if (M3.1 0 3) = 200 then
      some ((-3), M3)
    else
      fm_b (M3.1 0 3) 200 <|
      fm_let (fm_wr M3 1 (M3.1 0 3).toNatClampNeg l1) fun M9 =>
      fm_let (fm_wr M9 0 3 ((M9.1 0 3) + 1)) fun M10 =>
      some ((M10.1 0 3), M10)
theorem hdX9_type : yX9_type.cls = RX9 ∧ yX9_type.cls ≠ "java/lang/invoke/MethodHandle" ∧ yX9_type.cls ≠ "java/lang/invoke/VarHandle" ∧ (parseMethodDescriptor yX9_type.desc).map (fun d => d.parameters.length) = some 1 := by decide +kernel
set_option maxHeartbeats 4000000 in
theorem mX9_type {l : Launch} {D : va_G} {dA : Nat → ClassId} {ad : Nat → Nat} {n : Nat}  (inj : ∀ i j, i < 20 → j < 20 → ad i = ad j → i = j) {M M' : fm_M} {l1 : Int32} {r : Int32} (hf : fX9_type n M l1 = some (r, M')) : fm_C l yX9_type (ws_ yX9_type cX9_type 2 (some .int)) rmX9_type (YM D dA ad) [.ref (ad 0), .int l1] M (some (.int r)) M' := by
  refine fm_enter (by decide) rfl (fm_le rfl) inj ?_
  intro X hXl F E
  subst hXl
  unfold fX9_type at hf
  show fm_G X (YM D dA ad) (0, 0) 2 M 0 [(0, .ref (ad 0)), (1, .int l1)] []
  refine fm_aload_n (pc := 0) F dX9_type_0 0 rfl ?_
  refine fm_iconst (v := 0) (pc := 1) F dX9_type_1 (by decide) ?_
  refine fm_putI (v := 0) (pc := 2) F clX9 0 (fm_lt rfl) dX9_type_2 q795 rfl rfl 0 (fm_lt rfl) rfl (fm_lt rfl) rfl ?_
  refine fm_nameM (fun M1 eM1 => ?_)
  replace hf := fm_let_inv eM1 hf
  refine fm_iload_n (pc := 5) F dX9_type_5 1 rfl ?_
  refine fm_iconst (v := 0) (pc := 6) F dX9_type_6 (by decide) ?_
  refine fm_sipush (v := 255) (pc := 7) F dX9_type_7 (by decide) ?_
  obtain ⟨r2, M3, h4, hf⟩ := fm_bi_inv hf
  refine fm_callS (As := [.int l1, .int 0, .int 255]) (rest := []) (pc := 10) F (mX9_in F.inj h4) q887 q888 q50 q889 ⟨rfl, rfl⟩ hdX9_in.2 ⟨fm_le rfl, fm_le rfl, Nat.zero_le _, Nat.zero_le _⟩ rfl rfl (fm_le rfl) dX9_type_10 ?_
  refine fm_if_ne (tgt := 18) (pc := 13) F dX9_type_13 (by decide) (fun c6 => ?_) (fun c6 => ?_)
  · replace hf := fm_in c6 hf
    refine fm_aload_n (pc := 18) F dX9_type_18 0 rfl ?_
    refine fm_get (v := .int (M3.1 0 3)) (pc := 19) F (ci := 9) (T := TX9) (n := 29) rfl in_X9 3 (fm_lt rfl) dX9_type_19 q798 0 (fm_lt rfl) rfl rfl ?_
    refine fm_sipush (v := 200) (pc := 22) F dX9_type_22 (by decide) ?_
    refine fm_icmp_ne (tgt := 31) (pc := 25) F dX9_type_25 (by decide) (fun c7 => ?_) (fun c7 => ?_)
    · replace hf := fm_in c7 hf
      refine fm_aload_n (pc := 31) F dX9_type_31 0 rfl ?_
      refine fm_get (v := .ref (ad 1)) (pc := 32) F (ci := 9) (T := TX9) (n := 29) rfl in_X9 2 (fm_lt rfl) dX9_type_32 q797 0 (fm_lt rfl) rfl rfl ?_
      refine fm_aload_n (pc := 35) F dX9_type_35 0 rfl ?_
      refine fm_get (v := .int (M3.1 0 3)) (pc := 36) F (ci := 9) (T := TX9) (n := 29) rfl in_X9 3 (fm_lt rfl) dX9_type_36 q798 0 (fm_lt rfl) rfl rfl ?_
      refine fm_iload_n (pc := 39) F dX9_type_39 1 rfl ?_
      obtain ⟨b8, hf⟩ := fm_b_inv hf
      refine fm_iast (pc := 40) F dX9_type_40 1 (fm_lt rfl) (fun _ => rfl) b8 ?_
      refine fm_nameM (fun M9 eM9 => ?_)
      replace hf := fm_let_inv eM9 hf
      refine fm_aload_n (pc := 41) F dX9_type_41 0 rfl ?_
      refine fm_dup (pc := 42) F dX9_type_42 rfl ?_
      refine fm_get (v := .int (M9.1 0 3)) (pc := 43) F (ci := 9) (T := TX9) (n := 29) rfl in_X9 3 (fm_lt rfl) dX9_type_43 q798 0 (fm_lt rfl) rfl rfl ?_
      refine fm_iconst (v := 1) (pc := 46) F dX9_type_46 (by decide) ?_
      refine fm_iadd (pc := 47) F dX9_type_47 ?_
      refine fm_putI (v := ((M9.1 0 3) + 1)) (pc := 48) F clX9 3 (fm_lt rfl) dX9_type_48 q798 rfl rfl 0 (fm_lt rfl) rfl (fm_lt rfl) rfl ?_
      refine fm_nameM (fun M10 eM10 => ?_)
      replace hf := fm_let_inv eM10 hf
      refine fm_aload_n (pc := 51) F dX9_type_51 0 rfl ?_
      refine fm_get (v := .int (M10.1 0 3)) (pc := 52) F (ci := 9) (T := TX9) (n := 29) rfl in_X9 3 (fm_lt rfl) dX9_type_52 q798 0 (fm_lt rfl) rfl rfl ?_
      exact fm_iret (pc := 55) F E hf dX9_type_55
    · replace hf := fm_ip c7 hf
      refine fm_bipush (v := (-3)) (pc := 28) F dX9_type_28 (by decide) ?_
      exact fm_iret (pc := 30) F E hf dX9_type_30
  · replace hf := fm_ip c6 hf
    refine fm_iconst (v := (-1)) (pc := 16) F dX9_type_16 (by decide) ?_
    exact fm_iret (pc := 17) F E hf dX9_type_17
abbrev rmX9_clear : Room := { frames := 2, cells := 0, slots := 0, locals := 80 }
def fX9_clear (n : Nat) (M : fm_M) : Option (Int32 × fm_M) :=
  fm_let (fm_wr M 0 0 0) fun M1 =>
  fm_let (fm_wr M1 0 3 0) fun M2 =>
  some ((M1.1 0 3), M2)
theorem hdX9_clear : yX9_clear.cls = RX9 ∧ yX9_clear.cls ≠ "java/lang/invoke/MethodHandle" ∧ yX9_clear.cls ≠ "java/lang/invoke/VarHandle" ∧ (parseMethodDescriptor yX9_clear.desc).map (fun d => d.parameters.length) = some 0 := by decide +kernel
set_option maxHeartbeats 4000000 in
theorem mX9_clear {l : Launch} {D : va_G} {dA : Nat → ClassId} {ad : Nat → Nat} {n : Nat}  (inj : ∀ i j, i < 20 → j < 20 → ad i = ad j → i = j) {M M' : fm_M} {r : Int32} (hf : fX9_clear n M = some (r, M')) : fm_C l yX9_clear (ws_ yX9_clear cX9_clear 2 (some .int)) rmX9_clear (YM D dA ad) [.ref (ad 0)] M (some (.int r)) M' := by
  refine fm_enter (by decide) rfl (fm_le rfl) inj ?_
  intro X hXl F E
  subst hXl
  unfold fX9_clear at hf
  show fm_G X (YM D dA ad) (0, 0) 2 M 0 [(0, .ref (ad 0))] []
  refine fm_aload_n (pc := 0) F dX9_clear_0 0 rfl ?_
  refine fm_iconst (v := 0) (pc := 1) F dX9_clear_1 (by decide) ?_
  refine fm_putI (v := 0) (pc := 2) F clX9 0 (fm_lt rfl) dX9_clear_2 q795 rfl rfl 0 (fm_lt rfl) rfl (fm_lt rfl) rfl ?_
  refine fm_nameM (fun M1 eM1 => ?_)
  replace hf := fm_let_inv eM1 hf
  refine fm_aload_n (pc := 5) F dX9_clear_5 0 rfl ?_
  refine fm_get (v := .int (M1.1 0 3)) (pc := 6) F (ci := 9) (T := TX9) (n := 29) rfl in_X9 3 (fm_lt rfl) dX9_clear_6 q798 0 (fm_lt rfl) rfl rfl ?_
  refine fm_istore_n (lv' := [(1, .int (M1.1 0 3)), (0, .ref (ad 0))]) (pc := 9) F dX9_clear_9 rfl (fm_lt rfl) rfl ?_
  refine fm_aload_n (pc := 10) F dX9_clear_10 1 rfl ?_
  refine fm_iconst (v := 0) (pc := 11) F dX9_clear_11 (by decide) ?_
  refine fm_putI (v := 0) (pc := 12) F clX9 3 (fm_lt rfl) dX9_clear_12 q798 rfl rfl 0 (fm_lt rfl) rfl (fm_lt rfl) rfl ?_
  refine fm_nameM (fun M2 eM2 => ?_)
  replace hf := fm_let_inv eM2 hf
  refine fm_iload_n (pc := 15) F dX9_clear_15 0 rfl ?_
  exact fm_iret (pc := 16) F E hf dX9_clear_16
abbrev rmX9_letterAt : Room := { frames := 2, cells := 0, slots := 0, locals := 80 }
def fX9_letterAt (n : Nat) (M : fm_M) (l1 : Int32) : Option (Int32 × fm_M) :=
  if (M.1 0 3) ≤ l1 then
    some ((-1), M)
  else
    fm_b l1 200 <|
    some ((M.1 1 l1.toNatClampNeg), M)
theorem hdX9_letterAt : yX9_letterAt.cls = RX9 ∧ yX9_letterAt.cls ≠ "java/lang/invoke/MethodHandle" ∧ yX9_letterAt.cls ≠ "java/lang/invoke/VarHandle" ∧ (parseMethodDescriptor yX9_letterAt.desc).map (fun d => d.parameters.length) = some 1 := by decide +kernel
set_option maxHeartbeats 4000000 in
theorem mX9_letterAt {l : Launch} {D : va_G} {dA : Nat → ClassId} {ad : Nat → Nat} {n : Nat}  (inj : ∀ i j, i < 20 → j < 20 → ad i = ad j → i = j) {M M' : fm_M} {l1 : Int32} {r : Int32} (hf : fX9_letterAt n M l1 = some (r, M')) : fm_C l yX9_letterAt (ws_ yX9_letterAt cX9_letterAt 2 (some .int)) rmX9_letterAt (YM D dA ad) [.ref (ad 0), .int l1] M (some (.int r)) M' := by
  refine fm_enter (by decide) rfl (fm_le rfl) inj ?_
  intro X hXl F E
  subst hXl
  unfold fX9_letterAt at hf
  show fm_G X (YM D dA ad) (0, 0) 2 M 0 [(0, .ref (ad 0)), (1, .int l1)] []
  refine fm_iload_n (pc := 0) F dX9_letterAt_0 1 rfl ?_
  refine fm_aload_n (pc := 1) F dX9_letterAt_1 0 rfl ?_
  refine fm_get (v := .int (M.1 0 3)) (pc := 2) F (ci := 9) (T := TX9) (n := 29) rfl in_X9 3 (fm_lt rfl) dX9_letterAt_2 q798 0 (fm_lt rfl) rfl rfl ?_
  refine fm_icmp_ge (tgt := 17) (pc := 5) F dX9_letterAt_5 (by decide) (fun c1 => ?_) (fun c1 => ?_)
  · replace hf := fm_ip c1 hf
    refine fm_iconst (v := (-1)) (pc := 17) F dX9_letterAt_17 (by decide) ?_
    exact fm_iret (pc := 18) F E hf dX9_letterAt_18
  · replace hf := fm_in c1 hf
    refine fm_aload_n (pc := 8) F dX9_letterAt_8 0 rfl ?_
    refine fm_get (v := .ref (ad 1)) (pc := 9) F (ci := 9) (T := TX9) (n := 29) rfl in_X9 2 (fm_lt rfl) dX9_letterAt_9 q797 0 (fm_lt rfl) rfl rfl ?_
    refine fm_iload_n (pc := 12) F dX9_letterAt_12 1 rfl ?_
    obtain ⟨b2, hf⟩ := fm_b_inv hf
    refine fm_iald (pc := 13) F dX9_letterAt_13 1 (fm_lt rfl) rfl b2 ?_
    refine fm_goto (tgt := 18) (pc := 14) F dX9_letterAt_14 (by decide) ?_
    exact fm_iret (pc := 18) F E hf dX9_letterAt_18
abbrev rmX9_advances : Room := { frames := 3, cells := 0, slots := 0, locals := 102 }
def fX9_advances_71 (n : Nat) : Nat → fm_M → Int32 → Option (fm_M)
  | 0, _, _ => none
  | k + 1, M, l1 =>
    fm_bi (fX9_letterAt n M (M.1 0 4)) fun r1 M2 =>
    fm_bi (fX9_in n M2 r1 48 57) fun r5 M6 =>
    if r5 = 0 then
      if 99 < (M6.1 0 7) then
        fm_let (fm_wr M6 0 5 4) fun M11 =>
        some M11
      else
        if l1 = 48 then
          if ((M6.1 0 4) - (M6.1 0 6)) ≤ 1 then
            fm_let (fm_wr M6 0 5 2) fun M15 =>
            some M15
          else
            fm_let (fm_wr M6 0 5 4) fun M16 =>
            some M16
        else
          fm_let (fm_wr M6 0 5 2) fun M13 =>
          some M13
    else
      if (M6.1 0 7) ≤ 99 then
        fm_bi (fX9_letterAt n M6 (M6.1 0 4)) fun r18 M19 =>
        fm_let (fm_wr M19 0 7 (((10 * (M6.1 0 7)) + r18) - 48)) fun M22 =>
        fm_let (fm_wr M22 0 4 ((M22.1 0 4) + 1)) fun M23 =>
        fX9_advances_71 n k M23 l1
      else
        fm_let (fm_wr M6 0 7 (M6.1 0 7)) fun M24 =>
        fm_let (fm_wr M24 0 4 ((M24.1 0 4) + 1)) fun M25 =>
        fX9_advances_71 n k M25 l1
def fX9_advances_0 (n : Nat) : Nat → fm_M → Option (fm_M)
  | 0, _ => none
  | k + 1, M =>
    fm_bi (fX9_letterAt n M (M.1 0 4)) fun r1 M2 =>
    if r1 = 32 then
      fm_let (fm_wr M2 0 4 ((M2.1 0 4) + 1)) fun M30 =>
      fX9_advances_0 n k M30
    else
      fm_let (fm_wr M2 0 6 (M2.1 0 4)) fun M6 =>
      fm_bi (fX9_letterAt n M6 (M6.1 0 4)) fun r7 M8 =>
      if 0 ≤ r7 then
        fm_bi (fX9_in n M8 r7 48 57) fun r12 M13 =>
        if r12 = 0 then
          fm_let (fm_wr M13 0 4 ((M13.1 0 4) + 1)) fun M17 =>
          fm_let (fm_wr M17 0 7 r7) fun M18 =>
          if r7 = 59 then
            fm_let (fm_wr M18 0 5 3) fun M27 =>
            some M27
          else
            if r7 = 116 then
              fm_let (fm_wr M18 0 5 1) fun M21 =>
              some M21
            else
              if r7 = 100 then
                fm_let (fm_wr M18 0 5 1) fun M23 =>
                some M23
              else
                if r7 = 111 then
                  fm_let (fm_wr M18 0 5 1) fun M26 =>
                  some M26
                else
                  fm_let (fm_wr M18 0 5 4) fun M25 =>
                  some M25
        else
          fm_let (fm_wr M13 0 7 0) fun M28 =>
          fX9_advances_71 n n M28 r7
      else
        fm_let (fm_wr M8 0 5 0) fun M29 =>
        some M29
def fX9_advances (n : Nat) (M : fm_M) : Option (fm_M) :=
  fm_bi (fX9_letterAt n M (M.1 0 4)) fun r1 M2 =>
  if r1 = 32 then
    fm_let (fm_wr M2 0 4 ((M2.1 0 4) + 1)) fun M30 =>
    fX9_advances_0 n n M30
  else
    fm_let (fm_wr M2 0 6 (M2.1 0 4)) fun M6 =>
    fm_bi (fX9_letterAt n M6 (M6.1 0 4)) fun r7 M8 =>
    if 0 ≤ r7 then
      fm_bi (fX9_in n M8 r7 48 57) fun r12 M13 =>
      if r12 = 0 then
        fm_let (fm_wr M13 0 4 ((M13.1 0 4) + 1)) fun M17 =>
        fm_let (fm_wr M17 0 7 r7) fun M18 =>
        if r7 = 59 then
          fm_let (fm_wr M18 0 5 3) fun M27 =>
          some M27
        else
          if r7 = 116 then
            fm_let (fm_wr M18 0 5 1) fun M21 =>
            some M21
          else
            if r7 = 100 then
              fm_let (fm_wr M18 0 5 1) fun M23 =>
              some M23
            else
              if r7 = 111 then
                fm_let (fm_wr M18 0 5 1) fun M26 =>
                some M26
              else
                fm_let (fm_wr M18 0 5 4) fun M25 =>
                some M25
      else
        fm_let (fm_wr M13 0 7 0) fun M28 =>
        fX9_advances_71 n n M28 r7
    else
      fm_let (fm_wr M8 0 5 0) fun M29 =>
      some M29
theorem hdX9_advances : yX9_advances.cls = RX9 ∧ yX9_advances.cls ≠ "java/lang/invoke/MethodHandle" ∧ yX9_advances.cls ≠ "java/lang/invoke/VarHandle" ∧ (parseMethodDescriptor yX9_advances.desc).map (fun d => d.parameters.length) = some 0 := by decide +kernel
set_option maxHeartbeats 4000000 in
theorem wX9_advances_71 {X : fm_X} {D : va_G} {dA : Nat → ClassId} {ad : Nat → Nat} {n : Nat}  (F : fm_F X (YM D dA ad) cX9_advances 2 RX9 rmX9_advances) {M' : fm_M} (E : fm_E X (YM D dA ad) none M' none) : ∀ (k : Nat) (M : fm_M) (l1 : Int32), fX9_advances_71 n k M l1 = some M' → fm_G X (YM D dA ad) (0, 0) 2 M 71 [(0, .ref (ad 0)), (1, .int l1)] [] := by
  intro k
  induction k with
  | zero =>
    intro M l1 hf
    rw [fX9_advances_71] at hf
    cases hf
  | succ k ih =>
    intro M l1 hf
    rw [fX9_advances_71] at hf
    refine fm_aload_n (pc := 71) F dX9_advances_71 0 rfl ?_
    refine fm_aload_n (pc := 72) F dX9_advances_72 0 rfl ?_
    refine fm_get (v := .int (M.1 0 4)) (pc := 73) F (ci := 9) (T := TX9) (n := 29) rfl in_X9 4 (fm_lt rfl) dX9_advances_73 q799 0 (fm_lt rfl) rfl rfl ?_
    obtain ⟨r1, M2, h3, hf⟩ := fm_bi_inv hf
    refine fm_callV (As := [.int (M.1 0 4)]) (rest := []) (pc := 76) F (ci := 9) 0 (fm_lt rfl) rfl rfl (mX9_letterAt F.inj h3) q902 q904 qs19 q50 q905 ⟨rfl, rfl⟩ hdX9_letterAt ⟨fm_le rfl, fm_le rfl, Nat.zero_le _, Nat.zero_le _⟩ rfl rfl (fm_le rfl) dX9_advances_76 ?_
    refine fm_bipush (v := 48) (pc := 79) F dX9_advances_79 (by decide) ?_
    refine fm_bipush (v := 57) (pc := 81) F dX9_advances_81 (by decide) ?_
    obtain ⟨r5, M6, h7, hf⟩ := fm_bi_inv hf
    refine fm_callS (As := [.int r1, .int 48, .int 57]) (rest := []) (pc := 83) F (mX9_in F.inj h7) q887 q888 q50 q889 ⟨rfl, rfl⟩ hdX9_in.2 ⟨fm_le rfl, fm_le rfl, Nat.zero_le _, Nat.zero_le _⟩ rfl rfl (fm_le rfl) dX9_advances_83 ?_
    refine fm_if_eq (tgt := 141) (pc := 86) F dX9_advances_86 (by decide) (fun c9 => ?_) (fun c9 => ?_)
    · replace hf := fm_ip c9 hf
      refine fm_aload_n (pc := 141) F dX9_advances_141 0 rfl ?_
      refine fm_aload_n (pc := 142) F dX9_advances_142 0 rfl ?_
      refine fm_get (v := .int (M6.1 0 7)) (pc := 143) F (ci := 9) (T := TX9) (n := 29) rfl in_X9 7 (fm_lt rfl) dX9_advances_143 q802 0 (fm_lt rfl) rfl rfl ?_
      refine fm_bipush (v := 99) (pc := 146) F dX9_advances_146 (by decide) ?_
      refine fm_icmp_gt (tgt := 170) (pc := 148) F dX9_advances_148 (by decide) (fun c10 => ?_) (fun c10 => ?_)
      · replace hf := fm_ip c10 hf
        refine fm_iconst (v := 4) (pc := 170) F dX9_advances_170 (by decide) ?_
        refine fm_goto (tgt := 175) (pc := 171) F dX9_advances_171 (by decide) ?_
        refine fm_putI (v := 4) (pc := 175) F clX9 5 (fm_lt rfl) dX9_advances_175 q800 rfl rfl 0 (fm_lt rfl) rfl (fm_lt rfl) rfl ?_
        refine fm_nameM (fun M11 eM11 => ?_)
        replace hf := fm_let_inv eM11 hf
        refine fm_goto (tgt := 233) (pc := 178) F dX9_advances_178 (by decide) ?_
        exact fm_vret (pc := 233) F E hf dX9_advances_233
      · replace hf := fm_in c10 hf
        refine fm_iload_n (pc := 151) F dX9_advances_151 1 rfl ?_
        refine fm_bipush (v := 48) (pc := 152) F dX9_advances_152 (by decide) ?_
        refine fm_icmp_ne (tgt := 174) (pc := 154) F dX9_advances_154 (by decide) (fun c12 => ?_) (fun c12 => ?_)
        · replace hf := fm_in c12 hf
          refine fm_iconst (v := 2) (pc := 174) F dX9_advances_174 (by decide) ?_
          refine fm_putI (v := 2) (pc := 175) F clX9 5 (fm_lt rfl) dX9_advances_175 q800 rfl rfl 0 (fm_lt rfl) rfl (fm_lt rfl) rfl ?_
          refine fm_nameM (fun M13 eM13 => ?_)
          replace hf := fm_let_inv eM13 hf
          refine fm_goto (tgt := 233) (pc := 178) F dX9_advances_178 (by decide) ?_
          exact fm_vret (pc := 233) F E hf dX9_advances_233
        · replace hf := fm_ip c12 hf
          refine fm_aload_n (pc := 157) F dX9_advances_157 0 rfl ?_
          refine fm_get (v := .int (M6.1 0 4)) (pc := 158) F (ci := 9) (T := TX9) (n := 29) rfl in_X9 4 (fm_lt rfl) dX9_advances_158 q799 0 (fm_lt rfl) rfl rfl ?_
          refine fm_aload_n (pc := 161) F dX9_advances_161 0 rfl ?_
          refine fm_get (v := .int (M6.1 0 6)) (pc := 162) F (ci := 9) (T := TX9) (n := 29) rfl in_X9 6 (fm_lt rfl) dX9_advances_162 q801 0 (fm_lt rfl) rfl rfl ?_
          refine fm_isub (pc := 165) F dX9_advances_165 ?_
          refine fm_iconst (v := 1) (pc := 166) F dX9_advances_166 (by decide) ?_
          refine fm_icmp_le (tgt := 174) (pc := 167) F dX9_advances_167 (by decide) (fun c14 => ?_) (fun c14 => ?_)
          · replace hf := fm_ip c14 hf
            refine fm_iconst (v := 2) (pc := 174) F dX9_advances_174 (by decide) ?_
            refine fm_putI (v := 2) (pc := 175) F clX9 5 (fm_lt rfl) dX9_advances_175 q800 rfl rfl 0 (fm_lt rfl) rfl (fm_lt rfl) rfl ?_
            refine fm_nameM (fun M15 eM15 => ?_)
            replace hf := fm_let_inv eM15 hf
            refine fm_goto (tgt := 233) (pc := 178) F dX9_advances_178 (by decide) ?_
            exact fm_vret (pc := 233) F E hf dX9_advances_233
          · replace hf := fm_in c14 hf
            refine fm_iconst (v := 4) (pc := 170) F dX9_advances_170 (by decide) ?_
            refine fm_goto (tgt := 175) (pc := 171) F dX9_advances_171 (by decide) ?_
            refine fm_putI (v := 4) (pc := 175) F clX9 5 (fm_lt rfl) dX9_advances_175 q800 rfl rfl 0 (fm_lt rfl) rfl (fm_lt rfl) rfl ?_
            refine fm_nameM (fun M16 eM16 => ?_)
            replace hf := fm_let_inv eM16 hf
            refine fm_goto (tgt := 233) (pc := 178) F dX9_advances_178 (by decide) ?_
            exact fm_vret (pc := 233) F E hf dX9_advances_233
    · replace hf := fm_in c9 hf
      refine fm_aload_n (pc := 89) F dX9_advances_89 0 rfl ?_
      refine fm_aload_n (pc := 90) F dX9_advances_90 0 rfl ?_
      refine fm_get (v := .int (M6.1 0 7)) (pc := 91) F (ci := 9) (T := TX9) (n := 29) rfl in_X9 7 (fm_lt rfl) dX9_advances_91 q802 0 (fm_lt rfl) rfl rfl ?_
      refine fm_bipush (v := 99) (pc := 94) F dX9_advances_94 (by decide) ?_
      refine fm_icmp_le (tgt := 106) (pc := 96) F dX9_advances_96 (by decide) (fun c17 => ?_) (fun c17 => ?_)
      · replace hf := fm_ip c17 hf
        refine fm_bipush (v := 10) (pc := 106) F dX9_advances_106 (by decide) ?_
        refine fm_aload_n (pc := 108) F dX9_advances_108 0 rfl ?_
        refine fm_get (v := .int (M6.1 0 7)) (pc := 109) F (ci := 9) (T := TX9) (n := 29) rfl in_X9 7 (fm_lt rfl) dX9_advances_109 q802 0 (fm_lt rfl) rfl rfl ?_
        refine fm_imul (pc := 112) F dX9_advances_112 ?_
        refine fm_aload_n (pc := 113) F dX9_advances_113 0 rfl ?_
        refine fm_aload_n (pc := 114) F dX9_advances_114 0 rfl ?_
        refine fm_get (v := .int (M6.1 0 4)) (pc := 115) F (ci := 9) (T := TX9) (n := 29) rfl in_X9 4 (fm_lt rfl) dX9_advances_115 q799 0 (fm_lt rfl) rfl rfl ?_
        obtain ⟨r18, M19, h20, hf⟩ := fm_bi_inv hf
        refine fm_callV (As := [.int (M6.1 0 4)]) (rest := [.int (10 * (M6.1 0 7)), .ref (ad 0)]) (pc := 118) F (ci := 9) 0 (fm_lt rfl) rfl rfl (mX9_letterAt F.inj h20) q902 q904 qs19 q50 q905 ⟨rfl, rfl⟩ hdX9_letterAt ⟨fm_le rfl, fm_le rfl, Nat.zero_le _, Nat.zero_le _⟩ rfl rfl (fm_le rfl) dX9_advances_118 ?_
        refine fm_iadd (pc := 121) F dX9_advances_121 ?_
        refine fm_bipush (v := 48) (pc := 122) F dX9_advances_122 (by decide) ?_
        refine fm_isub (pc := 124) F dX9_advances_124 ?_
        refine fm_putI (v := (((10 * (M6.1 0 7)) + r18) - 48)) (pc := 125) F clX9 7 (fm_lt rfl) dX9_advances_125 q802 rfl rfl 0 (fm_lt rfl) rfl (fm_lt rfl) rfl ?_
        refine fm_nameM (fun M22 eM22 => ?_)
        replace hf := fm_let_inv eM22 hf
        refine fm_aload_n (pc := 128) F dX9_advances_128 0 rfl ?_
        refine fm_dup (pc := 129) F dX9_advances_129 rfl ?_
        refine fm_get (v := .int (M22.1 0 4)) (pc := 130) F (ci := 9) (T := TX9) (n := 29) rfl in_X9 4 (fm_lt rfl) dX9_advances_130 q799 0 (fm_lt rfl) rfl rfl ?_
        refine fm_iconst (v := 1) (pc := 133) F dX9_advances_133 (by decide) ?_
        refine fm_iadd (pc := 134) F dX9_advances_134 ?_
        refine fm_putI (v := ((M22.1 0 4) + 1)) (pc := 135) F clX9 4 (fm_lt rfl) dX9_advances_135 q799 rfl rfl 0 (fm_lt rfl) rfl (fm_lt rfl) rfl ?_
        refine fm_nameM (fun M23 eM23 => ?_)
        replace hf := fm_let_inv eM23 hf
        refine fm_goto (tgt := 71) (pc := 138) F dX9_advances_138 (by decide) ?_
        exact ih _ _ hf
      · replace hf := fm_in c17 hf
        refine fm_aload_n (pc := 99) F dX9_advances_99 0 rfl ?_
        refine fm_get (v := .int (M6.1 0 7)) (pc := 100) F (ci := 9) (T := TX9) (n := 29) rfl in_X9 7 (fm_lt rfl) dX9_advances_100 q802 0 (fm_lt rfl) rfl rfl ?_
        refine fm_goto (tgt := 125) (pc := 103) F dX9_advances_103 (by decide) ?_
        refine fm_putI (v := (M6.1 0 7)) (pc := 125) F clX9 7 (fm_lt rfl) dX9_advances_125 q802 rfl rfl 0 (fm_lt rfl) rfl (fm_lt rfl) rfl ?_
        refine fm_nameM (fun M24 eM24 => ?_)
        replace hf := fm_let_inv eM24 hf
        refine fm_aload_n (pc := 128) F dX9_advances_128 0 rfl ?_
        refine fm_dup (pc := 129) F dX9_advances_129 rfl ?_
        refine fm_get (v := .int (M24.1 0 4)) (pc := 130) F (ci := 9) (T := TX9) (n := 29) rfl in_X9 4 (fm_lt rfl) dX9_advances_130 q799 0 (fm_lt rfl) rfl rfl ?_
        refine fm_iconst (v := 1) (pc := 133) F dX9_advances_133 (by decide) ?_
        refine fm_iadd (pc := 134) F dX9_advances_134 ?_
        refine fm_putI (v := ((M24.1 0 4) + 1)) (pc := 135) F clX9 4 (fm_lt rfl) dX9_advances_135 q799 rfl rfl 0 (fm_lt rfl) rfl (fm_lt rfl) rfl ?_
        refine fm_nameM (fun M25 eM25 => ?_)
        replace hf := fm_let_inv eM25 hf
        refine fm_goto (tgt := 71) (pc := 138) F dX9_advances_138 (by decide) ?_
        exact ih _ _ hf
set_option maxHeartbeats 4000000 in
theorem wX9_advances_0 {X : fm_X} {D : va_G} {dA : Nat → ClassId} {ad : Nat → Nat} {n : Nat}  (F : fm_F X (YM D dA ad) cX9_advances 2 RX9 rmX9_advances) {M' : fm_M} (E : fm_E X (YM D dA ad) none M' none) : ∀ (k : Nat) (M : fm_M), fX9_advances_0 n k M = some M' → fm_G X (YM D dA ad) (0, 0) 2 M 0 [(0, .ref (ad 0))] [] := by
  intro k
  induction k with
  | zero =>
    intro M hf
    rw [fX9_advances_0] at hf
    cases hf
  | succ k ih =>
    intro M hf
    rw [fX9_advances_0] at hf
    refine fm_aload_n (pc := 0) F dX9_advances_0 0 rfl ?_
    refine fm_aload_n (pc := 1) F dX9_advances_1 0 rfl ?_
    refine fm_get (v := .int (M.1 0 4)) (pc := 2) F (ci := 9) (T := TX9) (n := 29) rfl in_X9 4 (fm_lt rfl) dX9_advances_2 q799 0 (fm_lt rfl) rfl rfl ?_
    obtain ⟨r1, M2, h3, hf⟩ := fm_bi_inv hf
    refine fm_callV (As := [.int (M.1 0 4)]) (rest := []) (pc := 5) F (ci := 9) 0 (fm_lt rfl) rfl rfl (mX9_letterAt F.inj h3) q902 q904 qs19 q50 q905 ⟨rfl, rfl⟩ hdX9_letterAt ⟨fm_le rfl, fm_le rfl, Nat.zero_le _, Nat.zero_le _⟩ rfl rfl (fm_le rfl) dX9_advances_5 ?_
    refine fm_bipush (v := 32) (pc := 8) F dX9_advances_8 (by decide) ?_
    refine fm_icmp_ne (tgt := 26) (pc := 10) F dX9_advances_10 (by decide) (fun c5 => ?_) (fun c5 => ?_)
    · replace hf := fm_in c5 hf
      refine fm_aload_n (pc := 26) F dX9_advances_26 0 rfl ?_
      refine fm_aload_n (pc := 27) F dX9_advances_27 0 rfl ?_
      refine fm_get (v := .int (M2.1 0 4)) (pc := 28) F (ci := 9) (T := TX9) (n := 29) rfl in_X9 4 (fm_lt rfl) dX9_advances_28 q799 0 (fm_lt rfl) rfl rfl ?_
      refine fm_putI (v := (M2.1 0 4)) (pc := 31) F clX9 6 (fm_lt rfl) dX9_advances_31 q801 rfl rfl 0 (fm_lt rfl) rfl (fm_lt rfl) rfl ?_
      refine fm_nameM (fun M6 eM6 => ?_)
      replace hf := fm_let_inv eM6 hf
      refine fm_aload_n (pc := 34) F dX9_advances_34 0 rfl ?_
      refine fm_aload_n (pc := 35) F dX9_advances_35 0 rfl ?_
      refine fm_get (v := .int (M6.1 0 4)) (pc := 36) F (ci := 9) (T := TX9) (n := 29) rfl in_X9 4 (fm_lt rfl) dX9_advances_36 q799 0 (fm_lt rfl) rfl rfl ?_
      obtain ⟨r7, M8, h9, hf⟩ := fm_bi_inv hf
      refine fm_callV (As := [.int (M6.1 0 4)]) (rest := []) (pc := 39) F (ci := 9) 0 (fm_lt rfl) rfl rfl (mX9_letterAt F.inj h9) q902 q904 qs19 q50 q905 ⟨rfl, rfl⟩ hdX9_letterAt ⟨fm_le rfl, fm_le rfl, Nat.zero_le _, Nat.zero_le _⟩ rfl rfl (fm_le rfl) dX9_advances_39 ?_
      refine fm_istore_n (lv' := [(1, .int r7), (0, .ref (ad 0))]) (pc := 42) F dX9_advances_42 rfl (fm_lt rfl) rfl ?_
      refine fm_iload_n (pc := 43) F dX9_advances_43 0 rfl ?_
      refine fm_if_ge (tgt := 55) (pc := 44) F dX9_advances_44 (by decide) (fun c11 => ?_) (fun c11 => ?_)
      · replace hf := fm_ip c11 hf
        refine fm_iload_n (pc := 55) F dX9_advances_55 0 rfl ?_
        refine fm_bipush (v := 48) (pc := 56) F dX9_advances_56 (by decide) ?_
        refine fm_bipush (v := 57) (pc := 58) F dX9_advances_58 (by decide) ?_
        obtain ⟨r12, M13, h14, hf⟩ := fm_bi_inv hf
        refine fm_callS (As := [.int r7, .int 48, .int 57]) (rest := []) (pc := 60) F (mX9_in F.inj h14) q887 q888 q50 q889 ⟨rfl, rfl⟩ hdX9_in.2 ⟨fm_le rfl, fm_le rfl, Nat.zero_le _, Nat.zero_le _⟩ rfl rfl (fm_le rfl) dX9_advances_60 ?_
        refine fm_if_eq (tgt := 181) (pc := 63) F dX9_advances_63 (by decide) (fun c16 => ?_) (fun c16 => ?_)
        · replace hf := fm_ip c16 hf
          refine fm_aload_n (pc := 181) F dX9_advances_181 1 rfl ?_
          refine fm_dup (pc := 182) F dX9_advances_182 rfl ?_
          refine fm_get (v := .int (M13.1 0 4)) (pc := 183) F (ci := 9) (T := TX9) (n := 29) rfl in_X9 4 (fm_lt rfl) dX9_advances_183 q799 0 (fm_lt rfl) rfl rfl ?_
          refine fm_iconst (v := 1) (pc := 186) F dX9_advances_186 (by decide) ?_
          refine fm_iadd (pc := 187) F dX9_advances_187 ?_
          refine fm_putI (v := ((M13.1 0 4) + 1)) (pc := 188) F clX9 4 (fm_lt rfl) dX9_advances_188 q799 rfl rfl 0 (fm_lt rfl) rfl (fm_lt rfl) rfl ?_
          refine fm_nameM (fun M17 eM17 => ?_)
          replace hf := fm_let_inv eM17 hf
          refine fm_aload_n (pc := 191) F dX9_advances_191 1 rfl ?_
          refine fm_iload_n (pc := 192) F dX9_advances_192 0 rfl ?_
          refine fm_putI (v := r7) (pc := 193) F clX9 7 (fm_lt rfl) dX9_advances_193 q802 rfl rfl 0 (fm_lt rfl) rfl (fm_lt rfl) rfl ?_
          refine fm_nameM (fun M18 eM18 => ?_)
          replace hf := fm_let_inv eM18 hf
          refine fm_aload_n (pc := 196) F dX9_advances_196 1 rfl ?_
          refine fm_iload_n (pc := 197) F dX9_advances_197 0 rfl ?_
          refine fm_bipush (v := 59) (pc := 198) F dX9_advances_198 (by decide) ?_
          refine fm_icmp_ne (tgt := 207) (pc := 200) F dX9_advances_200 (by decide) (fun c19 => ?_) (fun c19 => ?_)
          · replace hf := fm_in c19 hf
            refine fm_iload_n (pc := 207) F dX9_advances_207 0 rfl ?_
            refine fm_bipush (v := 116) (pc := 208) F dX9_advances_208 (by decide) ?_
            refine fm_icmp_eq (tgt := 225) (pc := 210) F dX9_advances_210 (by decide) (fun c20 => ?_) (fun c20 => ?_)
            · replace hf := fm_ip c20 hf
              refine fm_iconst (v := 1) (pc := 225) F dX9_advances_225 (by decide) ?_
              refine fm_goto (tgt := 230) (pc := 226) F dX9_advances_226 (by decide) ?_
              refine fm_putI (v := 1) (pc := 230) F clX9 5 (fm_lt rfl) dX9_advances_230 q800 rfl rfl 0 (fm_lt rfl) rfl (fm_lt rfl) rfl ?_
              refine fm_nameM (fun M21 eM21 => ?_)
              replace hf := fm_let_inv eM21 hf
              exact fm_vret (pc := 233) F E hf dX9_advances_233
            · replace hf := fm_in c20 hf
              refine fm_iload_n (pc := 213) F dX9_advances_213 0 rfl ?_
              refine fm_bipush (v := 100) (pc := 214) F dX9_advances_214 (by decide) ?_
              refine fm_icmp_eq (tgt := 225) (pc := 216) F dX9_advances_216 (by decide) (fun c22 => ?_) (fun c22 => ?_)
              · replace hf := fm_ip c22 hf
                refine fm_iconst (v := 1) (pc := 225) F dX9_advances_225 (by decide) ?_
                refine fm_goto (tgt := 230) (pc := 226) F dX9_advances_226 (by decide) ?_
                refine fm_putI (v := 1) (pc := 230) F clX9 5 (fm_lt rfl) dX9_advances_230 q800 rfl rfl 0 (fm_lt rfl) rfl (fm_lt rfl) rfl ?_
                refine fm_nameM (fun M23 eM23 => ?_)
                replace hf := fm_let_inv eM23 hf
                exact fm_vret (pc := 233) F E hf dX9_advances_233
              · replace hf := fm_in c22 hf
                refine fm_iload_n (pc := 219) F dX9_advances_219 0 rfl ?_
                refine fm_bipush (v := 111) (pc := 220) F dX9_advances_220 (by decide) ?_
                refine fm_icmp_ne (tgt := 229) (pc := 222) F dX9_advances_222 (by decide) (fun c24 => ?_) (fun c24 => ?_)
                · replace hf := fm_in c24 hf
                  refine fm_iconst (v := 4) (pc := 229) F dX9_advances_229 (by decide) ?_
                  refine fm_putI (v := 4) (pc := 230) F clX9 5 (fm_lt rfl) dX9_advances_230 q800 rfl rfl 0 (fm_lt rfl) rfl (fm_lt rfl) rfl ?_
                  refine fm_nameM (fun M25 eM25 => ?_)
                  replace hf := fm_let_inv eM25 hf
                  exact fm_vret (pc := 233) F E hf dX9_advances_233
                · replace hf := fm_ip c24 hf
                  refine fm_iconst (v := 1) (pc := 225) F dX9_advances_225 (by decide) ?_
                  refine fm_goto (tgt := 230) (pc := 226) F dX9_advances_226 (by decide) ?_
                  refine fm_putI (v := 1) (pc := 230) F clX9 5 (fm_lt rfl) dX9_advances_230 q800 rfl rfl 0 (fm_lt rfl) rfl (fm_lt rfl) rfl ?_
                  refine fm_nameM (fun M26 eM26 => ?_)
                  replace hf := fm_let_inv eM26 hf
                  exact fm_vret (pc := 233) F E hf dX9_advances_233
          · replace hf := fm_ip c19 hf
            refine fm_iconst (v := 3) (pc := 203) F dX9_advances_203 (by decide) ?_
            refine fm_goto (tgt := 230) (pc := 204) F dX9_advances_204 (by decide) ?_
            refine fm_putI (v := 3) (pc := 230) F clX9 5 (fm_lt rfl) dX9_advances_230 q800 rfl rfl 0 (fm_lt rfl) rfl (fm_lt rfl) rfl ?_
            refine fm_nameM (fun M27 eM27 => ?_)
            replace hf := fm_let_inv eM27 hf
            exact fm_vret (pc := 233) F E hf dX9_advances_233
        · replace hf := fm_in c16 hf
          refine fm_aload_n (pc := 66) F dX9_advances_66 1 rfl ?_
          refine fm_iconst (v := 0) (pc := 67) F dX9_advances_67 (by decide) ?_
          refine fm_putI (v := 0) (pc := 68) F clX9 7 (fm_lt rfl) dX9_advances_68 q802 rfl rfl 0 (fm_lt rfl) rfl (fm_lt rfl) rfl ?_
          refine fm_nameM (fun M28 eM28 => ?_)
          replace hf := fm_let_inv eM28 hf
          refine fm_pick [1, 0] rfl ?_
          exact wX9_advances_71 F E n _ _ hf
      · replace hf := fm_in c11 hf
        refine fm_aload_n (pc := 47) F dX9_advances_47 1 rfl ?_
        refine fm_iconst (v := 0) (pc := 48) F dX9_advances_48 (by decide) ?_
        refine fm_putI (v := 0) (pc := 49) F clX9 5 (fm_lt rfl) dX9_advances_49 q800 rfl rfl 0 (fm_lt rfl) rfl (fm_lt rfl) rfl ?_
        refine fm_nameM (fun M29 eM29 => ?_)
        replace hf := fm_let_inv eM29 hf
        refine fm_goto (tgt := 233) (pc := 52) F dX9_advances_52 (by decide) ?_
        exact fm_vret (pc := 233) F E hf dX9_advances_233
    · replace hf := fm_ip c5 hf
      refine fm_aload_n (pc := 13) F dX9_advances_13 0 rfl ?_
      refine fm_dup (pc := 14) F dX9_advances_14 rfl ?_
      refine fm_get (v := .int (M2.1 0 4)) (pc := 15) F (ci := 9) (T := TX9) (n := 29) rfl in_X9 4 (fm_lt rfl) dX9_advances_15 q799 0 (fm_lt rfl) rfl rfl ?_
      refine fm_iconst (v := 1) (pc := 18) F dX9_advances_18 (by decide) ?_
      refine fm_iadd (pc := 19) F dX9_advances_19 ?_
      refine fm_putI (v := ((M2.1 0 4) + 1)) (pc := 20) F clX9 4 (fm_lt rfl) dX9_advances_20 q799 rfl rfl 0 (fm_lt rfl) rfl (fm_lt rfl) rfl ?_
      refine fm_nameM (fun M30 eM30 => ?_)
      replace hf := fm_let_inv eM30 hf
      refine fm_goto (tgt := 0) (pc := 23) F dX9_advances_23 (by decide) ?_
      exact ih _ hf
set_option maxHeartbeats 4000000 in
theorem mX9_advances {l : Launch} {D : va_G} {dA : Nat → ClassId} {ad : Nat → Nat} {n : Nat}  (inj : ∀ i j, i < 20 → j < 20 → ad i = ad j → i = j) {M M' : fm_M} (hf : fX9_advances n M = some M') : fm_C l yX9_advances (ws_ yX9_advances cX9_advances 2 none) rmX9_advances (YM D dA ad) [.ref (ad 0)] M none M' := by
  refine fm_enter (by decide) rfl (fm_le rfl) inj ?_
  intro X hXl F E
  subst hXl
  unfold fX9_advances at hf
  show fm_G X (YM D dA ad) (0, 0) 2 M 0 [(0, .ref (ad 0))] []
  refine fm_aload_n (pc := 0) F dX9_advances_0 0 rfl ?_
  refine fm_aload_n (pc := 1) F dX9_advances_1 0 rfl ?_
  refine fm_get (v := .int (M.1 0 4)) (pc := 2) F (ci := 9) (T := TX9) (n := 29) rfl in_X9 4 (fm_lt rfl) dX9_advances_2 q799 0 (fm_lt rfl) rfl rfl ?_
  obtain ⟨r1, M2, h3, hf⟩ := fm_bi_inv hf
  refine fm_callV (As := [.int (M.1 0 4)]) (rest := []) (pc := 5) F (ci := 9) 0 (fm_lt rfl) rfl rfl (mX9_letterAt F.inj h3) q902 q904 qs19 q50 q905 ⟨rfl, rfl⟩ hdX9_letterAt ⟨fm_le rfl, fm_le rfl, Nat.zero_le _, Nat.zero_le _⟩ rfl rfl (fm_le rfl) dX9_advances_5 ?_
  refine fm_bipush (v := 32) (pc := 8) F dX9_advances_8 (by decide) ?_
  refine fm_icmp_ne (tgt := 26) (pc := 10) F dX9_advances_10 (by decide) (fun c5 => ?_) (fun c5 => ?_)
  · replace hf := fm_in c5 hf
    refine fm_aload_n (pc := 26) F dX9_advances_26 0 rfl ?_
    refine fm_aload_n (pc := 27) F dX9_advances_27 0 rfl ?_
    refine fm_get (v := .int (M2.1 0 4)) (pc := 28) F (ci := 9) (T := TX9) (n := 29) rfl in_X9 4 (fm_lt rfl) dX9_advances_28 q799 0 (fm_lt rfl) rfl rfl ?_
    refine fm_putI (v := (M2.1 0 4)) (pc := 31) F clX9 6 (fm_lt rfl) dX9_advances_31 q801 rfl rfl 0 (fm_lt rfl) rfl (fm_lt rfl) rfl ?_
    refine fm_nameM (fun M6 eM6 => ?_)
    replace hf := fm_let_inv eM6 hf
    refine fm_aload_n (pc := 34) F dX9_advances_34 0 rfl ?_
    refine fm_aload_n (pc := 35) F dX9_advances_35 0 rfl ?_
    refine fm_get (v := .int (M6.1 0 4)) (pc := 36) F (ci := 9) (T := TX9) (n := 29) rfl in_X9 4 (fm_lt rfl) dX9_advances_36 q799 0 (fm_lt rfl) rfl rfl ?_
    obtain ⟨r7, M8, h9, hf⟩ := fm_bi_inv hf
    refine fm_callV (As := [.int (M6.1 0 4)]) (rest := []) (pc := 39) F (ci := 9) 0 (fm_lt rfl) rfl rfl (mX9_letterAt F.inj h9) q902 q904 qs19 q50 q905 ⟨rfl, rfl⟩ hdX9_letterAt ⟨fm_le rfl, fm_le rfl, Nat.zero_le _, Nat.zero_le _⟩ rfl rfl (fm_le rfl) dX9_advances_39 ?_
    refine fm_istore_n (lv' := [(1, .int r7), (0, .ref (ad 0))]) (pc := 42) F dX9_advances_42 rfl (fm_lt rfl) rfl ?_
    refine fm_iload_n (pc := 43) F dX9_advances_43 0 rfl ?_
    refine fm_if_ge (tgt := 55) (pc := 44) F dX9_advances_44 (by decide) (fun c11 => ?_) (fun c11 => ?_)
    · replace hf := fm_ip c11 hf
      refine fm_iload_n (pc := 55) F dX9_advances_55 0 rfl ?_
      refine fm_bipush (v := 48) (pc := 56) F dX9_advances_56 (by decide) ?_
      refine fm_bipush (v := 57) (pc := 58) F dX9_advances_58 (by decide) ?_
      obtain ⟨r12, M13, h14, hf⟩ := fm_bi_inv hf
      refine fm_callS (As := [.int r7, .int 48, .int 57]) (rest := []) (pc := 60) F (mX9_in F.inj h14) q887 q888 q50 q889 ⟨rfl, rfl⟩ hdX9_in.2 ⟨fm_le rfl, fm_le rfl, Nat.zero_le _, Nat.zero_le _⟩ rfl rfl (fm_le rfl) dX9_advances_60 ?_
      refine fm_if_eq (tgt := 181) (pc := 63) F dX9_advances_63 (by decide) (fun c16 => ?_) (fun c16 => ?_)
      · replace hf := fm_ip c16 hf
        refine fm_aload_n (pc := 181) F dX9_advances_181 1 rfl ?_
        refine fm_dup (pc := 182) F dX9_advances_182 rfl ?_
        refine fm_get (v := .int (M13.1 0 4)) (pc := 183) F (ci := 9) (T := TX9) (n := 29) rfl in_X9 4 (fm_lt rfl) dX9_advances_183 q799 0 (fm_lt rfl) rfl rfl ?_
        refine fm_iconst (v := 1) (pc := 186) F dX9_advances_186 (by decide) ?_
        refine fm_iadd (pc := 187) F dX9_advances_187 ?_
        refine fm_putI (v := ((M13.1 0 4) + 1)) (pc := 188) F clX9 4 (fm_lt rfl) dX9_advances_188 q799 rfl rfl 0 (fm_lt rfl) rfl (fm_lt rfl) rfl ?_
        refine fm_nameM (fun M17 eM17 => ?_)
        replace hf := fm_let_inv eM17 hf
        refine fm_aload_n (pc := 191) F dX9_advances_191 1 rfl ?_
        refine fm_iload_n (pc := 192) F dX9_advances_192 0 rfl ?_
        refine fm_putI (v := r7) (pc := 193) F clX9 7 (fm_lt rfl) dX9_advances_193 q802 rfl rfl 0 (fm_lt rfl) rfl (fm_lt rfl) rfl ?_
        refine fm_nameM (fun M18 eM18 => ?_)
        replace hf := fm_let_inv eM18 hf
        refine fm_aload_n (pc := 196) F dX9_advances_196 1 rfl ?_
        refine fm_iload_n (pc := 197) F dX9_advances_197 0 rfl ?_
        refine fm_bipush (v := 59) (pc := 198) F dX9_advances_198 (by decide) ?_
        refine fm_icmp_ne (tgt := 207) (pc := 200) F dX9_advances_200 (by decide) (fun c19 => ?_) (fun c19 => ?_)
        · replace hf := fm_in c19 hf
          refine fm_iload_n (pc := 207) F dX9_advances_207 0 rfl ?_
          refine fm_bipush (v := 116) (pc := 208) F dX9_advances_208 (by decide) ?_
          refine fm_icmp_eq (tgt := 225) (pc := 210) F dX9_advances_210 (by decide) (fun c20 => ?_) (fun c20 => ?_)
          · replace hf := fm_ip c20 hf
            refine fm_iconst (v := 1) (pc := 225) F dX9_advances_225 (by decide) ?_
            refine fm_goto (tgt := 230) (pc := 226) F dX9_advances_226 (by decide) ?_
            refine fm_putI (v := 1) (pc := 230) F clX9 5 (fm_lt rfl) dX9_advances_230 q800 rfl rfl 0 (fm_lt rfl) rfl (fm_lt rfl) rfl ?_
            refine fm_nameM (fun M21 eM21 => ?_)
            replace hf := fm_let_inv eM21 hf
            exact fm_vret (pc := 233) F E hf dX9_advances_233
          · replace hf := fm_in c20 hf
            refine fm_iload_n (pc := 213) F dX9_advances_213 0 rfl ?_
            refine fm_bipush (v := 100) (pc := 214) F dX9_advances_214 (by decide) ?_
            refine fm_icmp_eq (tgt := 225) (pc := 216) F dX9_advances_216 (by decide) (fun c22 => ?_) (fun c22 => ?_)
            · replace hf := fm_ip c22 hf
              refine fm_iconst (v := 1) (pc := 225) F dX9_advances_225 (by decide) ?_
              refine fm_goto (tgt := 230) (pc := 226) F dX9_advances_226 (by decide) ?_
              refine fm_putI (v := 1) (pc := 230) F clX9 5 (fm_lt rfl) dX9_advances_230 q800 rfl rfl 0 (fm_lt rfl) rfl (fm_lt rfl) rfl ?_
              refine fm_nameM (fun M23 eM23 => ?_)
              replace hf := fm_let_inv eM23 hf
              exact fm_vret (pc := 233) F E hf dX9_advances_233
            · replace hf := fm_in c22 hf
              refine fm_iload_n (pc := 219) F dX9_advances_219 0 rfl ?_
              refine fm_bipush (v := 111) (pc := 220) F dX9_advances_220 (by decide) ?_
              refine fm_icmp_ne (tgt := 229) (pc := 222) F dX9_advances_222 (by decide) (fun c24 => ?_) (fun c24 => ?_)
              · replace hf := fm_in c24 hf
                refine fm_iconst (v := 4) (pc := 229) F dX9_advances_229 (by decide) ?_
                refine fm_putI (v := 4) (pc := 230) F clX9 5 (fm_lt rfl) dX9_advances_230 q800 rfl rfl 0 (fm_lt rfl) rfl (fm_lt rfl) rfl ?_
                refine fm_nameM (fun M25 eM25 => ?_)
                replace hf := fm_let_inv eM25 hf
                exact fm_vret (pc := 233) F E hf dX9_advances_233
              · replace hf := fm_ip c24 hf
                refine fm_iconst (v := 1) (pc := 225) F dX9_advances_225 (by decide) ?_
                refine fm_goto (tgt := 230) (pc := 226) F dX9_advances_226 (by decide) ?_
                refine fm_putI (v := 1) (pc := 230) F clX9 5 (fm_lt rfl) dX9_advances_230 q800 rfl rfl 0 (fm_lt rfl) rfl (fm_lt rfl) rfl ?_
                refine fm_nameM (fun M26 eM26 => ?_)
                replace hf := fm_let_inv eM26 hf
                exact fm_vret (pc := 233) F E hf dX9_advances_233
        · replace hf := fm_ip c19 hf
          refine fm_iconst (v := 3) (pc := 203) F dX9_advances_203 (by decide) ?_
          refine fm_goto (tgt := 230) (pc := 204) F dX9_advances_204 (by decide) ?_
          refine fm_putI (v := 3) (pc := 230) F clX9 5 (fm_lt rfl) dX9_advances_230 q800 rfl rfl 0 (fm_lt rfl) rfl (fm_lt rfl) rfl ?_
          refine fm_nameM (fun M27 eM27 => ?_)
          replace hf := fm_let_inv eM27 hf
          exact fm_vret (pc := 233) F E hf dX9_advances_233
      · replace hf := fm_in c16 hf
        refine fm_aload_n (pc := 66) F dX9_advances_66 1 rfl ?_
        refine fm_iconst (v := 0) (pc := 67) F dX9_advances_67 (by decide) ?_
        refine fm_putI (v := 0) (pc := 68) F clX9 7 (fm_lt rfl) dX9_advances_68 q802 rfl rfl 0 (fm_lt rfl) rfl (fm_lt rfl) rfl ?_
        refine fm_nameM (fun M28 eM28 => ?_)
        replace hf := fm_let_inv eM28 hf
        refine fm_pick [1, 0] rfl ?_
        exact wX9_advances_71 F E n _ _ hf
    · replace hf := fm_in c11 hf
      refine fm_aload_n (pc := 47) F dX9_advances_47 1 rfl ?_
      refine fm_iconst (v := 0) (pc := 48) F dX9_advances_48 (by decide) ?_
      refine fm_putI (v := 0) (pc := 49) F clX9 5 (fm_lt rfl) dX9_advances_49 q800 rfl rfl 0 (fm_lt rfl) rfl (fm_lt rfl) rfl ?_
      refine fm_nameM (fun M29 eM29 => ?_)
      replace hf := fm_let_inv eM29 hf
      refine fm_goto (tgt := 233) (pc := 52) F dX9_advances_52 (by decide) ?_
      exact fm_vret (pc := 233) F E hf dX9_advances_233
  · replace hf := fm_ip c5 hf
    refine fm_aload_n (pc := 13) F dX9_advances_13 0 rfl ?_
    refine fm_dup (pc := 14) F dX9_advances_14 rfl ?_
    refine fm_get (v := .int (M2.1 0 4)) (pc := 15) F (ci := 9) (T := TX9) (n := 29) rfl in_X9 4 (fm_lt rfl) dX9_advances_15 q799 0 (fm_lt rfl) rfl rfl ?_
    refine fm_iconst (v := 1) (pc := 18) F dX9_advances_18 (by decide) ?_
    refine fm_iadd (pc := 19) F dX9_advances_19 ?_
    refine fm_putI (v := ((M2.1 0 4) + 1)) (pc := 20) F clX9 4 (fm_lt rfl) dX9_advances_20 q799 rfl rfl 0 (fm_lt rfl) rfl (fm_lt rfl) rfl ?_
    refine fm_nameM (fun M30 eM30 => ?_)
    replace hf := fm_let_inv eM30 hf
    refine fm_goto (tgt := 0) (pc := 23) F dX9_advances_23 (by decide) ?_
    exact wX9_advances_0 F E n _ hf
abbrev rmX9_isWell : Room := { frames := 2, cells := 0, slots := 0, locals := 80 }
def fX9_isWell (n : Nat) (M : fm_M) : Option (Int32 × fm_M) :=
  if 0 ≤ (M.1 0 8) then
    some (0, M)
  else
    some (1, M)
theorem hdX9_isWell : yX9_isWell.cls = RX9 ∧ yX9_isWell.cls ≠ "java/lang/invoke/MethodHandle" ∧ yX9_isWell.cls ≠ "java/lang/invoke/VarHandle" ∧ (parseMethodDescriptor yX9_isWell.desc).map (fun d => d.parameters.length) = some 0 := by decide +kernel
set_option maxHeartbeats 4000000 in
theorem mX9_isWell {l : Launch} {D : va_G} {dA : Nat → ClassId} {ad : Nat → Nat} {n : Nat}  (inj : ∀ i j, i < 20 → j < 20 → ad i = ad j → i = j) {M M' : fm_M} {r : Int32} (hf : fX9_isWell n M = some (r, M')) : fm_C l yX9_isWell (ws_ yX9_isWell cX9_isWell 1 (some .boolean)) rmX9_isWell (YM D dA ad) [.ref (ad 0)] M (some (.int r)) M' := by
  refine fm_enter (by decide) rfl (fm_le rfl) inj ?_
  intro X hXl F E
  subst hXl
  unfold fX9_isWell at hf
  show fm_G X (YM D dA ad) (0, 0) 1 M 0 [(0, .ref (ad 0))] []
  refine fm_aload_n (pc := 0) F dX9_isWell_0 0 rfl ?_
  refine fm_get (v := .int (M.1 0 8)) (pc := 1) F (ci := 9) (T := TX9) (n := 29) rfl in_X9 8 (fm_lt rfl) dX9_isWell_1 q803 0 (fm_lt rfl) rfl rfl ?_
  refine fm_if_ge (tgt := 11) (pc := 4) F dX9_isWell_4 (by decide) (fun c1 => ?_) (fun c1 => ?_)
  · replace hf := fm_ip c1 hf
    refine fm_iconst (v := 0) (pc := 11) F dX9_isWell_11 (by decide) ?_
    exact fm_zret (pc := 12) F E (Or.inl rfl) hf dX9_isWell_12
  · replace hf := fm_in c1 hf
    refine fm_iconst (v := 1) (pc := 7) F dX9_isWell_7 (by decide) ?_
    refine fm_goto (tgt := 12) (pc := 8) F dX9_isWell_8 (by decide) ?_
    exact fm_zret (pc := 12) F E (Or.inr rfl) hf dX9_isWell_12
abbrev rmX9_takes : Room := { frames := 4, cells := 0, slots := 0, locals := 123 }
def fX9_takes (n : Nat) (M : fm_M) (l1 : Int32) : Option (Int32 × fm_M) :=
  fm_bi (fX9_isWell n M) fun r1 M2 =>
  if r1 = 0 then
    some (0, M2)
  else
    if l1 = 0 then
      fm_let (fm_wr M2 0 8 (M2.1 0 6)) fun M11 =>
      some (0, M11)
    else
      fm_bv (fX9_advances n M2) fun M8 =>
      some ((M2.1 0 7), M8)
theorem hdX9_takes : yX9_takes.cls = RX9 ∧ yX9_takes.cls ≠ "java/lang/invoke/MethodHandle" ∧ yX9_takes.cls ≠ "java/lang/invoke/VarHandle" ∧ (parseMethodDescriptor yX9_takes.desc).map (fun d => d.parameters.length) = some 1 := by decide +kernel
set_option maxHeartbeats 4000000 in
theorem mX9_takes {l : Launch} {D : va_G} {dA : Nat → ClassId} {ad : Nat → Nat} {n : Nat}  (inj : ∀ i j, i < 20 → j < 20 → ad i = ad j → i = j) {M M' : fm_M} {l1 : Int32} {r : Int32} (hf : fX9_takes n M l1 = some (r, M')) : fm_C l yX9_takes (ws_ yX9_takes cX9_takes 3 (some .int)) rmX9_takes (YM D dA ad) [.ref (ad 0), .int l1] M (some (.int r)) M' := by
  refine fm_enter (by decide) rfl (fm_le rfl) inj ?_
  intro X hXl F E
  subst hXl
  unfold fX9_takes at hf
  show fm_G X (YM D dA ad) (0, 0) 3 M 0 [(0, .ref (ad 0)), (1, .int l1)] []
  refine fm_aload_n (pc := 0) F dX9_takes_0 0 rfl ?_
  obtain ⟨r1, M2, h3, hf⟩ := fm_bi_inv hf
  refine fm_callV (As := []) (rest := []) (pc := 1) F (ci := 9) 0 (fm_lt rfl) rfl rfl (mX9_isWell F.inj h3) q906 q908 qs20 q50 q909 ⟨rfl, rfl⟩ hdX9_isWell ⟨fm_le rfl, fm_le rfl, Nat.zero_le _, Nat.zero_le _⟩ rfl rfl (fm_le rfl) dX9_takes_1 ?_
  refine fm_if_ne (tgt := 9) (pc := 4) F dX9_takes_4 (by decide) (fun c5 => ?_) (fun c5 => ?_)
  · replace hf := fm_in c5 hf
    refine fm_iload_n (pc := 9) F dX9_takes_9 1 rfl ?_
    refine fm_if_ne (tgt := 23) (pc := 10) F dX9_takes_10 (by decide) (fun c6 => ?_) (fun c6 => ?_)
    · replace hf := fm_in c6 hf
      refine fm_aload_n (pc := 23) F dX9_takes_23 0 rfl ?_
      refine fm_get (v := .int (M2.1 0 7)) (pc := 24) F (ci := 9) (T := TX9) (n := 29) rfl in_X9 7 (fm_lt rfl) dX9_takes_24 q802 0 (fm_lt rfl) rfl rfl ?_
      refine fm_istore_n (lv' := [(2, .int (M2.1 0 7)), (0, .ref (ad 0)), (1, .int l1)]) (pc := 27) F dX9_takes_27 rfl (fm_lt rfl) rfl ?_
      refine fm_aload_n (pc := 28) F dX9_takes_28 1 rfl ?_
      obtain ⟨M8, h9, hf⟩ := fm_bv_inv hf
      refine fm_callV (As := []) (rest := []) (pc := 29) F (ci := 9) 0 (fm_lt rfl) rfl rfl (mX9_advances F.inj h9) q898 q900 qs18 q50 q901 ⟨rfl, rfl⟩ hdX9_advances ⟨fm_le rfl, fm_le rfl, Nat.zero_le _, Nat.zero_le _⟩ rfl rfl (fm_le rfl) dX9_takes_29 ?_
      refine fm_iload_n (pc := 32) F dX9_takes_32 0 rfl ?_
      exact fm_iret (pc := 33) F E hf dX9_takes_33
    · replace hf := fm_ip c6 hf
      refine fm_aload_n (pc := 13) F dX9_takes_13 0 rfl ?_
      refine fm_aload_n (pc := 14) F dX9_takes_14 0 rfl ?_
      refine fm_get (v := .int (M2.1 0 6)) (pc := 15) F (ci := 9) (T := TX9) (n := 29) rfl in_X9 6 (fm_lt rfl) dX9_takes_15 q801 0 (fm_lt rfl) rfl rfl ?_
      refine fm_putI (v := (M2.1 0 6)) (pc := 18) F clX9 8 (fm_lt rfl) dX9_takes_18 q803 rfl rfl 0 (fm_lt rfl) rfl (fm_lt rfl) rfl ?_
      refine fm_nameM (fun M11 eM11 => ?_)
      replace hf := fm_let_inv eM11 hf
      refine fm_iconst (v := 0) (pc := 21) F dX9_takes_21 (by decide) ?_
      exact fm_iret (pc := 22) F E hf dX9_takes_22
  · replace hf := fm_ip c5 hf
    refine fm_iconst (v := 0) (pc := 7) F dX9_takes_7 (by decide) ?_
    exact fm_iret (pc := 8) F E hf dX9_takes_8
abbrev rmX9_number : Room := { frames := 5, cells := 0, slots := 0, locals := 145 }
def fX9_number_26 (n : Nat) (M : fm_M) (s0 : Int32) : Option (Int32 × fm_M) :=
  fm_bi (fX9_takes n M s0) fun r1 M2 =>
  some (r1, M2)
def fX9_number_25 (n : Nat) (M : fm_M) : Option (Int32 × fm_M) :=
  fX9_number_26 n M 0
def fX9_number (n : Nat) (M : fm_M) (l1 : Int32) (l2 : Int32) : Option (Int32 × fm_M) :=
  if (M.1 0 5) = 2 then
    fm_bi (fX9_in n M (M.1 0 7) l1 l2) fun r2 M3 =>
    if r2 = 0 then
      fX9_number_25 n M3
    else
      fX9_number_26 n M3 1
  else
    fX9_number_25 n M
theorem hdX9_number : yX9_number.cls = RX9 ∧ yX9_number.cls ≠ "java/lang/invoke/MethodHandle" ∧ yX9_number.cls ≠ "java/lang/invoke/VarHandle" ∧ (parseMethodDescriptor yX9_number.desc).map (fun d => d.parameters.length) = some 2 := by decide +kernel
set_option maxHeartbeats 4000000 in
theorem wX9_number_26 {X : fm_X} {D : va_G} {dA : Nat → ClassId} {ad : Nat → Nat} {n : Nat}  {r : Int32} (F : fm_F X (YM D dA ad) cX9_number 3 RX9 rmX9_number) {M' : fm_M} (E : fm_E X (YM D dA ad) (some (.int r)) M' (some .int)) : ∀ (M : fm_M) (s0 : Int32), fX9_number_26 n M s0 = some (r, M') → fm_G X (YM D dA ad) (0, 0) 3 M 26 [] [.int s0, .ref (ad 0)] := by
  intro M s0 hf
  unfold fX9_number_26 at hf
  obtain ⟨r1, M2, h3, hf⟩ := fm_bi_inv hf
  refine fm_callV (As := [.int s0]) (rest := []) (pc := 26) F (ci := 9) 0 (fm_lt rfl) rfl rfl (mX9_takes F.inj h3) q910 q912 qs21 q50 q913 ⟨rfl, rfl⟩ hdX9_takes ⟨fm_le rfl, fm_le rfl, Nat.zero_le _, Nat.zero_le _⟩ rfl rfl (fm_le rfl) dX9_number_26 ?_
  exact fm_iret (pc := 29) F E hf dX9_number_29
set_option maxHeartbeats 4000000 in
theorem wX9_number_25 {X : fm_X} {D : va_G} {dA : Nat → ClassId} {ad : Nat → Nat} {n : Nat}  {r : Int32} (F : fm_F X (YM D dA ad) cX9_number 3 RX9 rmX9_number) {M' : fm_M} (E : fm_E X (YM D dA ad) (some (.int r)) M' (some .int)) : ∀ (M : fm_M), fX9_number_25 n M = some (r, M') → fm_G X (YM D dA ad) (0, 0) 3 M 25 [] [.ref (ad 0)] := by
  intro M hf
  unfold fX9_number_25 at hf
  refine fm_iconst (v := 0) (pc := 25) F dX9_number_25 (by decide) ?_
  exact wX9_number_26 F E _ _ hf
set_option maxHeartbeats 4000000 in
theorem mX9_number {l : Launch} {D : va_G} {dA : Nat → ClassId} {ad : Nat → Nat} {n : Nat}  (inj : ∀ i j, i < 20 → j < 20 → ad i = ad j → i = j) {M M' : fm_M} {l1 : Int32} {l2 : Int32} {r : Int32} (hf : fX9_number n M l1 l2 = some (r, M')) : fm_C l yX9_number (ws_ yX9_number cX9_number 3 (some .int)) rmX9_number (YM D dA ad) [.ref (ad 0), .int l1, .int l2] M (some (.int r)) M' := by
  refine fm_enter (by decide) rfl (fm_le rfl) inj ?_
  intro X hXl F E
  subst hXl
  unfold fX9_number at hf
  show fm_G X (YM D dA ad) (0, 0) 3 M 0 [(0, .ref (ad 0)), (1, .int l1), (2, .int l2)] []
  refine fm_aload_n (pc := 0) F dX9_number_0 0 rfl ?_
  refine fm_aload_n (pc := 1) F dX9_number_1 0 rfl ?_
  refine fm_get (v := .int (M.1 0 5)) (pc := 2) F (ci := 9) (T := TX9) (n := 29) rfl in_X9 5 (fm_lt rfl) dX9_number_2 q800 0 (fm_lt rfl) rfl rfl ?_
  refine fm_iconst (v := 2) (pc := 5) F dX9_number_5 (by decide) ?_
  refine fm_icmp_ne (tgt := 25) (pc := 6) F dX9_number_6 (by decide) (fun c1 => ?_) (fun c1 => ?_)
  · replace hf := fm_in c1 hf
    refine fm_pick [] rfl ?_
    exact wX9_number_25 F E _ hf
  · replace hf := fm_ip c1 hf
    refine fm_aload_n (pc := 9) F dX9_number_9 0 rfl ?_
    refine fm_get (v := .int (M.1 0 7)) (pc := 10) F (ci := 9) (T := TX9) (n := 29) rfl in_X9 7 (fm_lt rfl) dX9_number_10 q802 0 (fm_lt rfl) rfl rfl ?_
    refine fm_iload_n (pc := 13) F dX9_number_13 1 rfl ?_
    refine fm_iload_n (pc := 14) F dX9_number_14 2 rfl ?_
    obtain ⟨r2, M3, h4, hf⟩ := fm_bi_inv hf
    refine fm_callS (As := [.int (M.1 0 7), .int l1, .int l2]) (rest := [.ref (ad 0)]) (pc := 15) F (mX9_in F.inj h4) q887 q888 q50 q889 ⟨rfl, rfl⟩ hdX9_in.2 ⟨fm_le rfl, fm_le rfl, Nat.zero_le _, Nat.zero_le _⟩ rfl rfl (fm_le rfl) dX9_number_15 ?_
    refine fm_if_eq (tgt := 25) (pc := 18) F dX9_number_18 (by decide) (fun c6 => ?_) (fun c6 => ?_)
    · replace hf := fm_ip c6 hf
      refine fm_pick [] rfl ?_
      exact wX9_number_25 F E _ hf
    · replace hf := fm_in c6 hf
      refine fm_iconst (v := 1) (pc := 21) F dX9_number_21 (by decide) ?_
      refine fm_goto (tgt := 26) (pc := 22) F dX9_number_22 (by decide) ?_
      refine fm_pick [] rfl ?_
      exact wX9_number_26 F E _ _ hf
abbrev rmX9_readsItem : Room := { frames := 6, cells := 0, slots := 0, locals := 167 }
def fX9_readsItem_129 (n : Nat) (M : fm_M) (l2 : Int32) (s0 : Int32) : Option (fm_M) :=
  fm_bi (fX9_takes n M s0) fun r1 M2 =>
  fm_bi (fX9_number n M2 1 9) fun r5 M6 =>
  fm_bi (fX9_isWell n M6) fun r9 M10 =>
  if r9 = 0 then
    some M10
  else
    fm_b ((36 + (6 * l2)) + r1) 72 <|
    fm_let (fm_wr M10 6 ((36 + (6 * l2)) + r1).toNatClampNeg r5) fun M15 =>
    fm_b ((36 + (6 * r1)) + l2) 72 <|
    fm_let (fm_wr M15 6 ((36 + (6 * r1)) + l2).toNatClampNeg r5) fun M17 =>
    some M17
def fX9_readsItem_128 (n : Nat) (M : fm_M) (l2 : Int32) : Option (fm_M) :=
  fX9_readsItem_129 n M l2 0
def fX9_readsItem (n : Nat) (M : fm_M) (l1 : Int32) : Option (fm_M) :=
  if l1 = 116 then
    fm_let (6 + (M.1 2 2)) fun x33 =>
    fm_bi (fX9_number n M 1 99) fun r34 M35 =>
    fm_b x33 12 <|
    fm_let (fm_wr M35 3 x33.toNatClampNeg r34) fun M39 =>
    fm_bi (fX9_number n M39 1 99) fun r40 M41 =>
    fm_b x33 12 <|
    fm_let (fm_wr M41 4 x33.toNatClampNeg r40) fun M45 =>
    fm_bi (fX9_number n M45 0 6) fun r46 M47 =>
    fm_b x33 12 <|
    fm_let (fm_wr M47 5 x33.toNatClampNeg r46) fun M51 =>
    fm_let (fm_wr M51 2 2 ((M51.1 2 2) + 1)) fun M52 =>
    some M52
  else
    if l1 = 100 then
      fm_bi (fX9_number n M 0 ((M.1 2 2) - 1)) fun r22 M23 =>
      if (M23.1 0 5) = 2 then
        fm_bi (fX9_in n M23 (M23.1 0 7) 0 ((M23.1 2 2) - 1)) fun r27 M28 =>
        if r27 = 0 then
          fX9_readsItem_128 n M28 r22
        else
          if (M28.1 0 7) = r22 then
            fX9_readsItem_128 n M28 r22
          else
            fX9_readsItem_129 n M28 r22 1
      else
        fX9_readsItem_128 n M23 r22
    else
      fm_bi (fX9_number n M 0 ((M.1 2 2) - 1)) fun r3 M4 =>
      fm_b (6 + (M.1 2 3)) 12 <|
      fm_let (fm_wr M4 7 (6 + (M.1 2 3)).toNatClampNeg r3) fun M8 =>
      fm_bi (fX9_number n M8 0 ((M8.1 2 2) - 1)) fun r9 M10 =>
      fm_b (6 + (M8.1 2 3)) 12 <|
      fm_let (fm_wr M10 8 (6 + (M8.1 2 3)).toNatClampNeg r9) fun M14 =>
      fm_bi (fX9_number n M14 0 60) fun r15 M16 =>
      fm_b (6 + (M14.1 2 3)) 12 <|
      fm_let (fm_wr M16 9 (6 + (M14.1 2 3)).toNatClampNeg r15) fun M20 =>
      fm_let (fm_wr M20 2 3 ((M20.1 2 3) + 1)) fun M21 =>
      some M21
theorem hdX9_readsItem : yX9_readsItem.cls = RX9 ∧ yX9_readsItem.cls ≠ "java/lang/invoke/MethodHandle" ∧ yX9_readsItem.cls ≠ "java/lang/invoke/VarHandle" ∧ (parseMethodDescriptor yX9_readsItem.desc).map (fun d => d.parameters.length) = some 1 := by decide +kernel
set_option maxHeartbeats 4000000 in
theorem wX9_readsItem_129 {X : fm_X} {D : va_G} {dA : Nat → ClassId} {ad : Nat → Nat} {n : Nat}  (F : fm_F X (YM D dA ad) cX9_readsItem 5 RX9 rmX9_readsItem) {M' : fm_M} (E : fm_E X (YM D dA ad) none M' none) : ∀ (M : fm_M) (l2 : Int32) (s0 : Int32), fX9_readsItem_129 n M l2 s0 = some M' → fm_G X (YM D dA ad) (0, 0) 5 M 129 [(0, .ref (ad 0)), (2, .int l2)] [.int s0, .ref (ad 0)] := by
  intro M l2 s0 hf
  unfold fX9_readsItem_129 at hf
  obtain ⟨r1, M2, h3, hf⟩ := fm_bi_inv hf
  refine fm_callV (As := [.int s0]) (rest := []) (pc := 129) F (ci := 9) 0 (fm_lt rfl) rfl rfl (mX9_takes F.inj h3) q910 q912 qs21 q50 q913 ⟨rfl, rfl⟩ hdX9_takes ⟨fm_le rfl, fm_le rfl, Nat.zero_le _, Nat.zero_le _⟩ rfl rfl (fm_le rfl) dX9_readsItem_129 ?_
  refine fm_istore_n (lv' := [(3, .int r1), (0, .ref (ad 0)), (2, .int l2)]) (pc := 132) F dX9_readsItem_132 rfl (fm_lt rfl) rfl ?_
  refine fm_aload_n (pc := 133) F dX9_readsItem_133 1 rfl ?_
  refine fm_iconst (v := 1) (pc := 134) F dX9_readsItem_134 (by decide) ?_
  refine fm_bipush (v := 9) (pc := 135) F dX9_readsItem_135 (by decide) ?_
  obtain ⟨r5, M6, h7, hf⟩ := fm_bi_inv hf
  refine fm_callV (As := [.int 1, .int 9]) (rest := []) (pc := 137) F (ci := 9) 0 (fm_lt rfl) rfl rfl (mX9_number F.inj h7) q918 q920 qs23 q50 q921 ⟨rfl, rfl⟩ hdX9_number ⟨fm_le rfl, fm_le rfl, Nat.zero_le _, Nat.zero_le _⟩ rfl rfl (fm_le rfl) dX9_readsItem_137 ?_
  refine fm_istore (lv' := [(4, .int r5), (3, .int r1), (0, .ref (ad 0)), (2, .int l2)]) (pc := 140) F dX9_readsItem_140 (fm_lt rfl) rfl ?_
  refine fm_aload_n (pc := 142) F dX9_readsItem_142 2 rfl ?_
  obtain ⟨r9, M10, h11, hf⟩ := fm_bi_inv hf
  refine fm_callV (As := []) (rest := []) (pc := 143) F (ci := 9) 0 (fm_lt rfl) rfl rfl (mX9_isWell F.inj h11) q906 q908 qs20 q50 q909 ⟨rfl, rfl⟩ hdX9_isWell ⟨fm_le rfl, fm_le rfl, Nat.zero_le _, Nat.zero_le _⟩ rfl rfl (fm_le rfl) dX9_readsItem_143 ?_
  refine fm_if_eq (tgt := 181) (pc := 146) F dX9_readsItem_146 (by decide) (fun c13 => ?_) (fun c13 => ?_)
  · replace hf := fm_ip c13 hf
    refine fm_goto (tgt := 269) (pc := 181) F dX9_readsItem_181 (by decide) ?_
    exact fm_vret (pc := 269) F E hf dX9_readsItem_269
  · replace hf := fm_in c13 hf
    refine fm_aload_n (pc := 149) F dX9_readsItem_149 2 rfl ?_
    refine fm_get (v := .ref (ad 6)) (pc := 150) F (ci := 9) (T := TX9) (n := 29) rfl in_X9 13 (fm_lt rfl) dX9_readsItem_150 q808 0 (fm_lt rfl) rfl rfl ?_
    refine fm_bipush (v := 36) (pc := 153) F dX9_readsItem_153 (by decide) ?_
    refine fm_bipush (v := 6) (pc := 155) F dX9_readsItem_155 (by decide) ?_
    refine fm_iload_n (pc := 157) F dX9_readsItem_157 3 rfl ?_
    refine fm_imul (pc := 158) F dX9_readsItem_158 ?_
    refine fm_iadd (pc := 159) F dX9_readsItem_159 ?_
    refine fm_iload_n (pc := 160) F dX9_readsItem_160 1 rfl ?_
    refine fm_iadd (pc := 161) F dX9_readsItem_161 ?_
    refine fm_iload (pc := 162) F dX9_readsItem_162 0 rfl ?_
    obtain ⟨b14, hf⟩ := fm_b_inv hf
    refine fm_iast (pc := 164) F dX9_readsItem_164 6 (fm_lt rfl) (fun _ => rfl) b14 ?_
    refine fm_nameM (fun M15 eM15 => ?_)
    replace hf := fm_let_inv eM15 hf
    refine fm_aload_n (pc := 165) F dX9_readsItem_165 2 rfl ?_
    refine fm_get (v := .ref (ad 6)) (pc := 166) F (ci := 9) (T := TX9) (n := 29) rfl in_X9 13 (fm_lt rfl) dX9_readsItem_166 q808 0 (fm_lt rfl) rfl rfl ?_
    refine fm_bipush (v := 36) (pc := 169) F dX9_readsItem_169 (by decide) ?_
    refine fm_bipush (v := 6) (pc := 171) F dX9_readsItem_171 (by decide) ?_
    refine fm_iload_n (pc := 173) F dX9_readsItem_173 1 rfl ?_
    refine fm_imul (pc := 174) F dX9_readsItem_174 ?_
    refine fm_iadd (pc := 175) F dX9_readsItem_175 ?_
    refine fm_iload_n (pc := 176) F dX9_readsItem_176 3 rfl ?_
    refine fm_iadd (pc := 177) F dX9_readsItem_177 ?_
    refine fm_iload (pc := 178) F dX9_readsItem_178 0 rfl ?_
    obtain ⟨b16, hf⟩ := fm_b_inv hf
    refine fm_iast (pc := 180) F dX9_readsItem_180 6 (fm_lt rfl) (fun _ => rfl) b16 ?_
    refine fm_nameM (fun M17 eM17 => ?_)
    replace hf := fm_let_inv eM17 hf
    refine fm_goto (tgt := 269) (pc := 181) F dX9_readsItem_181 (by decide) ?_
    exact fm_vret (pc := 269) F E hf dX9_readsItem_269
set_option maxHeartbeats 4000000 in
theorem wX9_readsItem_128 {X : fm_X} {D : va_G} {dA : Nat → ClassId} {ad : Nat → Nat} {n : Nat}  (F : fm_F X (YM D dA ad) cX9_readsItem 5 RX9 rmX9_readsItem) {M' : fm_M} (E : fm_E X (YM D dA ad) none M' none) : ∀ (M : fm_M) (l2 : Int32), fX9_readsItem_128 n M l2 = some M' → fm_G X (YM D dA ad) (0, 0) 5 M 128 [(0, .ref (ad 0)), (2, .int l2)] [.ref (ad 0)] := by
  intro M l2 hf
  unfold fX9_readsItem_128 at hf
  refine fm_iconst (v := 0) (pc := 128) F dX9_readsItem_128 (by decide) ?_
  exact wX9_readsItem_129 F E _ _ _ hf
set_option maxHeartbeats 4000000 in
theorem mX9_readsItem {l : Launch} {D : va_G} {dA : Nat → ClassId} {ad : Nat → Nat} {n : Nat}  (inj : ∀ i j, i < 20 → j < 20 → ad i = ad j → i = j) {M M' : fm_M} {l1 : Int32} (hf : fX9_readsItem n M l1 = some M') : fm_C l yX9_readsItem (ws_ yX9_readsItem cX9_readsItem 5 none) rmX9_readsItem (YM D dA ad) [.ref (ad 0), .int l1] M none M' := by
  refine fm_enter (by decide) rfl (fm_le rfl) inj ?_
  intro X hXl F E
  subst hXl
  unfold fX9_readsItem at hf
  show fm_G X (YM D dA ad) (0, 0) 5 M 0 [(0, .ref (ad 0)), (1, .int l1)] []
  refine fm_iload_n (pc := 0) F dX9_readsItem_0 1 rfl ?_
  refine fm_bipush (v := 116) (pc := 1) F dX9_readsItem_1 (by decide) ?_
  refine fm_icmp_ne (tgt := 68) (pc := 3) F dX9_readsItem_3 (by decide) (fun c1 => ?_) (fun c1 => ?_)
  · replace hf := fm_in c1 hf
    refine fm_iload_n (pc := 68) F dX9_readsItem_68 1 rfl ?_
    refine fm_bipush (v := 100) (pc := 69) F dX9_readsItem_69 (by decide) ?_
    refine fm_icmp_ne (tgt := 184) (pc := 71) F dX9_readsItem_71 (by decide) (fun c2 => ?_) (fun c2 => ?_)
    · replace hf := fm_in c2 hf
      refine fm_aload_n (pc := 184) F dX9_readsItem_184 0 rfl ?_
      refine fm_get (v := .ref (ad 7)) (pc := 185) F (ci := 9) (T := TX9) (n := 29) rfl in_X9 14 (fm_lt rfl) dX9_readsItem_185 q809 0 (fm_lt rfl) rfl rfl ?_
      refine fm_bipush (v := 6) (pc := 188) F dX9_readsItem_188 (by decide) ?_
      refine fm_aload_n (pc := 190) F dX9_readsItem_190 0 rfl ?_
      refine fm_get (v := .ref (ad 2)) (pc := 191) F (ci := 9) (T := TX9) (n := 29) rfl in_X9 9 (fm_lt rfl) dX9_readsItem_191 q804 0 (fm_lt rfl) rfl rfl ?_
      refine fm_iconst (v := 3) (pc := 194) F dX9_readsItem_194 (by decide) ?_
      refine fm_ialdK (pc := 195) F dX9_readsItem_195 2 (fm_lt rfl) rfl 3 (fm_ok (by decide)) rfl ?_
      refine fm_iadd (pc := 196) F dX9_readsItem_196 ?_
      refine fm_aload_n (pc := 197) F dX9_readsItem_197 0 rfl ?_
      refine fm_iconst (v := 0) (pc := 198) F dX9_readsItem_198 (by decide) ?_
      refine fm_aload_n (pc := 199) F dX9_readsItem_199 0 rfl ?_
      refine fm_get (v := .ref (ad 2)) (pc := 200) F (ci := 9) (T := TX9) (n := 29) rfl in_X9 9 (fm_lt rfl) dX9_readsItem_200 q804 0 (fm_lt rfl) rfl rfl ?_
      refine fm_iconst (v := 2) (pc := 203) F dX9_readsItem_203 (by decide) ?_
      refine fm_ialdK (pc := 204) F dX9_readsItem_204 2 (fm_lt rfl) rfl 2 (fm_ok (by decide)) rfl ?_
      refine fm_iconst (v := 1) (pc := 205) F dX9_readsItem_205 (by decide) ?_
      refine fm_isub (pc := 206) F dX9_readsItem_206 ?_
      obtain ⟨r3, M4, h5, hf⟩ := fm_bi_inv hf
      refine fm_callV (As := [.int 0, .int ((M.1 2 2) - 1)]) (rest := [.int (6 + (M.1 2 3)), .ref (ad 7)]) (pc := 207) F (ci := 9) 0 (fm_lt rfl) rfl rfl (mX9_number F.inj h5) q918 q920 qs23 q50 q921 ⟨rfl, rfl⟩ hdX9_number ⟨fm_le rfl, fm_le rfl, Nat.zero_le _, Nat.zero_le _⟩ rfl rfl (fm_le rfl) dX9_readsItem_207 ?_
      obtain ⟨b7, hf⟩ := fm_b_inv hf
      refine fm_iast (pc := 210) F dX9_readsItem_210 7 (fm_lt rfl) (fun _ => rfl) b7 ?_
      refine fm_nameM (fun M8 eM8 => ?_)
      replace hf := fm_let_inv eM8 hf
      refine fm_aload_n (pc := 211) F dX9_readsItem_211 0 rfl ?_
      refine fm_get (v := .ref (ad 8)) (pc := 212) F (ci := 9) (T := TX9) (n := 29) rfl in_X9 15 (fm_lt rfl) dX9_readsItem_212 q810 0 (fm_lt rfl) rfl rfl ?_
      refine fm_bipush (v := 6) (pc := 215) F dX9_readsItem_215 (by decide) ?_
      refine fm_aload_n (pc := 217) F dX9_readsItem_217 0 rfl ?_
      refine fm_get (v := .ref (ad 2)) (pc := 218) F (ci := 9) (T := TX9) (n := 29) rfl in_X9 9 (fm_lt rfl) dX9_readsItem_218 q804 0 (fm_lt rfl) rfl rfl ?_
      refine fm_iconst (v := 3) (pc := 221) F dX9_readsItem_221 (by decide) ?_
      refine fm_ialdK (pc := 222) F dX9_readsItem_222 2 (fm_lt rfl) rfl 3 (fm_ok (by decide)) rfl ?_
      refine fm_iadd (pc := 223) F dX9_readsItem_223 ?_
      refine fm_aload_n (pc := 224) F dX9_readsItem_224 0 rfl ?_
      refine fm_iconst (v := 0) (pc := 225) F dX9_readsItem_225 (by decide) ?_
      refine fm_aload_n (pc := 226) F dX9_readsItem_226 0 rfl ?_
      refine fm_get (v := .ref (ad 2)) (pc := 227) F (ci := 9) (T := TX9) (n := 29) rfl in_X9 9 (fm_lt rfl) dX9_readsItem_227 q804 0 (fm_lt rfl) rfl rfl ?_
      refine fm_iconst (v := 2) (pc := 230) F dX9_readsItem_230 (by decide) ?_
      refine fm_ialdK (pc := 231) F dX9_readsItem_231 2 (fm_lt rfl) rfl 2 (fm_ok (by decide)) rfl ?_
      refine fm_iconst (v := 1) (pc := 232) F dX9_readsItem_232 (by decide) ?_
      refine fm_isub (pc := 233) F dX9_readsItem_233 ?_
      obtain ⟨r9, M10, h11, hf⟩ := fm_bi_inv hf
      refine fm_callV (As := [.int 0, .int ((M8.1 2 2) - 1)]) (rest := [.int (6 + (M8.1 2 3)), .ref (ad 8)]) (pc := 234) F (ci := 9) 0 (fm_lt rfl) rfl rfl (mX9_number F.inj h11) q918 q920 qs23 q50 q921 ⟨rfl, rfl⟩ hdX9_number ⟨fm_le rfl, fm_le rfl, Nat.zero_le _, Nat.zero_le _⟩ rfl rfl (fm_le rfl) dX9_readsItem_234 ?_
      obtain ⟨b13, hf⟩ := fm_b_inv hf
      refine fm_iast (pc := 237) F dX9_readsItem_237 8 (fm_lt rfl) (fun _ => rfl) b13 ?_
      refine fm_nameM (fun M14 eM14 => ?_)
      replace hf := fm_let_inv eM14 hf
      refine fm_aload_n (pc := 238) F dX9_readsItem_238 0 rfl ?_
      refine fm_get (v := .ref (ad 9)) (pc := 239) F (ci := 9) (T := TX9) (n := 29) rfl in_X9 16 (fm_lt rfl) dX9_readsItem_239 q811 0 (fm_lt rfl) rfl rfl ?_
      refine fm_bipush (v := 6) (pc := 242) F dX9_readsItem_242 (by decide) ?_
      refine fm_aload_n (pc := 244) F dX9_readsItem_244 0 rfl ?_
      refine fm_get (v := .ref (ad 2)) (pc := 245) F (ci := 9) (T := TX9) (n := 29) rfl in_X9 9 (fm_lt rfl) dX9_readsItem_245 q804 0 (fm_lt rfl) rfl rfl ?_
      refine fm_iconst (v := 3) (pc := 248) F dX9_readsItem_248 (by decide) ?_
      refine fm_ialdK (pc := 249) F dX9_readsItem_249 2 (fm_lt rfl) rfl 3 (fm_ok (by decide)) rfl ?_
      refine fm_iadd (pc := 250) F dX9_readsItem_250 ?_
      refine fm_aload_n (pc := 251) F dX9_readsItem_251 0 rfl ?_
      refine fm_iconst (v := 0) (pc := 252) F dX9_readsItem_252 (by decide) ?_
      refine fm_bipush (v := 60) (pc := 253) F dX9_readsItem_253 (by decide) ?_
      obtain ⟨r15, M16, h17, hf⟩ := fm_bi_inv hf
      refine fm_callV (As := [.int 0, .int 60]) (rest := [.int (6 + (M14.1 2 3)), .ref (ad 9)]) (pc := 255) F (ci := 9) 0 (fm_lt rfl) rfl rfl (mX9_number F.inj h17) q918 q920 qs23 q50 q921 ⟨rfl, rfl⟩ hdX9_number ⟨fm_le rfl, fm_le rfl, Nat.zero_le _, Nat.zero_le _⟩ rfl rfl (fm_le rfl) dX9_readsItem_255 ?_
      obtain ⟨b19, hf⟩ := fm_b_inv hf
      refine fm_iast (pc := 258) F dX9_readsItem_258 9 (fm_lt rfl) (fun _ => rfl) b19 ?_
      refine fm_nameM (fun M20 eM20 => ?_)
      replace hf := fm_let_inv eM20 hf
      refine fm_aload_n (pc := 259) F dX9_readsItem_259 0 rfl ?_
      refine fm_get (v := .ref (ad 2)) (pc := 260) F (ci := 9) (T := TX9) (n := 29) rfl in_X9 9 (fm_lt rfl) dX9_readsItem_260 q804 0 (fm_lt rfl) rfl rfl ?_
      refine fm_iconst (v := 3) (pc := 263) F dX9_readsItem_263 (by decide) ?_
      refine fm_dup2_11 (pc := 264) F dX9_readsItem_264 rfl rfl ?_
      refine fm_ialdK (pc := 265) F dX9_readsItem_265 2 (fm_lt rfl) rfl 3 (fm_ok (by decide)) rfl ?_
      refine fm_iconst (v := 1) (pc := 266) F dX9_readsItem_266 (by decide) ?_
      refine fm_iadd (pc := 267) F dX9_readsItem_267 ?_
      refine fm_iastK (pc := 268) F dX9_readsItem_268 2 (fm_lt rfl) (fun _ => rfl) 3 (fm_ok (by decide)) rfl ?_
      refine fm_nameM (fun M21 eM21 => ?_)
      replace hf := fm_let_inv eM21 hf
      exact fm_vret (pc := 269) F E hf dX9_readsItem_269
    · replace hf := fm_ip c2 hf
      refine fm_aload_n (pc := 74) F dX9_readsItem_74 0 rfl ?_
      refine fm_iconst (v := 0) (pc := 75) F dX9_readsItem_75 (by decide) ?_
      refine fm_aload_n (pc := 76) F dX9_readsItem_76 0 rfl ?_
      refine fm_get (v := .ref (ad 2)) (pc := 77) F (ci := 9) (T := TX9) (n := 29) rfl in_X9 9 (fm_lt rfl) dX9_readsItem_77 q804 0 (fm_lt rfl) rfl rfl ?_
      refine fm_iconst (v := 2) (pc := 80) F dX9_readsItem_80 (by decide) ?_
      refine fm_ialdK (pc := 81) F dX9_readsItem_81 2 (fm_lt rfl) rfl 2 (fm_ok (by decide)) rfl ?_
      refine fm_iconst (v := 1) (pc := 82) F dX9_readsItem_82 (by decide) ?_
      refine fm_isub (pc := 83) F dX9_readsItem_83 ?_
      obtain ⟨r22, M23, h24, hf⟩ := fm_bi_inv hf
      refine fm_callV (As := [.int 0, .int ((M.1 2 2) - 1)]) (rest := []) (pc := 84) F (ci := 9) 0 (fm_lt rfl) rfl rfl (mX9_number F.inj h24) q918 q920 qs23 q50 q921 ⟨rfl, rfl⟩ hdX9_number ⟨fm_le rfl, fm_le rfl, Nat.zero_le _, Nat.zero_le _⟩ rfl rfl (fm_le rfl) dX9_readsItem_84 ?_
      refine fm_istore_n (lv' := [(2, .int r22), (0, .ref (ad 0)), (1, .int l1)]) (pc := 87) F dX9_readsItem_87 rfl (fm_lt rfl) rfl ?_
      refine fm_aload_n (pc := 88) F dX9_readsItem_88 1 rfl ?_
      refine fm_aload_n (pc := 89) F dX9_readsItem_89 1 rfl ?_
      refine fm_get (v := .int (M23.1 0 5)) (pc := 90) F (ci := 9) (T := TX9) (n := 29) rfl in_X9 5 (fm_lt rfl) dX9_readsItem_90 q800 0 (fm_lt rfl) rfl rfl ?_
      refine fm_iconst (v := 2) (pc := 93) F dX9_readsItem_93 (by decide) ?_
      refine fm_icmp_ne (tgt := 128) (pc := 94) F dX9_readsItem_94 (by decide) (fun c26 => ?_) (fun c26 => ?_)
      · replace hf := fm_in c26 hf
        refine fm_pick [1, 0] rfl ?_
        exact wX9_readsItem_128 F E _ _ hf
      · replace hf := fm_ip c26 hf
        refine fm_aload_n (pc := 97) F dX9_readsItem_97 1 rfl ?_
        refine fm_get (v := .int (M23.1 0 7)) (pc := 98) F (ci := 9) (T := TX9) (n := 29) rfl in_X9 7 (fm_lt rfl) dX9_readsItem_98 q802 0 (fm_lt rfl) rfl rfl ?_
        refine fm_iconst (v := 0) (pc := 101) F dX9_readsItem_101 (by decide) ?_
        refine fm_aload_n (pc := 102) F dX9_readsItem_102 1 rfl ?_
        refine fm_get (v := .ref (ad 2)) (pc := 103) F (ci := 9) (T := TX9) (n := 29) rfl in_X9 9 (fm_lt rfl) dX9_readsItem_103 q804 0 (fm_lt rfl) rfl rfl ?_
        refine fm_iconst (v := 2) (pc := 106) F dX9_readsItem_106 (by decide) ?_
        refine fm_ialdK (pc := 107) F dX9_readsItem_107 2 (fm_lt rfl) rfl 2 (fm_ok (by decide)) rfl ?_
        refine fm_iconst (v := 1) (pc := 108) F dX9_readsItem_108 (by decide) ?_
        refine fm_isub (pc := 109) F dX9_readsItem_109 ?_
        obtain ⟨r27, M28, h29, hf⟩ := fm_bi_inv hf
        refine fm_callS (As := [.int (M23.1 0 7), .int 0, .int ((M23.1 2 2) - 1)]) (rest := [.ref (ad 0)]) (pc := 110) F (mX9_in F.inj h29) q887 q888 q50 q889 ⟨rfl, rfl⟩ hdX9_in.2 ⟨fm_le rfl, fm_le rfl, Nat.zero_le _, Nat.zero_le _⟩ rfl rfl (fm_le rfl) dX9_readsItem_110 ?_
        refine fm_if_eq (tgt := 128) (pc := 113) F dX9_readsItem_113 (by decide) (fun c31 => ?_) (fun c31 => ?_)
        · replace hf := fm_ip c31 hf
          refine fm_pick [1, 0] rfl ?_
          exact wX9_readsItem_128 F E _ _ hf
        · replace hf := fm_in c31 hf
          refine fm_aload_n (pc := 116) F dX9_readsItem_116 1 rfl ?_
          refine fm_get (v := .int (M28.1 0 7)) (pc := 117) F (ci := 9) (T := TX9) (n := 29) rfl in_X9 7 (fm_lt rfl) dX9_readsItem_117 q802 0 (fm_lt rfl) rfl rfl ?_
          refine fm_iload_n (pc := 120) F dX9_readsItem_120 0 rfl ?_
          refine fm_icmp_eq (tgt := 128) (pc := 121) F dX9_readsItem_121 (by decide) (fun c32 => ?_) (fun c32 => ?_)
          · replace hf := fm_ip c32 hf
            refine fm_pick [1, 0] rfl ?_
            exact wX9_readsItem_128 F E _ _ hf
          · replace hf := fm_in c32 hf
            refine fm_iconst (v := 1) (pc := 124) F dX9_readsItem_124 (by decide) ?_
            refine fm_goto (tgt := 129) (pc := 125) F dX9_readsItem_125 (by decide) ?_
            refine fm_pick [1, 0] rfl ?_
            exact wX9_readsItem_129 F E _ _ _ hf
  · replace hf := fm_ip c1 hf
    refine fm_bipush (v := 6) (pc := 6) F dX9_readsItem_6 (by decide) ?_
    refine fm_aload_n (pc := 8) F dX9_readsItem_8 0 rfl ?_
    refine fm_get (v := .ref (ad 2)) (pc := 9) F (ci := 9) (T := TX9) (n := 29) rfl in_X9 9 (fm_lt rfl) dX9_readsItem_9 q804 0 (fm_lt rfl) rfl rfl ?_
    refine fm_iconst (v := 2) (pc := 12) F dX9_readsItem_12 (by decide) ?_
    refine fm_ialdK (pc := 13) F dX9_readsItem_13 2 (fm_lt rfl) rfl 2 (fm_ok (by decide)) rfl ?_
    refine fm_iadd (pc := 14) F dX9_readsItem_14 ?_
    refine fm_topi (fun x33 ex33 => ?_)
    replace hf := fm_let_inv ex33 hf
    refine fm_istore_n (lv' := [(2, .int x33), (0, .ref (ad 0)), (1, .int l1)]) (pc := 15) F dX9_readsItem_15 rfl (fm_lt rfl) rfl ?_
    refine fm_aload_n (pc := 16) F dX9_readsItem_16 1 rfl ?_
    refine fm_get (v := .ref (ad 3)) (pc := 17) F (ci := 9) (T := TX9) (n := 29) rfl in_X9 10 (fm_lt rfl) dX9_readsItem_17 q805 0 (fm_lt rfl) rfl rfl ?_
    refine fm_iload_n (pc := 20) F dX9_readsItem_20 0 rfl ?_
    refine fm_aload_n (pc := 21) F dX9_readsItem_21 1 rfl ?_
    refine fm_iconst (v := 1) (pc := 22) F dX9_readsItem_22 (by decide) ?_
    refine fm_bipush (v := 99) (pc := 23) F dX9_readsItem_23 (by decide) ?_
    obtain ⟨r34, M35, h36, hf⟩ := fm_bi_inv hf
    refine fm_callV (As := [.int 1, .int 99]) (rest := [.int x33, .ref (ad 3)]) (pc := 25) F (ci := 9) 0 (fm_lt rfl) rfl rfl (mX9_number F.inj h36) q918 q920 qs23 q50 q921 ⟨rfl, rfl⟩ hdX9_number ⟨fm_le rfl, fm_le rfl, Nat.zero_le _, Nat.zero_le _⟩ rfl rfl (fm_le rfl) dX9_readsItem_25 ?_
    obtain ⟨b38, hf⟩ := fm_b_inv hf
    refine fm_iast (pc := 28) F dX9_readsItem_28 3 (fm_lt rfl) (fun _ => rfl) b38 ?_
    refine fm_nameM (fun M39 eM39 => ?_)
    replace hf := fm_let_inv eM39 hf
    refine fm_aload_n (pc := 29) F dX9_readsItem_29 1 rfl ?_
    refine fm_get (v := .ref (ad 4)) (pc := 30) F (ci := 9) (T := TX9) (n := 29) rfl in_X9 11 (fm_lt rfl) dX9_readsItem_30 q806 0 (fm_lt rfl) rfl rfl ?_
    refine fm_iload_n (pc := 33) F dX9_readsItem_33 0 rfl ?_
    refine fm_aload_n (pc := 34) F dX9_readsItem_34 1 rfl ?_
    refine fm_iconst (v := 1) (pc := 35) F dX9_readsItem_35 (by decide) ?_
    refine fm_bipush (v := 99) (pc := 36) F dX9_readsItem_36 (by decide) ?_
    obtain ⟨r40, M41, h42, hf⟩ := fm_bi_inv hf
    refine fm_callV (As := [.int 1, .int 99]) (rest := [.int x33, .ref (ad 4)]) (pc := 38) F (ci := 9) 0 (fm_lt rfl) rfl rfl (mX9_number F.inj h42) q918 q920 qs23 q50 q921 ⟨rfl, rfl⟩ hdX9_number ⟨fm_le rfl, fm_le rfl, Nat.zero_le _, Nat.zero_le _⟩ rfl rfl (fm_le rfl) dX9_readsItem_38 ?_
    obtain ⟨b44, hf⟩ := fm_b_inv hf
    refine fm_iast (pc := 41) F dX9_readsItem_41 4 (fm_lt rfl) (fun _ => rfl) b44 ?_
    refine fm_nameM (fun M45 eM45 => ?_)
    replace hf := fm_let_inv eM45 hf
    refine fm_aload_n (pc := 42) F dX9_readsItem_42 1 rfl ?_
    refine fm_get (v := .ref (ad 5)) (pc := 43) F (ci := 9) (T := TX9) (n := 29) rfl in_X9 12 (fm_lt rfl) dX9_readsItem_43 q807 0 (fm_lt rfl) rfl rfl ?_
    refine fm_iload_n (pc := 46) F dX9_readsItem_46 0 rfl ?_
    refine fm_aload_n (pc := 47) F dX9_readsItem_47 1 rfl ?_
    refine fm_iconst (v := 0) (pc := 48) F dX9_readsItem_48 (by decide) ?_
    refine fm_bipush (v := 6) (pc := 49) F dX9_readsItem_49 (by decide) ?_
    obtain ⟨r46, M47, h48, hf⟩ := fm_bi_inv hf
    refine fm_callV (As := [.int 0, .int 6]) (rest := [.int x33, .ref (ad 5)]) (pc := 51) F (ci := 9) 0 (fm_lt rfl) rfl rfl (mX9_number F.inj h48) q918 q920 qs23 q50 q921 ⟨rfl, rfl⟩ hdX9_number ⟨fm_le rfl, fm_le rfl, Nat.zero_le _, Nat.zero_le _⟩ rfl rfl (fm_le rfl) dX9_readsItem_51 ?_
    obtain ⟨b50, hf⟩ := fm_b_inv hf
    refine fm_iast (pc := 54) F dX9_readsItem_54 5 (fm_lt rfl) (fun _ => rfl) b50 ?_
    refine fm_nameM (fun M51 eM51 => ?_)
    replace hf := fm_let_inv eM51 hf
    refine fm_aload_n (pc := 55) F dX9_readsItem_55 1 rfl ?_
    refine fm_get (v := .ref (ad 2)) (pc := 56) F (ci := 9) (T := TX9) (n := 29) rfl in_X9 9 (fm_lt rfl) dX9_readsItem_56 q804 0 (fm_lt rfl) rfl rfl ?_
    refine fm_iconst (v := 2) (pc := 59) F dX9_readsItem_59 (by decide) ?_
    refine fm_dup2_11 (pc := 60) F dX9_readsItem_60 rfl rfl ?_
    refine fm_ialdK (pc := 61) F dX9_readsItem_61 2 (fm_lt rfl) rfl 2 (fm_ok (by decide)) rfl ?_
    refine fm_iconst (v := 1) (pc := 62) F dX9_readsItem_62 (by decide) ?_
    refine fm_iadd (pc := 63) F dX9_readsItem_63 ?_
    refine fm_iastK (pc := 64) F dX9_readsItem_64 2 (fm_lt rfl) (fun _ => rfl) 2 (fm_ok (by decide)) rfl ?_
    refine fm_nameM (fun M52 eM52 => ?_)
    replace hf := fm_let_inv eM52 hf
    refine fm_goto (tgt := 269) (pc := 65) F dX9_readsItem_65 (by decide) ?_
    exact fm_vret (pc := 269) F E hf dX9_readsItem_269
abbrev rmX9_settles : Room := { frames := 2, cells := 0, slots := 0, locals := 80 }
def fX9_settles_272 (n : Nat) (k260 : fm_M → Int32 → Option (fm_M)) : Nat → fm_M → Int32 → Int32 → Option (fm_M)
  | 0, _, _, _ => none
  | k + 1, M, l1, l2 =>
    if 36 ≤ l2 then
      k260 M (l1 + 1)
    else
      fm_b (((l2 / 6) * 6) + l1) 36 <|
      fm_let (l2 - l2 / 6 * 6) fun x3 =>
      fm_b ((6 * l1) + x3) 36 <|
      fm_let ((M.1 10 (((l2 / 6) * 6) + l1).toNatClampNeg) + (M.1 10 ((6 * l1) + x3).toNatClampNeg)) fun x5 =>
      fm_b l2 36 <|
      if (M.1 10 l2.toNatClampNeg) ≤ x5 then
        fm_b l2 36 <|
        fm_b l2 36 <|
        fm_let (fm_wr M 10 l2.toNatClampNeg (M.1 10 l2.toNatClampNeg)) fun M10 =>
        fX9_settles_272 n k260 k M10 l1 (l2 + 1)
      else
        fm_b l2 36 <|
        fm_let (fm_wr M 10 l2.toNatClampNeg x5) fun M12 =>
        fX9_settles_272 n k260 k M12 l1 (l2 + 1)
def fX9_settles_260 (n : Nat) : Nat → fm_M → Int32 → Option (fm_M)
  | 0, _, _ => none
  | k + 1, M, l1 =>
    if (M.1 2 0) ≤ l1 then
      fm_let (fm_wr M 0 3 0) fun M2 =>
      fm_let (fm_wr M2 0 26 0) fun M3 =>
      fm_let (fm_wr M3 0 23 0) fun M4 =>
      fm_let (fm_wr M4 14 0 0) fun M5 =>
      fm_let (fm_wr M5 14 1 0) fun M6 =>
      some M6
    else
      fX9_settles_272 n (fX9_settles_260 n k) n M l1 0
def fX9_settles_190 (n : Nat) : Nat → fm_M → Int32 → Option (fm_M)
  | 0, _, _ => none
  | k + 1, M, l1 =>
    if 36 ≤ l1 then
      fX9_settles_260 n n M 0
    else
      fm_b (36 + l1) 72 <|
      fm_b l1 72 <|
      fm_let (fm_wr M 6 l1.toNatClampNeg (M.1 6 (36 + l1).toNatClampNeg)) fun M4 =>
      fm_let (l1 - l1 / 6 * 6) fun x5 =>
      if (l1 / 6) = x5 then
        fm_b l1 36 <|
        fm_let (fm_wr M4 10 l1.toNatClampNeg 0) fun M15 =>
        fX9_settles_190 n k M15 (l1 + 1)
      else
        fm_b l1 72 <|
        if (M4.1 6 l1.toNatClampNeg) ≤ 0 then
          fm_b l1 36 <|
          fm_let (fm_wr M4 10 l1.toNatClampNeg 1000000) fun M10 =>
          fX9_settles_190 n k M10 (l1 + 1)
        else
          fm_b l1 72 <|
          fm_b l1 36 <|
          fm_let (fm_wr M4 10 l1.toNatClampNeg (M4.1 6 l1.toNatClampNeg)) fun M13 =>
          fX9_settles_190 n k M13 (l1 + 1)
def fX9_settles_47 (n : Nat) : Nat → fm_M → Int32 → Option (fm_M)
  | 0, _, _ => none
  | k + 1, M, l1 =>
    if 6 ≤ l1 then
      fX9_settles_190 n n M 0
    else
      fm_b (6 + l1) 12 <|
      fm_b l1 12 <|
      fm_let (fm_wr M 4 l1.toNatClampNeg (M.1 4 (6 + l1).toNatClampNeg)) fun M4 =>
      fm_b (6 + l1) 12 <|
      fm_b l1 12 <|
      fm_let (fm_wr M4 5 l1.toNatClampNeg (M4.1 5 (6 + l1).toNatClampNeg)) fun M7 =>
      fm_b (6 + l1) 12 <|
      fm_b l1 12 <|
      fm_let (fm_wr M7 7 l1.toNatClampNeg (M7.1 7 (6 + l1).toNatClampNeg)) fun M10 =>
      fm_b (6 + l1) 12 <|
      fm_b l1 12 <|
      fm_let (fm_wr M10 8 l1.toNatClampNeg (M10.1 8 (6 + l1).toNatClampNeg)) fun M13 =>
      fm_b (6 + l1) 12 <|
      fm_b l1 12 <|
      fm_let (fm_wr M13 9 l1.toNatClampNeg (M13.1 9 (6 + l1).toNatClampNeg)) fun M16 =>
      fm_b (2 + l1) 56 <|
      fm_let (fm_wr M16 11 (2 + l1).toNatClampNeg l1) fun M18 =>
      fm_b (6 + l1) 12 <|
      fm_b l1 12 <|
      if (M18.1 4 l1.toNatClampNeg) ≤ (M18.1 3 (6 + l1).toNatClampNeg) then
        fm_b (6 + l1) 12 <|
        fm_b (8 + l1) 56 <|
        fm_let (fm_wr M18 11 (8 + l1).toNatClampNeg (M18.1 3 (6 + l1).toNatClampNeg)) fun M24 =>
        fX9_settles_47 n k M24 (l1 + 1)
      else
        fm_b l1 12 <|
        fm_b (8 + l1) 56 <|
        fm_let (fm_wr M18 11 (8 + l1).toNatClampNeg (M18.1 4 l1.toNatClampNeg)) fun M27 =>
        fX9_settles_47 n k M27 (l1 + 1)
def fX9_settles_26 (n : Nat) : Nat → fm_M → Int32 → Option (fm_M)
  | 0, _, _ => none
  | k + 1, M, l1 =>
    if 56 ≤ l1 then
      fX9_settles_47 n n M 0
    else
      fm_b l1 56 <|
      fm_let (fm_wr M 11 l1.toNatClampNeg 0) fun M3 =>
      fX9_settles_26 n k M3 (l1 + 1)
def fX9_settles (n : Nat) (M : fm_M) : Option (fm_M) :=
  fm_let (fm_wr M 2 0 (M.1 2 2)) fun M1 =>
  fm_let (fm_wr M1 2 1 (M1.1 2 3)) fun M2 =>
  fX9_settles_26 n n M2 0
theorem hdX9_settles : yX9_settles.cls = RX9 ∧ yX9_settles.cls ≠ "java/lang/invoke/MethodHandle" ∧ yX9_settles.cls ≠ "java/lang/invoke/VarHandle" ∧ (parseMethodDescriptor yX9_settles.desc).map (fun d => d.parameters.length) = some 0 := by decide +kernel
set_option maxHeartbeats 4000000 in
theorem wX9_settles_272 {X : fm_X} {D : va_G} {dA : Nat → ClassId} {ad : Nat → Nat} {n : Nat}  (F : fm_F X (YM D dA ad) cX9_settles 4 RX9 rmX9_settles) {M' : fm_M} (E : fm_E X (YM D dA ad) none M' none) {k260 : fm_M → Int32 → Option (fm_M)} (hk260 : ∀ (M : fm_M) (l1 : Int32), k260 M l1 = some M' → fm_G X (YM D dA ad) (0, 0) 4 M 260 [(0, .ref (ad 0)), (1, .int l1)] []) : ∀ (k : Nat) (M : fm_M) (l1 : Int32) (l2 : Int32), fX9_settles_272 n k260 k M l1 l2 = some M' → fm_G X (YM D dA ad) (0, 0) 4 M 272 [(0, .ref (ad 0)), (1, .int l1), (2, .int l2)] [] := by
  intro k
  induction k with
  | zero =>
    intro M l1 l2 hf
    rw [fX9_settles_272] at hf
    cases hf
  | succ k ih =>
    intro M l1 l2 hf
    rw [fX9_settles_272] at hf
    refine fm_iload_n (pc := 272) F dX9_settles_272 2 rfl ?_
    refine fm_bipush (v := 36) (pc := 273) F dX9_settles_273 (by decide) ?_
    refine fm_icmp_ge (tgt := 340) (pc := 275) F dX9_settles_275 (by decide) (fun c1 => ?_) (fun c1 => ?_)
    · replace hf := fm_ip c1 hf
      refine fm_iinc (v := (l1 + 1)) (lv' := [(1, .int (l1 + 1)), (0, .ref (ad 0)), (2, .int l2)]) (pc := 340) F dX9_settles_340 1 rfl rfl (fm_lt rfl) rfl ?_
      refine fm_goto (tgt := 260) (pc := 343) F dX9_settles_343 (by decide) ?_
      refine fm_pick [1, 0] rfl ?_
      exact hk260 _ _ hf
    · replace hf := fm_in c1 hf
      refine fm_aload_n (pc := 278) F dX9_settles_278 0 rfl ?_
      refine fm_get (v := .ref (ad 10)) (pc := 279) F (ci := 9) (T := TX9) (n := 29) rfl in_X9 17 (fm_lt rfl) dX9_settles_279 q812 0 (fm_lt rfl) rfl rfl ?_
      refine fm_iload_n (pc := 282) F dX9_settles_282 2 rfl ?_
      refine fm_bipush (v := 6) (pc := 283) F dX9_settles_283 (by decide) ?_
      refine fm_idiv (pc := 285) F dX9_settles_285 (by decide) ?_
      refine fm_bipush (v := 6) (pc := 286) F dX9_settles_286 (by decide) ?_
      refine fm_imul (pc := 288) F dX9_settles_288 ?_
      refine fm_iload_n (pc := 289) F dX9_settles_289 1 rfl ?_
      refine fm_iadd (pc := 290) F dX9_settles_290 ?_
      obtain ⟨b2, hf⟩ := fm_b_inv hf
      refine fm_iald (pc := 291) F dX9_settles_291 10 (fm_lt rfl) rfl b2 ?_
      refine fm_aload_n (pc := 292) F dX9_settles_292 0 rfl ?_
      refine fm_get (v := .ref (ad 10)) (pc := 293) F (ci := 9) (T := TX9) (n := 29) rfl in_X9 17 (fm_lt rfl) dX9_settles_293 q812 0 (fm_lt rfl) rfl rfl ?_
      refine fm_bipush (v := 6) (pc := 296) F dX9_settles_296 (by decide) ?_
      refine fm_iload_n (pc := 298) F dX9_settles_298 1 rfl ?_
      refine fm_imul (pc := 299) F dX9_settles_299 ?_
      refine fm_iload_n (pc := 300) F dX9_settles_300 2 rfl ?_
      refine fm_bipush (v := 6) (pc := 301) F dX9_settles_301 (by decide) ?_
      refine fm_irem (pc := 303) F dX9_settles_303 (by decide) ?_
      refine fm_topi (fun x3 ex3 => ?_)
      replace hf := fm_let_inv ex3 hf
      refine fm_iadd (pc := 304) F dX9_settles_304 ?_
      obtain ⟨b4, hf⟩ := fm_b_inv hf
      refine fm_iald (pc := 305) F dX9_settles_305 10 (fm_lt rfl) rfl b4 ?_
      refine fm_iadd (pc := 306) F dX9_settles_306 ?_
      refine fm_topi (fun x5 ex5 => ?_)
      replace hf := fm_let_inv ex5 hf
      refine fm_istore_n (lv' := [(3, .int x5), (0, .ref (ad 0)), (1, .int l1), (2, .int l2)]) (pc := 307) F dX9_settles_307 rfl (fm_lt rfl) rfl ?_
      refine fm_aload_n (pc := 308) F dX9_settles_308 1 rfl ?_
      refine fm_get (v := .ref (ad 10)) (pc := 309) F (ci := 9) (T := TX9) (n := 29) rfl in_X9 17 (fm_lt rfl) dX9_settles_309 q812 0 (fm_lt rfl) rfl rfl ?_
      refine fm_iload_n (pc := 312) F dX9_settles_312 3 rfl ?_
      refine fm_iload_n (pc := 313) F dX9_settles_313 0 rfl ?_
      refine fm_aload_n (pc := 314) F dX9_settles_314 1 rfl ?_
      refine fm_get (v := .ref (ad 10)) (pc := 315) F (ci := 9) (T := TX9) (n := 29) rfl in_X9 17 (fm_lt rfl) dX9_settles_315 q812 0 (fm_lt rfl) rfl rfl ?_
      refine fm_iload_n (pc := 318) F dX9_settles_318 3 rfl ?_
      obtain ⟨b6, hf⟩ := fm_b_inv hf
      refine fm_iald (pc := 319) F dX9_settles_319 10 (fm_lt rfl) rfl b6 ?_
      refine fm_icmp_ge (tgt := 327) (pc := 320) F dX9_settles_320 (by decide) (fun c7 => ?_) (fun c7 => ?_)
      · replace hf := fm_ip c7 hf
        refine fm_aload_n (pc := 327) F dX9_settles_327 1 rfl ?_
        refine fm_get (v := .ref (ad 10)) (pc := 328) F (ci := 9) (T := TX9) (n := 29) rfl in_X9 17 (fm_lt rfl) dX9_settles_328 q812 0 (fm_lt rfl) rfl rfl ?_
        refine fm_iload_n (pc := 331) F dX9_settles_331 3 rfl ?_
        obtain ⟨b8, hf⟩ := fm_b_inv hf
        refine fm_iald (pc := 332) F dX9_settles_332 10 (fm_lt rfl) rfl b8 ?_
        obtain ⟨b9, hf⟩ := fm_b_inv hf
        refine fm_iast (pc := 333) F dX9_settles_333 10 (fm_lt rfl) (fun _ => rfl) b9 ?_
        refine fm_nameM (fun M10 eM10 => ?_)
        replace hf := fm_let_inv eM10 hf
        refine fm_iinc (v := (l2 + 1)) (lv' := [(2, .int (l2 + 1)), (3, .int x5), (0, .ref (ad 0)), (1, .int l1)]) (pc := 334) F dX9_settles_334 3 rfl rfl (fm_lt rfl) rfl ?_
        refine fm_goto (tgt := 272) (pc := 337) F dX9_settles_337 (by decide) ?_
        refine fm_pick [2, 3, 0] rfl ?_
        exact ih _ _ _ hf
      · replace hf := fm_in c7 hf
        refine fm_iload_n (pc := 323) F dX9_settles_323 0 rfl ?_
        refine fm_goto (tgt := 333) (pc := 324) F dX9_settles_324 (by decide) ?_
        obtain ⟨b11, hf⟩ := fm_b_inv hf
        refine fm_iast (pc := 333) F dX9_settles_333 10 (fm_lt rfl) (fun _ => rfl) b11 ?_
        refine fm_nameM (fun M12 eM12 => ?_)
        replace hf := fm_let_inv eM12 hf
        refine fm_iinc (v := (l2 + 1)) (lv' := [(2, .int (l2 + 1)), (3, .int x5), (0, .ref (ad 0)), (1, .int l1)]) (pc := 334) F dX9_settles_334 3 rfl rfl (fm_lt rfl) rfl ?_
        refine fm_goto (tgt := 272) (pc := 337) F dX9_settles_337 (by decide) ?_
        refine fm_pick [2, 3, 0] rfl ?_
        exact ih _ _ _ hf
set_option maxHeartbeats 4000000 in
theorem wX9_settles_260 {X : fm_X} {D : va_G} {dA : Nat → ClassId} {ad : Nat → Nat} {n : Nat}  (F : fm_F X (YM D dA ad) cX9_settles 4 RX9 rmX9_settles) {M' : fm_M} (E : fm_E X (YM D dA ad) none M' none) : ∀ (k : Nat) (M : fm_M) (l1 : Int32), fX9_settles_260 n k M l1 = some M' → fm_G X (YM D dA ad) (0, 0) 4 M 260 [(0, .ref (ad 0)), (1, .int l1)] [] := by
  intro k
  induction k with
  | zero =>
    intro M l1 hf
    rw [fX9_settles_260] at hf
    cases hf
  | succ k ih =>
    intro M l1 hf
    rw [fX9_settles_260] at hf
    refine fm_iload_n (pc := 260) F dX9_settles_260 1 rfl ?_
    refine fm_aload_n (pc := 261) F dX9_settles_261 0 rfl ?_
    refine fm_get (v := .ref (ad 2)) (pc := 262) F (ci := 9) (T := TX9) (n := 29) rfl in_X9 9 (fm_lt rfl) dX9_settles_262 q804 0 (fm_lt rfl) rfl rfl ?_
    refine fm_iconst (v := 0) (pc := 265) F dX9_settles_265 (by decide) ?_
    refine fm_ialdK (pc := 266) F dX9_settles_266 2 (fm_lt rfl) rfl 0 (fm_ok (by decide)) rfl ?_
    refine fm_icmp_ge (tgt := 346) (pc := 267) F dX9_settles_267 (by decide) (fun c1 => ?_) (fun c1 => ?_)
    · replace hf := fm_ip c1 hf
      refine fm_aload_n (pc := 346) F dX9_settles_346 0 rfl ?_
      refine fm_iconst (v := 0) (pc := 347) F dX9_settles_347 (by decide) ?_
      refine fm_putI (v := 0) (pc := 348) F clX9 3 (fm_lt rfl) dX9_settles_348 q798 rfl rfl 0 (fm_lt rfl) rfl (fm_lt rfl) rfl ?_
      refine fm_nameM (fun M2 eM2 => ?_)
      replace hf := fm_let_inv eM2 hf
      refine fm_aload_n (pc := 351) F dX9_settles_351 0 rfl ?_
      refine fm_iconst (v := 0) (pc := 352) F dX9_settles_352 (by decide) ?_
      refine fm_putI (v := 0) (pc := 353) F clX9 26 (fm_lt rfl) dX9_settles_353 q821 rfl rfl 0 (fm_lt rfl) rfl (fm_lt rfl) rfl ?_
      refine fm_nameM (fun M3 eM3 => ?_)
      replace hf := fm_let_inv eM3 hf
      refine fm_aload_n (pc := 356) F dX9_settles_356 0 rfl ?_
      refine fm_iconst (v := 0) (pc := 357) F dX9_settles_357 (by decide) ?_
      refine fm_putI (v := 0) (pc := 358) F clX9 23 (fm_lt rfl) dX9_settles_358 q818 rfl rfl 0 (fm_lt rfl) rfl (fm_lt rfl) rfl ?_
      refine fm_nameM (fun M4 eM4 => ?_)
      replace hf := fm_let_inv eM4 hf
      refine fm_aload_n (pc := 361) F dX9_settles_361 0 rfl ?_
      refine fm_get (v := .ref (ad 14)) (pc := 362) F (ci := 9) (T := TX9) (n := 29) rfl in_X9 21 (fm_lt rfl) dX9_settles_362 q816 0 (fm_lt rfl) rfl rfl ?_
      refine fm_iconst (v := 0) (pc := 365) F dX9_settles_365 (by decide) ?_
      refine fm_iconst (v := 0) (pc := 366) F dX9_settles_366 (by decide) ?_
      refine fm_zastK (pc := 367) F dX9_settles_367 14 (fm_lt rfl) (fun _ => rfl) 0 (fm_ok (by decide)) rfl fm_nar0 ?_
      refine fm_nameM (fun M5 eM5 => ?_)
      replace hf := fm_let_inv eM5 hf
      refine fm_aload_n (pc := 368) F dX9_settles_368 0 rfl ?_
      refine fm_get (v := .ref (ad 14)) (pc := 369) F (ci := 9) (T := TX9) (n := 29) rfl in_X9 21 (fm_lt rfl) dX9_settles_369 q816 0 (fm_lt rfl) rfl rfl ?_
      refine fm_iconst (v := 1) (pc := 372) F dX9_settles_372 (by decide) ?_
      refine fm_iconst (v := 0) (pc := 373) F dX9_settles_373 (by decide) ?_
      refine fm_zastK (pc := 374) F dX9_settles_374 14 (fm_lt rfl) (fun _ => rfl) 1 (fm_ok (by decide)) rfl fm_nar0 ?_
      refine fm_nameM (fun M6 eM6 => ?_)
      replace hf := fm_let_inv eM6 hf
      exact fm_vret (pc := 375) F E hf dX9_settles_375
    · replace hf := fm_in c1 hf
      refine fm_iconst (v := 0) (pc := 270) F dX9_settles_270 (by decide) ?_
      refine fm_istore_n (lv' := [(2, .int 0), (0, .ref (ad 0)), (1, .int l1)]) (pc := 271) F dX9_settles_271 rfl (fm_lt rfl) rfl ?_
      refine fm_pick [1, 2, 0] rfl ?_
      exact wX9_settles_272 F E ih n _ _ _ hf
set_option maxHeartbeats 4000000 in
theorem wX9_settles_190 {X : fm_X} {D : va_G} {dA : Nat → ClassId} {ad : Nat → Nat} {n : Nat}  (F : fm_F X (YM D dA ad) cX9_settles 4 RX9 rmX9_settles) {M' : fm_M} (E : fm_E X (YM D dA ad) none M' none) : ∀ (k : Nat) (M : fm_M) (l1 : Int32), fX9_settles_190 n k M l1 = some M' → fm_G X (YM D dA ad) (0, 0) 4 M 190 [(0, .ref (ad 0)), (1, .int l1)] [] := by
  intro k
  induction k with
  | zero =>
    intro M l1 hf
    rw [fX9_settles_190] at hf
    cases hf
  | succ k ih =>
    intro M l1 hf
    rw [fX9_settles_190] at hf
    refine fm_iload_n (pc := 190) F dX9_settles_190 1 rfl ?_
    refine fm_bipush (v := 36) (pc := 191) F dX9_settles_191 (by decide) ?_
    refine fm_icmp_ge (tgt := 258) (pc := 193) F dX9_settles_193 (by decide) (fun c1 => ?_) (fun c1 => ?_)
    · replace hf := fm_ip c1 hf
      refine fm_iconst (v := 0) (pc := 258) F dX9_settles_258 (by decide) ?_
      refine fm_istore_n (lv' := [(1, .int 0), (0, .ref (ad 0))]) (pc := 259) F dX9_settles_259 rfl (fm_lt rfl) rfl ?_
      refine fm_pick [1, 0] rfl ?_
      exact wX9_settles_260 F E n _ _ hf
    · replace hf := fm_in c1 hf
      refine fm_aload_n (pc := 196) F dX9_settles_196 0 rfl ?_
      refine fm_get (v := .ref (ad 6)) (pc := 197) F (ci := 9) (T := TX9) (n := 29) rfl in_X9 13 (fm_lt rfl) dX9_settles_197 q808 0 (fm_lt rfl) rfl rfl ?_
      refine fm_iload_n (pc := 200) F dX9_settles_200 1 rfl ?_
      refine fm_aload_n (pc := 201) F dX9_settles_201 0 rfl ?_
      refine fm_get (v := .ref (ad 6)) (pc := 202) F (ci := 9) (T := TX9) (n := 29) rfl in_X9 13 (fm_lt rfl) dX9_settles_202 q808 0 (fm_lt rfl) rfl rfl ?_
      refine fm_bipush (v := 36) (pc := 205) F dX9_settles_205 (by decide) ?_
      refine fm_iload_n (pc := 207) F dX9_settles_207 1 rfl ?_
      refine fm_iadd (pc := 208) F dX9_settles_208 ?_
      obtain ⟨b2, hf⟩ := fm_b_inv hf
      refine fm_iald (pc := 209) F dX9_settles_209 6 (fm_lt rfl) rfl b2 ?_
      obtain ⟨b3, hf⟩ := fm_b_inv hf
      refine fm_iast (pc := 210) F dX9_settles_210 6 (fm_lt rfl) (fun _ => rfl) b3 ?_
      refine fm_nameM (fun M4 eM4 => ?_)
      replace hf := fm_let_inv eM4 hf
      refine fm_aload_n (pc := 211) F dX9_settles_211 0 rfl ?_
      refine fm_get (v := .ref (ad 10)) (pc := 212) F (ci := 9) (T := TX9) (n := 29) rfl in_X9 17 (fm_lt rfl) dX9_settles_212 q812 0 (fm_lt rfl) rfl rfl ?_
      refine fm_iload_n (pc := 215) F dX9_settles_215 1 rfl ?_
      refine fm_iload_n (pc := 216) F dX9_settles_216 1 rfl ?_
      refine fm_bipush (v := 6) (pc := 217) F dX9_settles_217 (by decide) ?_
      refine fm_idiv (pc := 219) F dX9_settles_219 (by decide) ?_
      refine fm_iload_n (pc := 220) F dX9_settles_220 1 rfl ?_
      refine fm_bipush (v := 6) (pc := 221) F dX9_settles_221 (by decide) ?_
      refine fm_irem (pc := 223) F dX9_settles_223 (by decide) ?_
      refine fm_topi (fun x5 ex5 => ?_)
      replace hf := fm_let_inv ex5 hf
      refine fm_icmp_ne (tgt := 231) (pc := 224) F dX9_settles_224 (by decide) (fun c6 => ?_) (fun c6 => ?_)
      · replace hf := fm_in c6 hf
        refine fm_aload_n (pc := 231) F dX9_settles_231 0 rfl ?_
        refine fm_get (v := .ref (ad 6)) (pc := 232) F (ci := 9) (T := TX9) (n := 29) rfl in_X9 13 (fm_lt rfl) dX9_settles_232 q808 0 (fm_lt rfl) rfl rfl ?_
        refine fm_iload_n (pc := 235) F dX9_settles_235 1 rfl ?_
        obtain ⟨b7, hf⟩ := fm_b_inv hf
        refine fm_iald (pc := 236) F dX9_settles_236 6 (fm_lt rfl) rfl b7 ?_
        refine fm_if_le (tgt := 249) (pc := 237) F dX9_settles_237 (by decide) (fun c8 => ?_) (fun c8 => ?_)
        · replace hf := fm_ip c8 hf
          refine fm_ldc (pc := 249) F dX9_settles_249 q926 ?_
          obtain ⟨b9, hf⟩ := fm_b_inv hf
          refine fm_iast (pc := 251) F dX9_settles_251 10 (fm_lt rfl) (fun _ => rfl) b9 ?_
          refine fm_nameM (fun M10 eM10 => ?_)
          replace hf := fm_let_inv eM10 hf
          refine fm_iinc (v := (l1 + 1)) (lv' := [(1, .int (l1 + 1)), (0, .ref (ad 0))]) (pc := 252) F dX9_settles_252 1 rfl rfl (fm_lt rfl) rfl ?_
          refine fm_goto (tgt := 190) (pc := 255) F dX9_settles_255 (by decide) ?_
          refine fm_pick [1, 0] rfl ?_
          exact ih _ _ hf
        · replace hf := fm_in c8 hf
          refine fm_aload_n (pc := 240) F dX9_settles_240 0 rfl ?_
          refine fm_get (v := .ref (ad 6)) (pc := 241) F (ci := 9) (T := TX9) (n := 29) rfl in_X9 13 (fm_lt rfl) dX9_settles_241 q808 0 (fm_lt rfl) rfl rfl ?_
          refine fm_iload_n (pc := 244) F dX9_settles_244 1 rfl ?_
          obtain ⟨b11, hf⟩ := fm_b_inv hf
          refine fm_iald (pc := 245) F dX9_settles_245 6 (fm_lt rfl) rfl b11 ?_
          refine fm_goto (tgt := 251) (pc := 246) F dX9_settles_246 (by decide) ?_
          obtain ⟨b12, hf⟩ := fm_b_inv hf
          refine fm_iast (pc := 251) F dX9_settles_251 10 (fm_lt rfl) (fun _ => rfl) b12 ?_
          refine fm_nameM (fun M13 eM13 => ?_)
          replace hf := fm_let_inv eM13 hf
          refine fm_iinc (v := (l1 + 1)) (lv' := [(1, .int (l1 + 1)), (0, .ref (ad 0))]) (pc := 252) F dX9_settles_252 1 rfl rfl (fm_lt rfl) rfl ?_
          refine fm_goto (tgt := 190) (pc := 255) F dX9_settles_255 (by decide) ?_
          refine fm_pick [1, 0] rfl ?_
          exact ih _ _ hf
      · replace hf := fm_ip c6 hf
        refine fm_iconst (v := 0) (pc := 227) F dX9_settles_227 (by decide) ?_
        refine fm_goto (tgt := 251) (pc := 228) F dX9_settles_228 (by decide) ?_
        obtain ⟨b14, hf⟩ := fm_b_inv hf
        refine fm_iast (pc := 251) F dX9_settles_251 10 (fm_lt rfl) (fun _ => rfl) b14 ?_
        refine fm_nameM (fun M15 eM15 => ?_)
        replace hf := fm_let_inv eM15 hf
        refine fm_iinc (v := (l1 + 1)) (lv' := [(1, .int (l1 + 1)), (0, .ref (ad 0))]) (pc := 252) F dX9_settles_252 1 rfl rfl (fm_lt rfl) rfl ?_
        refine fm_goto (tgt := 190) (pc := 255) F dX9_settles_255 (by decide) ?_
        refine fm_pick [1, 0] rfl ?_
        exact ih _ _ hf
set_option maxHeartbeats 4000000 in
theorem wX9_settles_47 {X : fm_X} {D : va_G} {dA : Nat → ClassId} {ad : Nat → Nat} {n : Nat}  (F : fm_F X (YM D dA ad) cX9_settles 4 RX9 rmX9_settles) {M' : fm_M} (E : fm_E X (YM D dA ad) none M' none) : ∀ (k : Nat) (M : fm_M) (l1 : Int32), fX9_settles_47 n k M l1 = some M' → fm_G X (YM D dA ad) (0, 0) 4 M 47 [(0, .ref (ad 0)), (1, .int l1)] [] := by
  intro k
  induction k with
  | zero =>
    intro M l1 hf
    rw [fX9_settles_47] at hf
    cases hf
  | succ k ih =>
    intro M l1 hf
    rw [fX9_settles_47] at hf
    refine fm_iload_n (pc := 47) F dX9_settles_47 1 rfl ?_
    refine fm_bipush (v := 6) (pc := 48) F dX9_settles_48 (by decide) ?_
    refine fm_icmp_ge (tgt := 188) (pc := 50) F dX9_settles_50 (by decide) (fun c1 => ?_) (fun c1 => ?_)
    · replace hf := fm_ip c1 hf
      refine fm_iconst (v := 0) (pc := 188) F dX9_settles_188 (by decide) ?_
      refine fm_istore_n (lv' := [(1, .int 0), (0, .ref (ad 0))]) (pc := 189) F dX9_settles_189 rfl (fm_lt rfl) rfl ?_
      refine fm_pick [1, 0] rfl ?_
      exact wX9_settles_190 F E n _ _ hf
    · replace hf := fm_in c1 hf
      refine fm_aload_n (pc := 53) F dX9_settles_53 0 rfl ?_
      refine fm_get (v := .ref (ad 4)) (pc := 54) F (ci := 9) (T := TX9) (n := 29) rfl in_X9 11 (fm_lt rfl) dX9_settles_54 q806 0 (fm_lt rfl) rfl rfl ?_
      refine fm_iload_n (pc := 57) F dX9_settles_57 1 rfl ?_
      refine fm_aload_n (pc := 58) F dX9_settles_58 0 rfl ?_
      refine fm_get (v := .ref (ad 4)) (pc := 59) F (ci := 9) (T := TX9) (n := 29) rfl in_X9 11 (fm_lt rfl) dX9_settles_59 q806 0 (fm_lt rfl) rfl rfl ?_
      refine fm_bipush (v := 6) (pc := 62) F dX9_settles_62 (by decide) ?_
      refine fm_iload_n (pc := 64) F dX9_settles_64 1 rfl ?_
      refine fm_iadd (pc := 65) F dX9_settles_65 ?_
      obtain ⟨b2, hf⟩ := fm_b_inv hf
      refine fm_iald (pc := 66) F dX9_settles_66 4 (fm_lt rfl) rfl b2 ?_
      obtain ⟨b3, hf⟩ := fm_b_inv hf
      refine fm_iast (pc := 67) F dX9_settles_67 4 (fm_lt rfl) (fun _ => rfl) b3 ?_
      refine fm_nameM (fun M4 eM4 => ?_)
      replace hf := fm_let_inv eM4 hf
      refine fm_aload_n (pc := 68) F dX9_settles_68 0 rfl ?_
      refine fm_get (v := .ref (ad 5)) (pc := 69) F (ci := 9) (T := TX9) (n := 29) rfl in_X9 12 (fm_lt rfl) dX9_settles_69 q807 0 (fm_lt rfl) rfl rfl ?_
      refine fm_iload_n (pc := 72) F dX9_settles_72 1 rfl ?_
      refine fm_aload_n (pc := 73) F dX9_settles_73 0 rfl ?_
      refine fm_get (v := .ref (ad 5)) (pc := 74) F (ci := 9) (T := TX9) (n := 29) rfl in_X9 12 (fm_lt rfl) dX9_settles_74 q807 0 (fm_lt rfl) rfl rfl ?_
      refine fm_bipush (v := 6) (pc := 77) F dX9_settles_77 (by decide) ?_
      refine fm_iload_n (pc := 79) F dX9_settles_79 1 rfl ?_
      refine fm_iadd (pc := 80) F dX9_settles_80 ?_
      obtain ⟨b5, hf⟩ := fm_b_inv hf
      refine fm_iald (pc := 81) F dX9_settles_81 5 (fm_lt rfl) rfl b5 ?_
      obtain ⟨b6, hf⟩ := fm_b_inv hf
      refine fm_iast (pc := 82) F dX9_settles_82 5 (fm_lt rfl) (fun _ => rfl) b6 ?_
      refine fm_nameM (fun M7 eM7 => ?_)
      replace hf := fm_let_inv eM7 hf
      refine fm_aload_n (pc := 83) F dX9_settles_83 0 rfl ?_
      refine fm_get (v := .ref (ad 7)) (pc := 84) F (ci := 9) (T := TX9) (n := 29) rfl in_X9 14 (fm_lt rfl) dX9_settles_84 q809 0 (fm_lt rfl) rfl rfl ?_
      refine fm_iload_n (pc := 87) F dX9_settles_87 1 rfl ?_
      refine fm_aload_n (pc := 88) F dX9_settles_88 0 rfl ?_
      refine fm_get (v := .ref (ad 7)) (pc := 89) F (ci := 9) (T := TX9) (n := 29) rfl in_X9 14 (fm_lt rfl) dX9_settles_89 q809 0 (fm_lt rfl) rfl rfl ?_
      refine fm_bipush (v := 6) (pc := 92) F dX9_settles_92 (by decide) ?_
      refine fm_iload_n (pc := 94) F dX9_settles_94 1 rfl ?_
      refine fm_iadd (pc := 95) F dX9_settles_95 ?_
      obtain ⟨b8, hf⟩ := fm_b_inv hf
      refine fm_iald (pc := 96) F dX9_settles_96 7 (fm_lt rfl) rfl b8 ?_
      obtain ⟨b9, hf⟩ := fm_b_inv hf
      refine fm_iast (pc := 97) F dX9_settles_97 7 (fm_lt rfl) (fun _ => rfl) b9 ?_
      refine fm_nameM (fun M10 eM10 => ?_)
      replace hf := fm_let_inv eM10 hf
      refine fm_aload_n (pc := 98) F dX9_settles_98 0 rfl ?_
      refine fm_get (v := .ref (ad 8)) (pc := 99) F (ci := 9) (T := TX9) (n := 29) rfl in_X9 15 (fm_lt rfl) dX9_settles_99 q810 0 (fm_lt rfl) rfl rfl ?_
      refine fm_iload_n (pc := 102) F dX9_settles_102 1 rfl ?_
      refine fm_aload_n (pc := 103) F dX9_settles_103 0 rfl ?_
      refine fm_get (v := .ref (ad 8)) (pc := 104) F (ci := 9) (T := TX9) (n := 29) rfl in_X9 15 (fm_lt rfl) dX9_settles_104 q810 0 (fm_lt rfl) rfl rfl ?_
      refine fm_bipush (v := 6) (pc := 107) F dX9_settles_107 (by decide) ?_
      refine fm_iload_n (pc := 109) F dX9_settles_109 1 rfl ?_
      refine fm_iadd (pc := 110) F dX9_settles_110 ?_
      obtain ⟨b11, hf⟩ := fm_b_inv hf
      refine fm_iald (pc := 111) F dX9_settles_111 8 (fm_lt rfl) rfl b11 ?_
      obtain ⟨b12, hf⟩ := fm_b_inv hf
      refine fm_iast (pc := 112) F dX9_settles_112 8 (fm_lt rfl) (fun _ => rfl) b12 ?_
      refine fm_nameM (fun M13 eM13 => ?_)
      replace hf := fm_let_inv eM13 hf
      refine fm_aload_n (pc := 113) F dX9_settles_113 0 rfl ?_
      refine fm_get (v := .ref (ad 9)) (pc := 114) F (ci := 9) (T := TX9) (n := 29) rfl in_X9 16 (fm_lt rfl) dX9_settles_114 q811 0 (fm_lt rfl) rfl rfl ?_
      refine fm_iload_n (pc := 117) F dX9_settles_117 1 rfl ?_
      refine fm_aload_n (pc := 118) F dX9_settles_118 0 rfl ?_
      refine fm_get (v := .ref (ad 9)) (pc := 119) F (ci := 9) (T := TX9) (n := 29) rfl in_X9 16 (fm_lt rfl) dX9_settles_119 q811 0 (fm_lt rfl) rfl rfl ?_
      refine fm_bipush (v := 6) (pc := 122) F dX9_settles_122 (by decide) ?_
      refine fm_iload_n (pc := 124) F dX9_settles_124 1 rfl ?_
      refine fm_iadd (pc := 125) F dX9_settles_125 ?_
      obtain ⟨b14, hf⟩ := fm_b_inv hf
      refine fm_iald (pc := 126) F dX9_settles_126 9 (fm_lt rfl) rfl b14 ?_
      obtain ⟨b15, hf⟩ := fm_b_inv hf
      refine fm_iast (pc := 127) F dX9_settles_127 9 (fm_lt rfl) (fun _ => rfl) b15 ?_
      refine fm_nameM (fun M16 eM16 => ?_)
      replace hf := fm_let_inv eM16 hf
      refine fm_aload_n (pc := 128) F dX9_settles_128 0 rfl ?_
      refine fm_get (v := .ref (ad 11)) (pc := 129) F (ci := 9) (T := TX9) (n := 29) rfl in_X9 18 (fm_lt rfl) dX9_settles_129 q813 0 (fm_lt rfl) rfl rfl ?_
      refine fm_iconst (v := 2) (pc := 132) F dX9_settles_132 (by decide) ?_
      refine fm_iload_n (pc := 133) F dX9_settles_133 1 rfl ?_
      refine fm_iadd (pc := 134) F dX9_settles_134 ?_
      refine fm_iload_n (pc := 135) F dX9_settles_135 1 rfl ?_
      obtain ⟨b17, hf⟩ := fm_b_inv hf
      refine fm_iast (pc := 136) F dX9_settles_136 11 (fm_lt rfl) (fun _ => rfl) b17 ?_
      refine fm_nameM (fun M18 eM18 => ?_)
      replace hf := fm_let_inv eM18 hf
      refine fm_aload_n (pc := 137) F dX9_settles_137 0 rfl ?_
      refine fm_get (v := .ref (ad 11)) (pc := 138) F (ci := 9) (T := TX9) (n := 29) rfl in_X9 18 (fm_lt rfl) dX9_settles_138 q813 0 (fm_lt rfl) rfl rfl ?_
      refine fm_bipush (v := 8) (pc := 141) F dX9_settles_141 (by decide) ?_
      refine fm_iload_n (pc := 143) F dX9_settles_143 1 rfl ?_
      refine fm_iadd (pc := 144) F dX9_settles_144 ?_
      refine fm_aload_n (pc := 145) F dX9_settles_145 0 rfl ?_
      refine fm_get (v := .ref (ad 3)) (pc := 146) F (ci := 9) (T := TX9) (n := 29) rfl in_X9 10 (fm_lt rfl) dX9_settles_146 q805 0 (fm_lt rfl) rfl rfl ?_
      refine fm_bipush (v := 6) (pc := 149) F dX9_settles_149 (by decide) ?_
      refine fm_iload_n (pc := 151) F dX9_settles_151 1 rfl ?_
      refine fm_iadd (pc := 152) F dX9_settles_152 ?_
      obtain ⟨b19, hf⟩ := fm_b_inv hf
      refine fm_iald (pc := 153) F dX9_settles_153 3 (fm_lt rfl) rfl b19 ?_
      refine fm_aload_n (pc := 154) F dX9_settles_154 0 rfl ?_
      refine fm_get (v := .ref (ad 4)) (pc := 155) F (ci := 9) (T := TX9) (n := 29) rfl in_X9 11 (fm_lt rfl) dX9_settles_155 q806 0 (fm_lt rfl) rfl rfl ?_
      refine fm_iload_n (pc := 158) F dX9_settles_158 1 rfl ?_
      obtain ⟨b20, hf⟩ := fm_b_inv hf
      refine fm_iald (pc := 159) F dX9_settles_159 4 (fm_lt rfl) rfl b20 ?_
      refine fm_icmp_ge (tgt := 172) (pc := 160) F dX9_settles_160 (by decide) (fun c21 => ?_) (fun c21 => ?_)
      · replace hf := fm_ip c21 hf
        refine fm_aload_n (pc := 172) F dX9_settles_172 0 rfl ?_
        refine fm_get (v := .ref (ad 3)) (pc := 173) F (ci := 9) (T := TX9) (n := 29) rfl in_X9 10 (fm_lt rfl) dX9_settles_173 q805 0 (fm_lt rfl) rfl rfl ?_
        refine fm_bipush (v := 6) (pc := 176) F dX9_settles_176 (by decide) ?_
        refine fm_iload_n (pc := 178) F dX9_settles_178 1 rfl ?_
        refine fm_iadd (pc := 179) F dX9_settles_179 ?_
        obtain ⟨b22, hf⟩ := fm_b_inv hf
        refine fm_iald (pc := 180) F dX9_settles_180 3 (fm_lt rfl) rfl b22 ?_
        obtain ⟨b23, hf⟩ := fm_b_inv hf
        refine fm_iast (pc := 181) F dX9_settles_181 11 (fm_lt rfl) (fun _ => rfl) b23 ?_
        refine fm_nameM (fun M24 eM24 => ?_)
        replace hf := fm_let_inv eM24 hf
        refine fm_iinc (v := (l1 + 1)) (lv' := [(1, .int (l1 + 1)), (0, .ref (ad 0))]) (pc := 182) F dX9_settles_182 1 rfl rfl (fm_lt rfl) rfl ?_
        refine fm_goto (tgt := 47) (pc := 185) F dX9_settles_185 (by decide) ?_
        refine fm_pick [1, 0] rfl ?_
        exact ih _ _ hf
      · replace hf := fm_in c21 hf
        refine fm_aload_n (pc := 163) F dX9_settles_163 0 rfl ?_
        refine fm_get (v := .ref (ad 4)) (pc := 164) F (ci := 9) (T := TX9) (n := 29) rfl in_X9 11 (fm_lt rfl) dX9_settles_164 q806 0 (fm_lt rfl) rfl rfl ?_
        refine fm_iload_n (pc := 167) F dX9_settles_167 1 rfl ?_
        obtain ⟨b25, hf⟩ := fm_b_inv hf
        refine fm_iald (pc := 168) F dX9_settles_168 4 (fm_lt rfl) rfl b25 ?_
        refine fm_goto (tgt := 181) (pc := 169) F dX9_settles_169 (by decide) ?_
        obtain ⟨b26, hf⟩ := fm_b_inv hf
        refine fm_iast (pc := 181) F dX9_settles_181 11 (fm_lt rfl) (fun _ => rfl) b26 ?_
        refine fm_nameM (fun M27 eM27 => ?_)
        replace hf := fm_let_inv eM27 hf
        refine fm_iinc (v := (l1 + 1)) (lv' := [(1, .int (l1 + 1)), (0, .ref (ad 0))]) (pc := 182) F dX9_settles_182 1 rfl rfl (fm_lt rfl) rfl ?_
        refine fm_goto (tgt := 47) (pc := 185) F dX9_settles_185 (by decide) ?_
        refine fm_pick [1, 0] rfl ?_
        exact ih _ _ hf
set_option maxHeartbeats 4000000 in
theorem wX9_settles_26 {X : fm_X} {D : va_G} {dA : Nat → ClassId} {ad : Nat → Nat} {n : Nat}  (F : fm_F X (YM D dA ad) cX9_settles 4 RX9 rmX9_settles) {M' : fm_M} (E : fm_E X (YM D dA ad) none M' none) : ∀ (k : Nat) (M : fm_M) (l1 : Int32), fX9_settles_26 n k M l1 = some M' → fm_G X (YM D dA ad) (0, 0) 4 M 26 [(0, .ref (ad 0)), (1, .int l1)] [] := by
  intro k
  induction k with
  | zero =>
    intro M l1 hf
    rw [fX9_settles_26] at hf
    cases hf
  | succ k ih =>
    intro M l1 hf
    rw [fX9_settles_26] at hf
    refine fm_iload_n (pc := 26) F dX9_settles_26 1 rfl ?_
    refine fm_bipush (v := 56) (pc := 27) F dX9_settles_27 (by decide) ?_
    refine fm_icmp_ge (tgt := 45) (pc := 29) F dX9_settles_29 (by decide) (fun c1 => ?_) (fun c1 => ?_)
    · replace hf := fm_ip c1 hf
      refine fm_iconst (v := 0) (pc := 45) F dX9_settles_45 (by decide) ?_
      refine fm_istore_n (lv' := [(1, .int 0), (0, .ref (ad 0))]) (pc := 46) F dX9_settles_46 rfl (fm_lt rfl) rfl ?_
      refine fm_pick [1, 0] rfl ?_
      exact wX9_settles_47 F E n _ _ hf
    · replace hf := fm_in c1 hf
      refine fm_aload_n (pc := 32) F dX9_settles_32 0 rfl ?_
      refine fm_get (v := .ref (ad 11)) (pc := 33) F (ci := 9) (T := TX9) (n := 29) rfl in_X9 18 (fm_lt rfl) dX9_settles_33 q813 0 (fm_lt rfl) rfl rfl ?_
      refine fm_iload_n (pc := 36) F dX9_settles_36 1 rfl ?_
      refine fm_iconst (v := 0) (pc := 37) F dX9_settles_37 (by decide) ?_
      obtain ⟨b2, hf⟩ := fm_b_inv hf
      refine fm_iast (pc := 38) F dX9_settles_38 11 (fm_lt rfl) (fun _ => rfl) b2 ?_
      refine fm_nameM (fun M3 eM3 => ?_)
      replace hf := fm_let_inv eM3 hf
      refine fm_iinc (v := (l1 + 1)) (lv' := [(1, .int (l1 + 1)), (0, .ref (ad 0))]) (pc := 39) F dX9_settles_39 1 rfl rfl (fm_lt rfl) rfl ?_
      refine fm_goto (tgt := 26) (pc := 42) F dX9_settles_42 (by decide) ?_
      refine fm_pick [1, 0] rfl ?_
      exact ih _ _ hf
set_option maxHeartbeats 4000000 in
theorem mX9_settles {l : Launch} {D : va_G} {dA : Nat → ClassId} {ad : Nat → Nat} {n : Nat}  (inj : ∀ i j, i < 20 → j < 20 → ad i = ad j → i = j) {M M' : fm_M} (hf : fX9_settles n M = some M') : fm_C l yX9_settles (ws_ yX9_settles cX9_settles 4 none) rmX9_settles (YM D dA ad) [.ref (ad 0)] M none M' := by
  refine fm_enter (by decide) rfl (fm_le rfl) inj ?_
  intro X hXl F E
  subst hXl
  unfold fX9_settles at hf
  show fm_G X (YM D dA ad) (0, 0) 4 M 0 [(0, .ref (ad 0))] []
  refine fm_aload_n (pc := 0) F dX9_settles_0 0 rfl ?_
  refine fm_get (v := .ref (ad 2)) (pc := 1) F (ci := 9) (T := TX9) (n := 29) rfl in_X9 9 (fm_lt rfl) dX9_settles_1 q804 0 (fm_lt rfl) rfl rfl ?_
  refine fm_iconst (v := 0) (pc := 4) F dX9_settles_4 (by decide) ?_
  refine fm_aload_n (pc := 5) F dX9_settles_5 0 rfl ?_
  refine fm_get (v := .ref (ad 2)) (pc := 6) F (ci := 9) (T := TX9) (n := 29) rfl in_X9 9 (fm_lt rfl) dX9_settles_6 q804 0 (fm_lt rfl) rfl rfl ?_
  refine fm_iconst (v := 2) (pc := 9) F dX9_settles_9 (by decide) ?_
  refine fm_ialdK (pc := 10) F dX9_settles_10 2 (fm_lt rfl) rfl 2 (fm_ok (by decide)) rfl ?_
  refine fm_iastK (pc := 11) F dX9_settles_11 2 (fm_lt rfl) (fun _ => rfl) 0 (fm_ok (by decide)) rfl ?_
  refine fm_nameM (fun M1 eM1 => ?_)
  replace hf := fm_let_inv eM1 hf
  refine fm_aload_n (pc := 12) F dX9_settles_12 0 rfl ?_
  refine fm_get (v := .ref (ad 2)) (pc := 13) F (ci := 9) (T := TX9) (n := 29) rfl in_X9 9 (fm_lt rfl) dX9_settles_13 q804 0 (fm_lt rfl) rfl rfl ?_
  refine fm_iconst (v := 1) (pc := 16) F dX9_settles_16 (by decide) ?_
  refine fm_aload_n (pc := 17) F dX9_settles_17 0 rfl ?_
  refine fm_get (v := .ref (ad 2)) (pc := 18) F (ci := 9) (T := TX9) (n := 29) rfl in_X9 9 (fm_lt rfl) dX9_settles_18 q804 0 (fm_lt rfl) rfl rfl ?_
  refine fm_iconst (v := 3) (pc := 21) F dX9_settles_21 (by decide) ?_
  refine fm_ialdK (pc := 22) F dX9_settles_22 2 (fm_lt rfl) rfl 3 (fm_ok (by decide)) rfl ?_
  refine fm_iastK (pc := 23) F dX9_settles_23 2 (fm_lt rfl) (fun _ => rfl) 1 (fm_ok (by decide)) rfl ?_
  refine fm_nameM (fun M2 eM2 => ?_)
  replace hf := fm_let_inv eM2 hf
  refine fm_iconst (v := 0) (pc := 24) F dX9_settles_24 (by decide) ?_
  refine fm_istore_n (lv' := [(1, .int 0), (0, .ref (ad 0))]) (pc := 25) F dX9_settles_25 rfl (fm_lt rfl) rfl ?_
  refine fm_pick [1, 0] rfl ?_
  exact wX9_settles_26 F E n _ _ hf
abbrev rmX9_plain : Room := { frames := 7, cells := 0, slots := 0, locals := 191 }
def fX9_plain_158 (n : Nat) (k57 : fm_M → Int32 → Option (Int32 × fm_M)) (M : fm_M) (l1 : Int32) (s0 : Int32) : Option (Int32 × fm_M) :=
  fm_bi (fX9_takes n M s0) fun r1 M2 =>
  k57 M2 (l1 + 1)
def fX9_plain_144 (n : Nat) (k57 : fm_M → Int32 → Option (Int32 × fm_M)) (M : fm_M) (l1 : Int32) : Option (Int32 × fm_M) :=
  if (M.1 0 5) = 3 then
    fX9_plain_158 n k57 M l1 1
  else
    fX9_plain_158 n k57 M l1 0
def fX9_plain_128 (n : Nat) (k57 : fm_M → Int32 → Option (Int32 × fm_M)) (M : fm_M) (l1 : Int32) (s0 : Int32) : Option (Int32 × fm_M) :=
  fm_bi (fX9_takes n M s0) fun r1 M2 =>
  fm_bi (fX9_isWell n M2) fun r5 M6 =>
  if r5 = 0 then
    fX9_plain_144 n k57 M6 l1
  else
    fm_bv (fX9_readsItem n M6 r1) fun M11 =>
    fX9_plain_144 n k57 M11 l1
def fX9_plain_123 (n : Nat) (k57 : fm_M → Int32 → Option (Int32 × fm_M)) (M : fm_M) (l1 : Int32) : Option (Int32 × fm_M) :=
  fX9_plain_128 n k57 M l1 1
def fX9_plain_127 (n : Nat) (k57 : fm_M → Int32 → Option (Int32 × fm_M)) (M : fm_M) (l1 : Int32) : Option (Int32 × fm_M) :=
  fX9_plain_128 n k57 M l1 0
def fX9_plain_168 (n : Nat) (M : fm_M) (l1 : Int32) : Option (Int32 × fm_M) :=
  fm_bi (fX9_isWell n M) fun r1 M2 =>
  if r1 = 0 then
    some (((-10) - (M2.1 0 8)), M2)
  else
    fm_bv (fX9_settles n M2) fun M7 =>
    some (l1, M7)
def fX9_plain_57 (n : Nat) : Nat → fm_M → Int32 → Option (Int32 × fm_M)
  | 0, _, _ => none
  | k + 1, M, l1 =>
    fm_bi (fX9_isWell n M) fun r1 M2 =>
    if r1 = 0 then
      fX9_plain_168 n M2 l1
    else
      if (M2.1 0 5) = 0 then
        fX9_plain_168 n M2 l1
      else
        if (M2.1 0 5) = 1 then
          if (M2.1 0 7) = 116 then
            if 6 ≤ (M2.1 2 2) then
              fX9_plain_127 n (fX9_plain_57 n k) M2 l1
            else
              fX9_plain_123 n (fX9_plain_57 n k) M2 l1
          else
            if (M2.1 0 7) = 100 then
              fX9_plain_123 n (fX9_plain_57 n k) M2 l1
            else
              if 6 ≤ (M2.1 2 3) then
                fX9_plain_127 n (fX9_plain_57 n k) M2 l1
              else
                fX9_plain_123 n (fX9_plain_57 n k) M2 l1
        else
          fX9_plain_127 n (fX9_plain_57 n k) M2 l1
def fX9_plain_34 (n : Nat) : Nat → fm_M → Int32 → Int32 → Option (Int32 × fm_M)
  | 0, _, _, _ => none
  | k + 1, M, l1, l2 =>
    if 72 ≤ l2 then
      fm_bv (fX9_advances n M) fun M3 =>
      fX9_plain_57 n n M3 l1
    else
      fm_b l2 72 <|
      fm_let (fm_wr M 6 l2.toNatClampNeg 0) fun M7 =>
      fX9_plain_34 n k M7 l1 (l2 + 1)
def fX9_plain (n : Nat) (M : fm_M) : Option (Int32 × fm_M) :=
  fm_let (fm_wr M 0 0 0) fun M1 =>
  fm_let (fm_wr M1 0 8 (-1)) fun M2 =>
  fm_let (fm_wr M2 0 4 0) fun M3 =>
  fm_let (fm_wr M3 2 2 0) fun M4 =>
  fm_let (fm_wr M4 2 3 0) fun M5 =>
  fX9_plain_34 n n M5 0 36
theorem hdX9_plain : yX9_plain.cls = RX9 ∧ yX9_plain.cls ≠ "java/lang/invoke/MethodHandle" ∧ yX9_plain.cls ≠ "java/lang/invoke/VarHandle" ∧ (parseMethodDescriptor yX9_plain.desc).map (fun d => d.parameters.length) = some 0 := by decide +kernel
set_option maxHeartbeats 4000000 in
theorem wX9_plain_158 {X : fm_X} {D : va_G} {dA : Nat → ClassId} {ad : Nat → Nat} {n : Nat}  {r : Int32} (F : fm_F X (YM D dA ad) cX9_plain 3 RX9 rmX9_plain) {M' : fm_M} (E : fm_E X (YM D dA ad) (some (.int r)) M' (some .int)) {k57 : fm_M → Int32 → Option (Int32 × fm_M)} (hk57 : ∀ (M : fm_M) (l1 : Int32), k57 M l1 = some (r, M') → fm_G X (YM D dA ad) (0, 0) 3 M 57 [(0, .ref (ad 0)), (1, .int l1)] []) : ∀ (M : fm_M) (l1 : Int32) (s0 : Int32), fX9_plain_158 n k57 M l1 s0 = some (r, M') → fm_G X (YM D dA ad) (0, 0) 3 M 158 [(0, .ref (ad 0)), (1, .int l1)] [.int s0, .ref (ad 0)] := by
  intro M l1 s0 hf
  unfold fX9_plain_158 at hf
  obtain ⟨r1, M2, h3, hf⟩ := fm_bi_inv hf
  refine fm_callV (As := [.int s0]) (rest := []) (pc := 158) F (ci := 9) 0 (fm_lt rfl) rfl rfl (mX9_takes F.inj h3) q910 q912 qs21 q50 q913 ⟨rfl, rfl⟩ hdX9_takes ⟨fm_le rfl, fm_le rfl, Nat.zero_le _, Nat.zero_le _⟩ rfl rfl (fm_le rfl) dX9_plain_158 ?_
  refine fm_pop (pc := 161) F dX9_plain_161 rfl ?_
  refine fm_iinc (v := (l1 + 1)) (lv' := [(1, .int (l1 + 1)), (0, .ref (ad 0))]) (pc := 162) F dX9_plain_162 1 rfl rfl (fm_lt rfl) rfl ?_
  refine fm_goto (tgt := 57) (pc := 165) F dX9_plain_165 (by decide) ?_
  refine fm_pick [1, 0] rfl ?_
  exact hk57 _ _ hf
set_option maxHeartbeats 4000000 in
theorem wX9_plain_144 {X : fm_X} {D : va_G} {dA : Nat → ClassId} {ad : Nat → Nat} {n : Nat}  {r : Int32} (F : fm_F X (YM D dA ad) cX9_plain 3 RX9 rmX9_plain) {M' : fm_M} (E : fm_E X (YM D dA ad) (some (.int r)) M' (some .int)) {k57 : fm_M → Int32 → Option (Int32 × fm_M)} (hk57 : ∀ (M : fm_M) (l1 : Int32), k57 M l1 = some (r, M') → fm_G X (YM D dA ad) (0, 0) 3 M 57 [(0, .ref (ad 0)), (1, .int l1)] []) : ∀ (M : fm_M) (l1 : Int32), fX9_plain_144 n k57 M l1 = some (r, M') → fm_G X (YM D dA ad) (0, 0) 3 M 144 [(0, .ref (ad 0)), (1, .int l1)] [] := by
  intro M l1 hf
  unfold fX9_plain_144 at hf
  refine fm_aload_n (pc := 144) F dX9_plain_144 0 rfl ?_
  refine fm_aload_n (pc := 145) F dX9_plain_145 0 rfl ?_
  refine fm_get (v := .int (M.1 0 5)) (pc := 146) F (ci := 9) (T := TX9) (n := 29) rfl in_X9 5 (fm_lt rfl) dX9_plain_146 q800 0 (fm_lt rfl) rfl rfl ?_
  refine fm_iconst (v := 3) (pc := 149) F dX9_plain_149 (by decide) ?_
  refine fm_icmp_ne (tgt := 157) (pc := 150) F dX9_plain_150 (by decide) (fun c1 => ?_) (fun c1 => ?_)
  · replace hf := fm_in c1 hf
    refine fm_iconst (v := 0) (pc := 157) F dX9_plain_157 (by decide) ?_
    exact wX9_plain_158 F E hk57 _ _ _ hf
  · replace hf := fm_ip c1 hf
    refine fm_iconst (v := 1) (pc := 153) F dX9_plain_153 (by decide) ?_
    refine fm_goto (tgt := 158) (pc := 154) F dX9_plain_154 (by decide) ?_
    exact wX9_plain_158 F E hk57 _ _ _ hf
set_option maxHeartbeats 4000000 in
theorem wX9_plain_128 {X : fm_X} {D : va_G} {dA : Nat → ClassId} {ad : Nat → Nat} {n : Nat}  {r : Int32} (F : fm_F X (YM D dA ad) cX9_plain 3 RX9 rmX9_plain) {M' : fm_M} (E : fm_E X (YM D dA ad) (some (.int r)) M' (some .int)) {k57 : fm_M → Int32 → Option (Int32 × fm_M)} (hk57 : ∀ (M : fm_M) (l1 : Int32), k57 M l1 = some (r, M') → fm_G X (YM D dA ad) (0, 0) 3 M 57 [(0, .ref (ad 0)), (1, .int l1)] []) : ∀ (M : fm_M) (l1 : Int32) (s0 : Int32), fX9_plain_128 n k57 M l1 s0 = some (r, M') → fm_G X (YM D dA ad) (0, 0) 3 M 128 [(0, .ref (ad 0)), (1, .int l1)] [.int s0, .ref (ad 0)] := by
  intro M l1 s0 hf
  unfold fX9_plain_128 at hf
  obtain ⟨r1, M2, h3, hf⟩ := fm_bi_inv hf
  refine fm_callV (As := [.int s0]) (rest := []) (pc := 128) F (ci := 9) 0 (fm_lt rfl) rfl rfl (mX9_takes F.inj h3) q910 q912 qs21 q50 q913 ⟨rfl, rfl⟩ hdX9_takes ⟨fm_le rfl, fm_le rfl, Nat.zero_le _, Nat.zero_le _⟩ rfl rfl (fm_le rfl) dX9_plain_128 ?_
  refine fm_istore_n (lv' := [(2, .int r1), (0, .ref (ad 0)), (1, .int l1)]) (pc := 131) F dX9_plain_131 rfl (fm_lt rfl) rfl ?_
  refine fm_aload_n (pc := 132) F dX9_plain_132 1 rfl ?_
  obtain ⟨r5, M6, h7, hf⟩ := fm_bi_inv hf
  refine fm_callV (As := []) (rest := []) (pc := 133) F (ci := 9) 0 (fm_lt rfl) rfl rfl (mX9_isWell F.inj h7) q906 q908 qs20 q50 q909 ⟨rfl, rfl⟩ hdX9_isWell ⟨fm_le rfl, fm_le rfl, Nat.zero_le _, Nat.zero_le _⟩ rfl rfl (fm_le rfl) dX9_plain_133 ?_
  refine fm_if_eq (tgt := 144) (pc := 136) F dX9_plain_136 (by decide) (fun c9 => ?_) (fun c9 => ?_)
  · replace hf := fm_ip c9 hf
    refine fm_pick [1, 2] rfl ?_
    exact wX9_plain_144 F E hk57 _ _ hf
  · replace hf := fm_in c9 hf
    refine fm_aload_n (pc := 139) F dX9_plain_139 1 rfl ?_
    refine fm_iload_n (pc := 140) F dX9_plain_140 0 rfl ?_
    obtain ⟨M11, h12, hf⟩ := fm_bv_inv hf
    refine fm_callV (As := [.int r1]) (rest := []) (pc := 141) F (ci := 9) 0 (fm_lt rfl) rfl rfl (mX9_readsItem F.inj h12) q914 q916 qs22 q50 q917 ⟨rfl, rfl⟩ hdX9_readsItem ⟨fm_le rfl, fm_le rfl, Nat.zero_le _, Nat.zero_le _⟩ rfl rfl (fm_le rfl) dX9_plain_141 ?_
    refine fm_pick [1, 2] rfl ?_
    exact wX9_plain_144 F E hk57 _ _ hf
set_option maxHeartbeats 4000000 in
theorem wX9_plain_123 {X : fm_X} {D : va_G} {dA : Nat → ClassId} {ad : Nat → Nat} {n : Nat}  {r : Int32} (F : fm_F X (YM D dA ad) cX9_plain 3 RX9 rmX9_plain) {M' : fm_M} (E : fm_E X (YM D dA ad) (some (.int r)) M' (some .int)) {k57 : fm_M → Int32 → Option (Int32 × fm_M)} (hk57 : ∀ (M : fm_M) (l1 : Int32), k57 M l1 = some (r, M') → fm_G X (YM D dA ad) (0, 0) 3 M 57 [(0, .ref (ad 0)), (1, .int l1)] []) : ∀ (M : fm_M) (l1 : Int32), fX9_plain_123 n k57 M l1 = some (r, M') → fm_G X (YM D dA ad) (0, 0) 3 M 123 [(0, .ref (ad 0)), (1, .int l1)] [.ref (ad 0)] := by
  intro M l1 hf
  unfold fX9_plain_123 at hf
  refine fm_iconst (v := 1) (pc := 123) F dX9_plain_123 (by decide) ?_
  refine fm_goto (tgt := 128) (pc := 124) F dX9_plain_124 (by decide) ?_
  exact wX9_plain_128 F E hk57 _ _ _ hf
set_option maxHeartbeats 4000000 in
theorem wX9_plain_127 {X : fm_X} {D : va_G} {dA : Nat → ClassId} {ad : Nat → Nat} {n : Nat}  {r : Int32} (F : fm_F X (YM D dA ad) cX9_plain 3 RX9 rmX9_plain) {M' : fm_M} (E : fm_E X (YM D dA ad) (some (.int r)) M' (some .int)) {k57 : fm_M → Int32 → Option (Int32 × fm_M)} (hk57 : ∀ (M : fm_M) (l1 : Int32), k57 M l1 = some (r, M') → fm_G X (YM D dA ad) (0, 0) 3 M 57 [(0, .ref (ad 0)), (1, .int l1)] []) : ∀ (M : fm_M) (l1 : Int32), fX9_plain_127 n k57 M l1 = some (r, M') → fm_G X (YM D dA ad) (0, 0) 3 M 127 [(0, .ref (ad 0)), (1, .int l1)] [.ref (ad 0)] := by
  intro M l1 hf
  unfold fX9_plain_127 at hf
  refine fm_iconst (v := 0) (pc := 127) F dX9_plain_127 (by decide) ?_
  exact wX9_plain_128 F E hk57 _ _ _ hf
set_option maxHeartbeats 4000000 in
theorem wX9_plain_168 {X : fm_X} {D : va_G} {dA : Nat → ClassId} {ad : Nat → Nat} {n : Nat}  {r : Int32} (F : fm_F X (YM D dA ad) cX9_plain 3 RX9 rmX9_plain) {M' : fm_M} (E : fm_E X (YM D dA ad) (some (.int r)) M' (some .int)) : ∀ (M : fm_M) (l1 : Int32), fX9_plain_168 n M l1 = some (r, M') → fm_G X (YM D dA ad) (0, 0) 3 M 168 [(0, .ref (ad 0)), (1, .int l1)] [] := by
  intro M l1 hf
  unfold fX9_plain_168 at hf
  refine fm_aload_n (pc := 168) F dX9_plain_168 0 rfl ?_
  obtain ⟨r1, M2, h3, hf⟩ := fm_bi_inv hf
  refine fm_callV (As := []) (rest := []) (pc := 169) F (ci := 9) 0 (fm_lt rfl) rfl rfl (mX9_isWell F.inj h3) q906 q908 qs20 q50 q909 ⟨rfl, rfl⟩ hdX9_isWell ⟨fm_le rfl, fm_le rfl, Nat.zero_le _, Nat.zero_le _⟩ rfl rfl (fm_le rfl) dX9_plain_169 ?_
  refine fm_if_ne (tgt := 183) (pc := 172) F dX9_plain_172 (by decide) (fun c5 => ?_) (fun c5 => ?_)
  · replace hf := fm_in c5 hf
    refine fm_aload_n (pc := 183) F dX9_plain_183 0 rfl ?_
    obtain ⟨M7, h8, hf⟩ := fm_bv_inv hf
    refine fm_callV (As := []) (rest := []) (pc := 184) F (ci := 9) 0 (fm_lt rfl) rfl rfl (mX9_settles F.inj h8) q922 q924 qs24 q50 q925 ⟨rfl, rfl⟩ hdX9_settles ⟨fm_le rfl, fm_le rfl, Nat.zero_le _, Nat.zero_le _⟩ rfl rfl (fm_le rfl) dX9_plain_184 ?_
    refine fm_iload_n (pc := 187) F dX9_plain_187 1 rfl ?_
    exact fm_iret (pc := 188) F E hf dX9_plain_188
  · replace hf := fm_ip c5 hf
    refine fm_bipush (v := (-10)) (pc := 175) F dX9_plain_175 (by decide) ?_
    refine fm_aload_n (pc := 177) F dX9_plain_177 0 rfl ?_
    refine fm_get (v := .int (M2.1 0 8)) (pc := 178) F (ci := 9) (T := TX9) (n := 29) rfl in_X9 8 (fm_lt rfl) dX9_plain_178 q803 0 (fm_lt rfl) rfl rfl ?_
    refine fm_isub (pc := 181) F dX9_plain_181 ?_
    exact fm_iret (pc := 182) F E hf dX9_plain_182
set_option maxHeartbeats 4000000 in
theorem wX9_plain_57 {X : fm_X} {D : va_G} {dA : Nat → ClassId} {ad : Nat → Nat} {n : Nat}  {r : Int32} (F : fm_F X (YM D dA ad) cX9_plain 3 RX9 rmX9_plain) {M' : fm_M} (E : fm_E X (YM D dA ad) (some (.int r)) M' (some .int)) : ∀ (k : Nat) (M : fm_M) (l1 : Int32), fX9_plain_57 n k M l1 = some (r, M') → fm_G X (YM D dA ad) (0, 0) 3 M 57 [(0, .ref (ad 0)), (1, .int l1)] [] := by
  intro k
  induction k with
  | zero =>
    intro M l1 hf
    rw [fX9_plain_57] at hf
    cases hf
  | succ k ih =>
    intro M l1 hf
    rw [fX9_plain_57] at hf
    refine fm_aload_n (pc := 57) F dX9_plain_57 0 rfl ?_
    obtain ⟨r1, M2, h3, hf⟩ := fm_bi_inv hf
    refine fm_callV (As := []) (rest := []) (pc := 58) F (ci := 9) 0 (fm_lt rfl) rfl rfl (mX9_isWell F.inj h3) q906 q908 qs20 q50 q909 ⟨rfl, rfl⟩ hdX9_isWell ⟨fm_le rfl, fm_le rfl, Nat.zero_le _, Nat.zero_le _⟩ rfl rfl (fm_le rfl) dX9_plain_58 ?_
    refine fm_if_eq (tgt := 168) (pc := 61) F dX9_plain_61 (by decide) (fun c5 => ?_) (fun c5 => ?_)
    · replace hf := fm_ip c5 hf
      exact wX9_plain_168 F E _ _ hf
    · replace hf := fm_in c5 hf
      refine fm_aload_n (pc := 64) F dX9_plain_64 0 rfl ?_
      refine fm_get (v := .int (M2.1 0 5)) (pc := 65) F (ci := 9) (T := TX9) (n := 29) rfl in_X9 5 (fm_lt rfl) dX9_plain_65 q800 0 (fm_lt rfl) rfl rfl ?_
      refine fm_if_eq (tgt := 168) (pc := 68) F dX9_plain_68 (by decide) (fun c6 => ?_) (fun c6 => ?_)
      · replace hf := fm_ip c6 hf
        exact wX9_plain_168 F E _ _ hf
      · replace hf := fm_in c6 hf
        refine fm_aload_n (pc := 71) F dX9_plain_71 0 rfl ?_
        refine fm_aload_n (pc := 72) F dX9_plain_72 0 rfl ?_
        refine fm_get (v := .int (M2.1 0 5)) (pc := 73) F (ci := 9) (T := TX9) (n := 29) rfl in_X9 5 (fm_lt rfl) dX9_plain_73 q800 0 (fm_lt rfl) rfl rfl ?_
        refine fm_iconst (v := 1) (pc := 76) F dX9_plain_76 (by decide) ?_
        refine fm_icmp_ne (tgt := 127) (pc := 77) F dX9_plain_77 (by decide) (fun c7 => ?_) (fun c7 => ?_)
        · replace hf := fm_in c7 hf
          exact wX9_plain_127 F E ih _ _ hf
        · replace hf := fm_ip c7 hf
          refine fm_aload_n (pc := 80) F dX9_plain_80 0 rfl ?_
          refine fm_get (v := .int (M2.1 0 7)) (pc := 81) F (ci := 9) (T := TX9) (n := 29) rfl in_X9 7 (fm_lt rfl) dX9_plain_81 q802 0 (fm_lt rfl) rfl rfl ?_
          refine fm_bipush (v := 116) (pc := 84) F dX9_plain_84 (by decide) ?_
          refine fm_icmp_ne (tgt := 103) (pc := 86) F dX9_plain_86 (by decide) (fun c8 => ?_) (fun c8 => ?_)
          · replace hf := fm_in c8 hf
            refine fm_aload_n (pc := 103) F dX9_plain_103 0 rfl ?_
            refine fm_get (v := .int (M2.1 0 7)) (pc := 104) F (ci := 9) (T := TX9) (n := 29) rfl in_X9 7 (fm_lt rfl) dX9_plain_104 q802 0 (fm_lt rfl) rfl rfl ?_
            refine fm_bipush (v := 100) (pc := 107) F dX9_plain_107 (by decide) ?_
            refine fm_icmp_eq (tgt := 123) (pc := 109) F dX9_plain_109 (by decide) (fun c9 => ?_) (fun c9 => ?_)
            · replace hf := fm_ip c9 hf
              exact wX9_plain_123 F E ih _ _ hf
            · replace hf := fm_in c9 hf
              refine fm_aload_n (pc := 112) F dX9_plain_112 0 rfl ?_
              refine fm_get (v := .ref (ad 2)) (pc := 113) F (ci := 9) (T := TX9) (n := 29) rfl in_X9 9 (fm_lt rfl) dX9_plain_113 q804 0 (fm_lt rfl) rfl rfl ?_
              refine fm_iconst (v := 3) (pc := 116) F dX9_plain_116 (by decide) ?_
              refine fm_ialdK (pc := 117) F dX9_plain_117 2 (fm_lt rfl) rfl 3 (fm_ok (by decide)) rfl ?_
              refine fm_bipush (v := 6) (pc := 118) F dX9_plain_118 (by decide) ?_
              refine fm_icmp_ge (tgt := 127) (pc := 120) F dX9_plain_120 (by decide) (fun c10 => ?_) (fun c10 => ?_)
              · replace hf := fm_ip c10 hf
                exact wX9_plain_127 F E ih _ _ hf
              · replace hf := fm_in c10 hf
                exact wX9_plain_123 F E ih _ _ hf
          · replace hf := fm_ip c8 hf
            refine fm_aload_n (pc := 89) F dX9_plain_89 0 rfl ?_
            refine fm_get (v := .ref (ad 2)) (pc := 90) F (ci := 9) (T := TX9) (n := 29) rfl in_X9 9 (fm_lt rfl) dX9_plain_90 q804 0 (fm_lt rfl) rfl rfl ?_
            refine fm_iconst (v := 2) (pc := 93) F dX9_plain_93 (by decide) ?_
            refine fm_ialdK (pc := 94) F dX9_plain_94 2 (fm_lt rfl) rfl 2 (fm_ok (by decide)) rfl ?_
            refine fm_bipush (v := 6) (pc := 95) F dX9_plain_95 (by decide) ?_
            refine fm_icmp_ge (tgt := 127) (pc := 97) F dX9_plain_97 (by decide) (fun c11 => ?_) (fun c11 => ?_)
            · replace hf := fm_ip c11 hf
              exact wX9_plain_127 F E ih _ _ hf
            · replace hf := fm_in c11 hf
              refine fm_goto (tgt := 123) (pc := 100) F dX9_plain_100 (by decide) ?_
              exact wX9_plain_123 F E ih _ _ hf
set_option maxHeartbeats 4000000 in
theorem wX9_plain_34 {X : fm_X} {D : va_G} {dA : Nat → ClassId} {ad : Nat → Nat} {n : Nat}  {r : Int32} (F : fm_F X (YM D dA ad) cX9_plain 3 RX9 rmX9_plain) {M' : fm_M} (E : fm_E X (YM D dA ad) (some (.int r)) M' (some .int)) : ∀ (k : Nat) (M : fm_M) (l1 : Int32) (l2 : Int32), fX9_plain_34 n k M l1 l2 = some (r, M') → fm_G X (YM D dA ad) (0, 0) 3 M 34 [(0, .ref (ad 0)), (1, .int l1), (2, .int l2)] [] := by
  intro k
  induction k with
  | zero =>
    intro M l1 l2 hf
    rw [fX9_plain_34] at hf
    cases hf
  | succ k ih =>
    intro M l1 l2 hf
    rw [fX9_plain_34] at hf
    refine fm_iload_n (pc := 34) F dX9_plain_34 2 rfl ?_
    refine fm_bipush (v := 72) (pc := 35) F dX9_plain_35 (by decide) ?_
    refine fm_icmp_ge (tgt := 53) (pc := 37) F dX9_plain_37 (by decide) (fun c1 => ?_) (fun c1 => ?_)
    · replace hf := fm_ip c1 hf
      refine fm_aload_n (pc := 53) F dX9_plain_53 0 rfl ?_
      obtain ⟨M3, h4, hf⟩ := fm_bv_inv hf
      refine fm_callV (As := []) (rest := []) (pc := 54) F (ci := 9) 0 (fm_lt rfl) rfl rfl (mX9_advances F.inj h4) q898 q900 qs18 q50 q901 ⟨rfl, rfl⟩ hdX9_advances ⟨fm_le rfl, fm_le rfl, Nat.zero_le _, Nat.zero_le _⟩ rfl rfl (fm_le rfl) dX9_plain_54 ?_
      refine fm_pick [0, 1] rfl ?_
      exact wX9_plain_57 F E n _ _ hf
    · replace hf := fm_in c1 hf
      refine fm_aload_n (pc := 40) F dX9_plain_40 0 rfl ?_
      refine fm_get (v := .ref (ad 6)) (pc := 41) F (ci := 9) (T := TX9) (n := 29) rfl in_X9 13 (fm_lt rfl) dX9_plain_41 q808 0 (fm_lt rfl) rfl rfl ?_
      refine fm_iload_n (pc := 44) F dX9_plain_44 2 rfl ?_
      refine fm_iconst (v := 0) (pc := 45) F dX9_plain_45 (by decide) ?_
      obtain ⟨b6, hf⟩ := fm_b_inv hf
      refine fm_iast (pc := 46) F dX9_plain_46 6 (fm_lt rfl) (fun _ => rfl) b6 ?_
      refine fm_nameM (fun M7 eM7 => ?_)
      replace hf := fm_let_inv eM7 hf
      refine fm_iinc (v := (l2 + 1)) (lv' := [(2, .int (l2 + 1)), (0, .ref (ad 0)), (1, .int l1)]) (pc := 47) F dX9_plain_47 2 rfl rfl (fm_lt rfl) rfl ?_
      refine fm_goto (tgt := 34) (pc := 50) F dX9_plain_50 (by decide) ?_
      refine fm_pick [1, 2, 0] rfl ?_
      exact ih _ _ _ hf
set_option maxHeartbeats 4000000 in
theorem mX9_plain {l : Launch} {D : va_G} {dA : Nat → ClassId} {ad : Nat → Nat} {n : Nat}  (inj : ∀ i j, i < 20 → j < 20 → ad i = ad j → i = j) {M M' : fm_M} {r : Int32} (hf : fX9_plain n M = some (r, M')) : fm_C l yX9_plain (ws_ yX9_plain cX9_plain 3 (some .int)) rmX9_plain (YM D dA ad) [.ref (ad 0)] M (some (.int r)) M' := by
  refine fm_enter (by decide) rfl (fm_le rfl) inj ?_
  intro X hXl F E
  subst hXl
  unfold fX9_plain at hf
  show fm_G X (YM D dA ad) (0, 0) 3 M 0 [(0, .ref (ad 0))] []
  refine fm_aload_n (pc := 0) F dX9_plain_0 0 rfl ?_
  refine fm_iconst (v := 0) (pc := 1) F dX9_plain_1 (by decide) ?_
  refine fm_putI (v := 0) (pc := 2) F clX9 0 (fm_lt rfl) dX9_plain_2 q795 rfl rfl 0 (fm_lt rfl) rfl (fm_lt rfl) rfl ?_
  refine fm_nameM (fun M1 eM1 => ?_)
  replace hf := fm_let_inv eM1 hf
  refine fm_aload_n (pc := 5) F dX9_plain_5 0 rfl ?_
  refine fm_iconst (v := (-1)) (pc := 6) F dX9_plain_6 (by decide) ?_
  refine fm_putI (v := (-1)) (pc := 7) F clX9 8 (fm_lt rfl) dX9_plain_7 q803 rfl rfl 0 (fm_lt rfl) rfl (fm_lt rfl) rfl ?_
  refine fm_nameM (fun M2 eM2 => ?_)
  replace hf := fm_let_inv eM2 hf
  refine fm_aload_n (pc := 10) F dX9_plain_10 0 rfl ?_
  refine fm_iconst (v := 0) (pc := 11) F dX9_plain_11 (by decide) ?_
  refine fm_putI (v := 0) (pc := 12) F clX9 4 (fm_lt rfl) dX9_plain_12 q799 rfl rfl 0 (fm_lt rfl) rfl (fm_lt rfl) rfl ?_
  refine fm_nameM (fun M3 eM3 => ?_)
  replace hf := fm_let_inv eM3 hf
  refine fm_iconst (v := 0) (pc := 15) F dX9_plain_15 (by decide) ?_
  refine fm_istore_n (lv' := [(1, .int 0), (0, .ref (ad 0))]) (pc := 16) F dX9_plain_16 rfl (fm_lt rfl) rfl ?_
  refine fm_aload_n (pc := 17) F dX9_plain_17 1 rfl ?_
  refine fm_get (v := .ref (ad 2)) (pc := 18) F (ci := 9) (T := TX9) (n := 29) rfl in_X9 9 (fm_lt rfl) dX9_plain_18 q804 0 (fm_lt rfl) rfl rfl ?_
  refine fm_iconst (v := 2) (pc := 21) F dX9_plain_21 (by decide) ?_
  refine fm_iconst (v := 0) (pc := 22) F dX9_plain_22 (by decide) ?_
  refine fm_iastK (pc := 23) F dX9_plain_23 2 (fm_lt rfl) (fun _ => rfl) 2 (fm_ok (by decide)) rfl ?_
  refine fm_nameM (fun M4 eM4 => ?_)
  replace hf := fm_let_inv eM4 hf
  refine fm_aload_n (pc := 24) F dX9_plain_24 1 rfl ?_
  refine fm_get (v := .ref (ad 2)) (pc := 25) F (ci := 9) (T := TX9) (n := 29) rfl in_X9 9 (fm_lt rfl) dX9_plain_25 q804 0 (fm_lt rfl) rfl rfl ?_
  refine fm_iconst (v := 3) (pc := 28) F dX9_plain_28 (by decide) ?_
  refine fm_iconst (v := 0) (pc := 29) F dX9_plain_29 (by decide) ?_
  refine fm_iastK (pc := 30) F dX9_plain_30 2 (fm_lt rfl) (fun _ => rfl) 3 (fm_ok (by decide)) rfl ?_
  refine fm_nameM (fun M5 eM5 => ?_)
  replace hf := fm_let_inv eM5 hf
  refine fm_bipush (v := 36) (pc := 31) F dX9_plain_31 (by decide) ?_
  refine fm_istore_n (lv' := [(2, .int 36), (1, .int 0), (0, .ref (ad 0))]) (pc := 33) F dX9_plain_33 rfl (fm_lt rfl) rfl ?_
  refine fm_pick [2, 1, 0] rfl ?_
  exact wX9_plain_34 F E n _ _ _ hf
