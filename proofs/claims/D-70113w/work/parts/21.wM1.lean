/-! the reference: its methods as functions, and their walks (printed by gen/genM.py) -/
set_option maxRecDepth 100000
abbrev rmX9_isTown : Room := { frames := 3, cells := 0, slots := 0, locals := 102 }
def fX9_isTown (n : Nat) (M : fm_M) (l1 : Int32) : Option (Int32 × fm_M) :=
  fm_bi (fX9_in n M l1 0 ((M.1 2 0) - 1)) fun r1 M2 =>
  fm_bz r1 (some (r1, M2))
theorem hdX9_isTown : yX9_isTown.cls = RX9 ∧ yX9_isTown.cls ≠ "java/lang/invoke/MethodHandle" ∧ yX9_isTown.cls ≠ "java/lang/invoke/VarHandle" ∧ (parseMethodDescriptor yX9_isTown.desc).map (fun d => d.parameters.length) = some 1 := by decide +kernel
set_option maxHeartbeats 4000000 in
theorem mX9_isTown {l : Launch} {D : va_G} {dA : Nat → ClassId} {ad : Nat → Nat} {n : Nat}  (inj : ∀ i j, i < 20 → j < 20 → ad i = ad j → i = j) {M M' : fm_M} {l1 : Int32} {r : Int32} (hf : fX9_isTown n M l1 = some (r, M')) : fm_C l yX9_isTown (ws_ yX9_isTown cX9_isTown 2 (some .boolean)) rmX9_isTown (YM D dA ad) [.ref (ad 0), .int l1] M (some (.int r)) M' := by
  refine fm_enter (by decide) rfl (fm_le rfl) inj ?_
  intro X hXl F E
  subst hXl
  unfold fX9_isTown at hf
  show fm_G X (YM D dA ad) (0, 0) 2 M 0 [(0, .ref (ad 0)), (1, .int l1)] []
  refine fm_iload_n (pc := 0) F dX9_isTown_0 1 rfl ?_
  refine fm_iconst (v := 0) (pc := 1) F dX9_isTown_1 (by decide) ?_
  refine fm_aload_n (pc := 2) F dX9_isTown_2 0 rfl ?_
  refine fm_get (v := .ref (ad 2)) (pc := 3) F (ci := 9) (T := TX9) (n := 29) rfl in_X9 9 (fm_lt rfl) dX9_isTown_3 q804 0 (fm_lt rfl) rfl rfl ?_
  refine fm_iconst (v := 0) (pc := 6) F dX9_isTown_6 (by decide) ?_
  refine fm_ialdK (pc := 7) F dX9_isTown_7 2 (fm_lt rfl) rfl 0 (fm_ok (by decide)) rfl ?_
  refine fm_iconst (v := 1) (pc := 8) F dX9_isTown_8 (by decide) ?_
  refine fm_isub (pc := 9) F dX9_isTown_9 ?_
  obtain ⟨r1, M2, h3, hf⟩ := fm_bi_inv hf
  refine fm_callS (As := [.int l1, .int 0, .int ((M.1 2 0) - 1)]) (rest := []) (pc := 10) F (mX9_in F.inj h3) q887 q888 q50 q889 ⟨rfl, rfl⟩ hdX9_in.2 ⟨fm_le rfl, fm_le rfl, Nat.zero_le _, Nat.zero_le _⟩ rfl rfl (fm_le rfl) dX9_isTown_10 ?_
  obtain ⟨b5, hf⟩ := fm_bz_inv hf
  exact fm_zret (pc := 13) F E b5 hf dX9_isTown_13
abbrev rmX9_hangs : Room := { frames := 2, cells := 0, slots := 0, locals := 80 }
def fX9_hangs_2 (n : Nat) (a0 : Nat) : Nat → fm_M → Int32 → Int32 → Option (Int32 × fm_M)
  | 0, _, _, _ => none
  | k + 1, M, l1, l2 =>
    fm_b (2 + l2) 56 <|
    if (M.1 a0 (2 + l2).toNatClampNeg) = l1 then
      some (l2, M)
    else
      fX9_hangs_2 n a0 k M l1 (l2 + 1)
def fX9_hangs (n : Nat) (a0 : Nat) (M : fm_M) (l1 : Int32) : Option (Int32 × fm_M) :=
  fX9_hangs_2 n a0 n M l1 0
theorem hdX9_hangs : yX9_hangs.cls = RX9 ∧ yX9_hangs.cls ≠ "java/lang/invoke/MethodHandle" ∧ yX9_hangs.cls ≠ "java/lang/invoke/VarHandle" ∧ (parseMethodDescriptor yX9_hangs.desc).map (fun d => d.parameters.length) = some 2 := by decide +kernel
set_option maxHeartbeats 4000000 in
theorem wX9_hangs_2 {X : fm_X} {D : va_G} {dA : Nat → ClassId} {ad : Nat → Nat} {n : Nat} {a0 : Nat} (ha0 : fm_r56 a0)  {r : Int32} (F : fm_F X (YM D dA ad) cX9_hangs 3 RX9 rmX9_hangs) {M' : fm_M} (E : fm_E X (YM D dA ad) (some (.int r)) M' (some .int)) : ∀ (k : Nat) (M : fm_M) (l1 : Int32) (l2 : Int32), fX9_hangs_2 n a0 k M l1 l2 = some (r, M') → fm_G X (YM D dA ad) (0, 0) 3 M 2 [(0, .ref (ad a0)), (1, .int l1), (2, .int l2)] [] := by
  intro k
  induction k with
  | zero =>
    intro M l1 l2 hf
    rw [fX9_hangs_2] at hf
    cases hf
  | succ k ih =>
    intro M l1 l2 hf
    rw [fX9_hangs_2] at hf
    refine fm_aload_n (pc := 2) F dX9_hangs_2 0 rfl ?_
    refine fm_iconst (v := 2) (pc := 3) F dX9_hangs_3 (by decide) ?_
    refine fm_iload_n (pc := 4) F dX9_hangs_4 2 rfl ?_
    refine fm_iadd (pc := 5) F dX9_hangs_5 ?_
    obtain ⟨b1, hf⟩ := fm_b_inv hf
    refine fm_iald (pc := 6) F dX9_hangs_6 a0 ha0.lt (ha0.mk _ _) b1 ?_
    refine fm_iload_n (pc := 7) F dX9_hangs_7 1 rfl ?_
    refine fm_icmp_eq (tgt := 17) (pc := 8) F dX9_hangs_8 (by decide) (fun c2 => ?_) (fun c2 => ?_)
    · replace hf := fm_ip c2 hf
      refine fm_iload_n (pc := 17) F dX9_hangs_17 2 rfl ?_
      exact fm_iret (pc := 18) F E hf dX9_hangs_18
    · replace hf := fm_in c2 hf
      refine fm_iinc (v := (l2 + 1)) (lv' := [(2, .int (l2 + 1)), (0, .ref (ad a0)), (1, .int l1)]) (pc := 11) F dX9_hangs_11 2 rfl rfl (fm_lt rfl) rfl ?_
      refine fm_goto (tgt := 2) (pc := 14) F dX9_hangs_14 (by decide) ?_
      refine fm_pick [1, 2, 0] rfl ?_
      exact ih _ _ _ hf
set_option maxHeartbeats 4000000 in
theorem mX9_hangs {l : Launch} {D : va_G} {dA : Nat → ClassId} {ad : Nat → Nat} {n : Nat} {a0 : Nat} (ha0 : fm_r56 a0)  (inj : ∀ i j, i < 20 → j < 20 → ad i = ad j → i = j) {M M' : fm_M} {l1 : Int32} {r : Int32} (hf : fX9_hangs n a0 M l1 = some (r, M')) : fm_C l yX9_hangs (ws_ yX9_hangs cX9_hangs 3 (some .int)) rmX9_hangs (YM D dA ad) [.ref (ad a0), .int l1] M (some (.int r)) M' := by
  refine fm_enter (by decide) rfl (fm_le rfl) inj ?_
  intro X hXl F E
  subst hXl
  unfold fX9_hangs at hf
  show fm_G X (YM D dA ad) (0, 0) 3 M 0 [(0, .ref (ad a0)), (1, .int l1)] []
  refine fm_iconst (v := 0) (pc := 0) F dX9_hangs_0 (by decide) ?_
  refine fm_istore_n (lv' := [(2, .int 0), (0, .ref (ad a0)), (1, .int l1)]) (pc := 1) F dX9_hangs_1 rfl (fm_lt rfl) rfl ?_
  refine fm_pick [1, 2, 0] rfl ?_
  exact wX9_hangs_2 ha0 F E n _ _ _ hf
abbrev rmX9_isDumb : Room := { frames := 2, cells := 0, slots := 0, locals := 80 }
def fX9_isDumb_4 (n : Nat) : Nat → fm_M → Int32 → Int32 → Int32 → Option (Int32 × fm_M)
  | 0, _, _, _, _ => none
  | k + 1, M, l1, l2, l3 =>
    if (M.1 2 0) ≤ l3 then
      fm_bz l2 (some (l2, M))
    else
      if l2 = 0 then
        fm_b ((6 * l1) + l3) 72 <|
        if (M.1 6 ((6 * l1) + l3).toNatClampNeg) ≤ 0 then
          fX9_isDumb_4 n k M l1 0 (l3 + 1)
        else
          fm_b (2 + l3) 56 <|
          fm_b (M.1 11 (2 + l3).toNatClampNeg) 12 <|
          fm_b (2 + l1) 56 <|
          fm_b (M.1 11 (2 + l1).toNatClampNeg) 12 <|
          if (M.1 5 (M.1 11 (2 + l3).toNatClampNeg).toNatClampNeg) = (M.1 5 (M.1 11 (2 + l1).toNatClampNeg).toNatClampNeg) then
            fX9_isDumb_4 n k M l1 1 (l3 + 1)
          else
            fX9_isDumb_4 n k M l1 0 (l3 + 1)
      else
        fX9_isDumb_4 n k M l1 1 (l3 + 1)
def fX9_isDumb (n : Nat) (M : fm_M) (l1 : Int32) : Option (Int32 × fm_M) :=
  fX9_isDumb_4 n n M l1 0 0
theorem hdX9_isDumb : yX9_isDumb.cls = RX9 ∧ yX9_isDumb.cls ≠ "java/lang/invoke/MethodHandle" ∧ yX9_isDumb.cls ≠ "java/lang/invoke/VarHandle" ∧ (parseMethodDescriptor yX9_isDumb.desc).map (fun d => d.parameters.length) = some 1 := by decide +kernel
set_option maxHeartbeats 4000000 in
theorem wX9_isDumb_4 {X : fm_X} {D : va_G} {dA : Nat → ClassId} {ad : Nat → Nat} {n : Nat}  {r : Int32} (F : fm_F X (YM D dA ad) cX9_isDumb 4 RX9 rmX9_isDumb) {M' : fm_M} (E : fm_E X (YM D dA ad) (some (.int r)) M' (some .boolean)) : ∀ (k : Nat) (M : fm_M) (l1 : Int32) (l2 : Int32) (l3 : Int32), fX9_isDumb_4 n k M l1 l2 l3 = some (r, M') → fm_G X (YM D dA ad) (0, 0) 4 M 4 [(0, .ref (ad 0)), (1, .int l1), (2, .int l2), (3, .int l3)] [] := by
  intro k
  induction k with
  | zero =>
    intro M l1 l2 l3 hf
    rw [fX9_isDumb_4] at hf
    cases hf
  | succ k ih =>
    intro M l1 l2 l3 hf
    rw [fX9_isDumb_4] at hf
    refine fm_iload_n (pc := 4) F dX9_isDumb_4 3 rfl ?_
    refine fm_aload_n (pc := 5) F dX9_isDumb_5 0 rfl ?_
    refine fm_get (v := .ref (ad 2)) (pc := 6) F (ci := 9) (T := TX9) (n := 29) rfl in_X9 9 (fm_lt rfl) dX9_isDumb_6 q804 0 (fm_lt rfl) rfl rfl ?_
    refine fm_iconst (v := 0) (pc := 9) F dX9_isDumb_9 (by decide) ?_
    refine fm_ialdK (pc := 10) F dX9_isDumb_10 2 (fm_lt rfl) rfl 0 (fm_ok (by decide)) rfl ?_
    refine fm_icmp_ge (tgt := 73) (pc := 11) F dX9_isDumb_11 (by decide) (fun c1 => ?_) (fun c1 => ?_)
    · replace hf := fm_ip c1 hf
      refine fm_iload_n (pc := 73) F dX9_isDumb_73 2 rfl ?_
      obtain ⟨b2, hf⟩ := fm_bz_inv hf
      exact fm_zret (pc := 74) F E b2 hf dX9_isDumb_74
    · replace hf := fm_in c1 hf
      refine fm_iload_n (pc := 14) F dX9_isDumb_14 2 rfl ?_
      refine fm_if_ne (tgt := 61) (pc := 15) F dX9_isDumb_15 (by decide) (fun c3 => ?_) (fun c3 => ?_)
      · replace hf := fm_in c3 hf
        refine fm_iconst (v := 1) (pc := 61) F dX9_isDumb_61 (by decide) ?_
        refine fm_goto (tgt := 66) (pc := 62) F dX9_isDumb_62 (by decide) ?_
        refine fm_istore_n (lv' := [(2, .int 1), (0, .ref (ad 0)), (1, .int l1), (3, .int l3)]) (pc := 66) F dX9_isDumb_66 rfl (fm_lt rfl) rfl ?_
        refine fm_iinc (v := (l3 + 1)) (lv' := [(3, .int (l3 + 1)), (2, .int 1), (0, .ref (ad 0)), (1, .int l1)]) (pc := 67) F dX9_isDumb_67 3 rfl rfl (fm_lt rfl) rfl ?_
        refine fm_goto (tgt := 4) (pc := 70) F dX9_isDumb_70 (by decide) ?_
        refine fm_pick [2, 3, 1, 0] rfl ?_
        exact ih _ _ _ _ hf
      · replace hf := fm_ip c3 hf
        refine fm_aload_n (pc := 18) F dX9_isDumb_18 0 rfl ?_
        refine fm_get (v := .ref (ad 6)) (pc := 19) F (ci := 9) (T := TX9) (n := 29) rfl in_X9 13 (fm_lt rfl) dX9_isDumb_19 q808 0 (fm_lt rfl) rfl rfl ?_
        refine fm_bipush (v := 6) (pc := 22) F dX9_isDumb_22 (by decide) ?_
        refine fm_iload_n (pc := 24) F dX9_isDumb_24 1 rfl ?_
        refine fm_imul (pc := 25) F dX9_isDumb_25 ?_
        refine fm_iload_n (pc := 26) F dX9_isDumb_26 3 rfl ?_
        refine fm_iadd (pc := 27) F dX9_isDumb_27 ?_
        obtain ⟨b4, hf⟩ := fm_b_inv hf
        refine fm_iald (pc := 28) F dX9_isDumb_28 6 (fm_lt rfl) rfl b4 ?_
        refine fm_if_le (tgt := 65) (pc := 29) F dX9_isDumb_29 (by decide) (fun c5 => ?_) (fun c5 => ?_)
        · replace hf := fm_ip c5 hf
          refine fm_iconst (v := 0) (pc := 65) F dX9_isDumb_65 (by decide) ?_
          refine fm_istore_n (lv' := [(2, .int 0), (0, .ref (ad 0)), (1, .int l1), (3, .int l3)]) (pc := 66) F dX9_isDumb_66 rfl (fm_lt rfl) rfl ?_
          refine fm_iinc (v := (l3 + 1)) (lv' := [(3, .int (l3 + 1)), (2, .int 0), (0, .ref (ad 0)), (1, .int l1)]) (pc := 67) F dX9_isDumb_67 3 rfl rfl (fm_lt rfl) rfl ?_
          refine fm_goto (tgt := 4) (pc := 70) F dX9_isDumb_70 (by decide) ?_
          refine fm_pick [2, 3, 1, 0] rfl ?_
          exact ih _ _ _ _ hf
        · replace hf := fm_in c5 hf
          refine fm_aload_n (pc := 32) F dX9_isDumb_32 0 rfl ?_
          refine fm_get (v := .ref (ad 5)) (pc := 33) F (ci := 9) (T := TX9) (n := 29) rfl in_X9 12 (fm_lt rfl) dX9_isDumb_33 q807 0 (fm_lt rfl) rfl rfl ?_
          refine fm_aload_n (pc := 36) F dX9_isDumb_36 0 rfl ?_
          refine fm_get (v := .ref (ad 11)) (pc := 37) F (ci := 9) (T := TX9) (n := 29) rfl in_X9 18 (fm_lt rfl) dX9_isDumb_37 q813 0 (fm_lt rfl) rfl rfl ?_
          refine fm_iconst (v := 2) (pc := 40) F dX9_isDumb_40 (by decide) ?_
          refine fm_iload_n (pc := 41) F dX9_isDumb_41 3 rfl ?_
          refine fm_iadd (pc := 42) F dX9_isDumb_42 ?_
          obtain ⟨b6, hf⟩ := fm_b_inv hf
          refine fm_iald (pc := 43) F dX9_isDumb_43 11 (fm_lt rfl) rfl b6 ?_
          obtain ⟨b7, hf⟩ := fm_b_inv hf
          refine fm_iald (pc := 44) F dX9_isDumb_44 5 (fm_lt rfl) rfl b7 ?_
          refine fm_aload_n (pc := 45) F dX9_isDumb_45 0 rfl ?_
          refine fm_get (v := .ref (ad 5)) (pc := 46) F (ci := 9) (T := TX9) (n := 29) rfl in_X9 12 (fm_lt rfl) dX9_isDumb_46 q807 0 (fm_lt rfl) rfl rfl ?_
          refine fm_aload_n (pc := 49) F dX9_isDumb_49 0 rfl ?_
          refine fm_get (v := .ref (ad 11)) (pc := 50) F (ci := 9) (T := TX9) (n := 29) rfl in_X9 18 (fm_lt rfl) dX9_isDumb_50 q813 0 (fm_lt rfl) rfl rfl ?_
          refine fm_iconst (v := 2) (pc := 53) F dX9_isDumb_53 (by decide) ?_
          refine fm_iload_n (pc := 54) F dX9_isDumb_54 1 rfl ?_
          refine fm_iadd (pc := 55) F dX9_isDumb_55 ?_
          obtain ⟨b8, hf⟩ := fm_b_inv hf
          refine fm_iald (pc := 56) F dX9_isDumb_56 11 (fm_lt rfl) rfl b8 ?_
          obtain ⟨b9, hf⟩ := fm_b_inv hf
          refine fm_iald (pc := 57) F dX9_isDumb_57 5 (fm_lt rfl) rfl b9 ?_
          refine fm_icmp_ne (tgt := 65) (pc := 58) F dX9_isDumb_58 (by decide) (fun c10 => ?_) (fun c10 => ?_)
          · replace hf := fm_in c10 hf
            refine fm_iconst (v := 0) (pc := 65) F dX9_isDumb_65 (by decide) ?_
            refine fm_istore_n (lv' := [(2, .int 0), (0, .ref (ad 0)), (1, .int l1), (3, .int l3)]) (pc := 66) F dX9_isDumb_66 rfl (fm_lt rfl) rfl ?_
            refine fm_iinc (v := (l3 + 1)) (lv' := [(3, .int (l3 + 1)), (2, .int 0), (0, .ref (ad 0)), (1, .int l1)]) (pc := 67) F dX9_isDumb_67 3 rfl rfl (fm_lt rfl) rfl ?_
            refine fm_goto (tgt := 4) (pc := 70) F dX9_isDumb_70 (by decide) ?_
            refine fm_pick [2, 3, 1, 0] rfl ?_
            exact ih _ _ _ _ hf
          · replace hf := fm_ip c10 hf
            refine fm_iconst (v := 1) (pc := 61) F dX9_isDumb_61 (by decide) ?_
            refine fm_goto (tgt := 66) (pc := 62) F dX9_isDumb_62 (by decide) ?_
            refine fm_istore_n (lv' := [(2, .int 1), (0, .ref (ad 0)), (1, .int l1), (3, .int l3)]) (pc := 66) F dX9_isDumb_66 rfl (fm_lt rfl) rfl ?_
            refine fm_iinc (v := (l3 + 1)) (lv' := [(3, .int (l3 + 1)), (2, .int 1), (0, .ref (ad 0)), (1, .int l1)]) (pc := 67) F dX9_isDumb_67 3 rfl rfl (fm_lt rfl) rfl ?_
            refine fm_goto (tgt := 4) (pc := 70) F dX9_isDumb_70 (by decide) ?_
            refine fm_pick [2, 3, 1, 0] rfl ?_
            exact ih _ _ _ _ hf
set_option maxHeartbeats 4000000 in
theorem mX9_isDumb {l : Launch} {D : va_G} {dA : Nat → ClassId} {ad : Nat → Nat} {n : Nat}  (inj : ∀ i j, i < 20 → j < 20 → ad i = ad j → i = j) {M M' : fm_M} {l1 : Int32} {r : Int32} (hf : fX9_isDumb n M l1 = some (r, M')) : fm_C l yX9_isDumb (ws_ yX9_isDumb cX9_isDumb 4 (some .boolean)) rmX9_isDumb (YM D dA ad) [.ref (ad 0), .int l1] M (some (.int r)) M' := by
  refine fm_enter (by decide) rfl (fm_le rfl) inj ?_
  intro X hXl F E
  subst hXl
  unfold fX9_isDumb at hf
  show fm_G X (YM D dA ad) (0, 0) 4 M 0 [(0, .ref (ad 0)), (1, .int l1)] []
  refine fm_iconst (v := 0) (pc := 0) F dX9_isDumb_0 (by decide) ?_
  refine fm_istore_n (lv' := [(2, .int 0), (0, .ref (ad 0)), (1, .int l1)]) (pc := 1) F dX9_isDumb_1 rfl (fm_lt rfl) rfl ?_
  refine fm_iconst (v := 0) (pc := 2) F dX9_isDumb_2 (by decide) ?_
  refine fm_istore_n (lv' := [(3, .int 0), (2, .int 0), (0, .ref (ad 0)), (1, .int l1)]) (pc := 3) F dX9_isDumb_3 rfl (fm_lt rfl) rfl ?_
  refine fm_pick [2, 3, 1, 0] rfl ?_
  exact wX9_isDumb_4 F E n _ _ _ _ hf
abbrev rmX9_town : Room := { frames := 4, cells := 0, slots := 0, locals := 123 }
def fX9_town (n : Nat) (M : fm_M) (l1 : Int32) (l2 : Int32) : Option (Int32 × fm_M) :=
  fm_let (fm_wr M 0 0 0) fun M1 =>
  fm_bi (fX9_isTown n M1 l1) fun r2 M3 =>
  if r2 = 0 then
    some ((-1), M3)
  else
    fm_bi (fX9_in n M3 l2 0 3) fun r7 M8 =>
    if r7 = 0 then
      some ((-1), M8)
    else
      if l2 = 0 then
        fm_b (8 + l1) 56 <|
        some ((M8.1 11 (8 + l1).toNatClampNeg), M8)
      else
        if l2 = 1 then
          fm_b (2 + l1) 56 <|
          some ((M8.1 11 (2 + l1).toNatClampNeg), M8)
        else
          if l2 = 2 then
            fm_bi (fX9_hangs n 11 M8 l1) fun r20 M21 =>
            some (r20, M21)
          else
            fm_bi (fX9_isDumb n M8 l1) fun r15 M16 =>
            if r15 = 0 then
              some (0, M16)
            else
              some (1, M16)
theorem hdX9_town : yX9_town.cls = RX9 ∧ yX9_town.cls ≠ "java/lang/invoke/MethodHandle" ∧ yX9_town.cls ≠ "java/lang/invoke/VarHandle" ∧ (parseMethodDescriptor yX9_town.desc).map (fun d => d.parameters.length) = some 2 := by decide +kernel
set_option maxHeartbeats 4000000 in
theorem mX9_town {l : Launch} {D : va_G} {dA : Nat → ClassId} {ad : Nat → Nat} {n : Nat}  (inj : ∀ i j, i < 20 → j < 20 → ad i = ad j → i = j) {M M' : fm_M} {l1 : Int32} {l2 : Int32} {r : Int32} (hf : fX9_town n M l1 l2 = some (r, M')) : fm_C l yX9_town (ws_ yX9_town cX9_town 3 (some .int)) rmX9_town (YM D dA ad) [.ref (ad 0), .int l1, .int l2] M (some (.int r)) M' := by
  refine fm_enter (by decide) rfl (fm_le rfl) inj ?_
  intro X hXl F E
  subst hXl
  unfold fX9_town at hf
  show fm_G X (YM D dA ad) (0, 0) 3 M 0 [(0, .ref (ad 0)), (1, .int l1), (2, .int l2)] []
  refine fm_aload_n (pc := 0) F dX9_town_0 0 rfl ?_
  refine fm_iconst (v := 0) (pc := 1) F dX9_town_1 (by decide) ?_
  refine fm_putI (v := 0) (pc := 2) F clX9 0 (fm_lt rfl) dX9_town_2 q795 rfl rfl 0 (fm_lt rfl) rfl (fm_lt rfl) rfl ?_
  refine fm_nameM (fun M1 eM1 => ?_)
  replace hf := fm_let_inv eM1 hf
  refine fm_aload_n (pc := 5) F dX9_town_5 0 rfl ?_
  refine fm_iload_n (pc := 6) F dX9_town_6 1 rfl ?_
  obtain ⟨r2, M3, h4, hf⟩ := fm_bi_inv hf
  refine fm_callV (As := [.int l1]) (rest := []) (pc := 7) F (ci := 9) 0 (fm_lt rfl) rfl rfl (mX9_isTown F.inj h4) q931 q933 qs25 q50 q934 ⟨rfl, rfl⟩ hdX9_isTown ⟨fm_le rfl, fm_le rfl, Nat.zero_le _, Nat.zero_le _⟩ rfl rfl (fm_le rfl) dX9_town_7 ?_
  refine fm_if_eq (tgt := 22) (pc := 10) F dX9_town_10 (by decide) (fun c6 => ?_) (fun c6 => ?_)
  · replace hf := fm_ip c6 hf
    refine fm_iconst (v := (-1)) (pc := 22) F dX9_town_22 (by decide) ?_
    exact fm_iret (pc := 23) F E hf dX9_town_23
  · replace hf := fm_in c6 hf
    refine fm_iload_n (pc := 13) F dX9_town_13 2 rfl ?_
    refine fm_iconst (v := 0) (pc := 14) F dX9_town_14 (by decide) ?_
    refine fm_iconst (v := 3) (pc := 15) F dX9_town_15 (by decide) ?_
    obtain ⟨r7, M8, h9, hf⟩ := fm_bi_inv hf
    refine fm_callS (As := [.int l2, .int 0, .int 3]) (rest := []) (pc := 16) F (mX9_in F.inj h9) q887 q888 q50 q889 ⟨rfl, rfl⟩ hdX9_in.2 ⟨fm_le rfl, fm_le rfl, Nat.zero_le _, Nat.zero_le _⟩ rfl rfl (fm_le rfl) dX9_town_16 ?_
    refine fm_if_ne (tgt := 24) (pc := 19) F dX9_town_19 (by decide) (fun c11 => ?_) (fun c11 => ?_)
    · replace hf := fm_in c11 hf
      refine fm_iload_n (pc := 24) F dX9_town_24 2 rfl ?_
      refine fm_if_ne (tgt := 40) (pc := 25) F dX9_town_25 (by decide) (fun c12 => ?_) (fun c12 => ?_)
      · replace hf := fm_in c12 hf
        refine fm_iload_n (pc := 40) F dX9_town_40 2 rfl ?_
        refine fm_iconst (v := 1) (pc := 41) F dX9_town_41 (by decide) ?_
        refine fm_icmp_ne (tgt := 56) (pc := 42) F dX9_town_42 (by decide) (fun c13 => ?_) (fun c13 => ?_)
        · replace hf := fm_in c13 hf
          refine fm_iload_n (pc := 56) F dX9_town_56 2 rfl ?_
          refine fm_iconst (v := 2) (pc := 57) F dX9_town_57 (by decide) ?_
          refine fm_icmp_ne (tgt := 72) (pc := 58) F dX9_town_58 (by decide) (fun c14 => ?_) (fun c14 => ?_)
          · replace hf := fm_in c14 hf
            refine fm_aload_n (pc := 72) F dX9_town_72 0 rfl ?_
            refine fm_iload_n (pc := 73) F dX9_town_73 1 rfl ?_
            obtain ⟨r15, M16, h17, hf⟩ := fm_bi_inv hf
            refine fm_callV (As := [.int l1]) (rest := []) (pc := 74) F (ci := 9) 0 (fm_lt rfl) rfl rfl (mX9_isDumb F.inj h17) q938 q940 qs26 q50 q941 ⟨rfl, rfl⟩ hdX9_isDumb ⟨fm_le rfl, fm_le rfl, Nat.zero_le _, Nat.zero_le _⟩ rfl rfl (fm_le rfl) dX9_town_74 ?_
            refine fm_if_eq (tgt := 84) (pc := 77) F dX9_town_77 (by decide) (fun c19 => ?_) (fun c19 => ?_)
            · replace hf := fm_ip c19 hf
              refine fm_iconst (v := 0) (pc := 84) F dX9_town_84 (by decide) ?_
              exact fm_iret (pc := 85) F E hf dX9_town_85
            · replace hf := fm_in c19 hf
              refine fm_iconst (v := 1) (pc := 80) F dX9_town_80 (by decide) ?_
              refine fm_goto (tgt := 85) (pc := 81) F dX9_town_81 (by decide) ?_
              exact fm_iret (pc := 85) F E hf dX9_town_85
          · replace hf := fm_ip c14 hf
            refine fm_aload_n (pc := 61) F dX9_town_61 0 rfl ?_
            refine fm_get (v := .ref (ad 11)) (pc := 62) F (ci := 9) (T := TX9) (n := 29) rfl in_X9 18 (fm_lt rfl) dX9_town_62 q813 0 (fm_lt rfl) rfl rfl ?_
            refine fm_iload_n (pc := 65) F dX9_town_65 1 rfl ?_
            obtain ⟨r20, M21, h22, hf⟩ := fm_bi_inv hf
            refine fm_callS (As := [.ref (ad 11), .int l1]) (rest := []) (pc := 66) F (mX9_hangs (Or.inl rfl) F.inj h22) q935 q936 q50 q937 ⟨rfl, rfl⟩ hdX9_hangs.2 ⟨fm_le rfl, fm_le rfl, Nat.zero_le _, Nat.zero_le _⟩ rfl rfl (fm_le rfl) dX9_town_66 ?_
            refine fm_goto (tgt := 85) (pc := 69) F dX9_town_69 (by decide) ?_
            exact fm_iret (pc := 85) F E hf dX9_town_85
        · replace hf := fm_ip c13 hf
          refine fm_aload_n (pc := 45) F dX9_town_45 0 rfl ?_
          refine fm_get (v := .ref (ad 11)) (pc := 46) F (ci := 9) (T := TX9) (n := 29) rfl in_X9 18 (fm_lt rfl) dX9_town_46 q813 0 (fm_lt rfl) rfl rfl ?_
          refine fm_iconst (v := 2) (pc := 49) F dX9_town_49 (by decide) ?_
          refine fm_iload_n (pc := 50) F dX9_town_50 1 rfl ?_
          refine fm_iadd (pc := 51) F dX9_town_51 ?_
          obtain ⟨b24, hf⟩ := fm_b_inv hf
          refine fm_iald (pc := 52) F dX9_town_52 11 (fm_lt rfl) rfl b24 ?_
          refine fm_goto (tgt := 85) (pc := 53) F dX9_town_53 (by decide) ?_
          exact fm_iret (pc := 85) F E hf dX9_town_85
      · replace hf := fm_ip c12 hf
        refine fm_aload_n (pc := 28) F dX9_town_28 0 rfl ?_
        refine fm_get (v := .ref (ad 11)) (pc := 29) F (ci := 9) (T := TX9) (n := 29) rfl in_X9 18 (fm_lt rfl) dX9_town_29 q813 0 (fm_lt rfl) rfl rfl ?_
        refine fm_bipush (v := 8) (pc := 32) F dX9_town_32 (by decide) ?_
        refine fm_iload_n (pc := 34) F dX9_town_34 1 rfl ?_
        refine fm_iadd (pc := 35) F dX9_town_35 ?_
        obtain ⟨b25, hf⟩ := fm_b_inv hf
        refine fm_iald (pc := 36) F dX9_town_36 11 (fm_lt rfl) rfl b25 ?_
        refine fm_goto (tgt := 85) (pc := 37) F dX9_town_37 (by decide) ?_
        exact fm_iret (pc := 85) F E hf dX9_town_85
    · replace hf := fm_ip c11 hf
      refine fm_iconst (v := (-1)) (pc := 22) F dX9_town_22 (by decide) ?_
      exact fm_iret (pc := 23) F E hf dX9_town_23
abbrev rmX9_fits : Room := { frames := 2, cells := 0, slots := 0, locals := 80 }
def fX9_fits_4 (n : Nat) : Nat → fm_M → Int32 → Int32 → Int32 → Option (Int32 × fm_M)
  | 0, _, _, _, _ => none
  | k + 1, M, l1, l2, l3 =>
    if (M.1 2 0) ≤ l3 then
      some (l2, M)
    else
      fm_b (8 + l3) 56 <|
      fm_b l1 12 <|
      if (M.1 11 (8 + l3).toNatClampNeg) < (M.1 4 l1.toNatClampNeg) then
        fX9_fits_4 n k M l1 (l2 ||| 0) (l3 + 1)
      else
        fm_let (l2 ||| (1 <<< (l3 &&& 31))) fun x5 =>
        fX9_fits_4 n k M l1 x5 (l3 + 1)
def fX9_fits (n : Nat) (M : fm_M) (l1 : Int32) : Option (Int32 × fm_M) :=
  fX9_fits_4 n n M l1 0 0
theorem hdX9_fits : yX9_fits.cls = RX9 ∧ yX9_fits.cls ≠ "java/lang/invoke/MethodHandle" ∧ yX9_fits.cls ≠ "java/lang/invoke/VarHandle" ∧ (parseMethodDescriptor yX9_fits.desc).map (fun d => d.parameters.length) = some 1 := by decide +kernel
set_option maxHeartbeats 4000000 in
theorem wX9_fits_4 {X : fm_X} {D : va_G} {dA : Nat → ClassId} {ad : Nat → Nat} {n : Nat}  {r : Int32} (F : fm_F X (YM D dA ad) cX9_fits 4 RX9 rmX9_fits) {M' : fm_M} (E : fm_E X (YM D dA ad) (some (.int r)) M' (some .int)) : ∀ (k : Nat) (M : fm_M) (l1 : Int32) (l2 : Int32) (l3 : Int32), fX9_fits_4 n k M l1 l2 l3 = some (r, M') → fm_G X (YM D dA ad) (0, 0) 4 M 4 [(0, .ref (ad 0)), (1, .int l1), (2, .int l2), (3, .int l3)] [] := by
  intro k
  induction k with
  | zero =>
    intro M l1 l2 l3 hf
    rw [fX9_fits_4] at hf
    cases hf
  | succ k ih =>
    intro M l1 l2 l3 hf
    rw [fX9_fits_4] at hf
    refine fm_iload_n (pc := 4) F dX9_fits_4 3 rfl ?_
    refine fm_aload_n (pc := 5) F dX9_fits_5 0 rfl ?_
    refine fm_get (v := .ref (ad 2)) (pc := 6) F (ci := 9) (T := TX9) (n := 29) rfl in_X9 9 (fm_lt rfl) dX9_fits_6 q804 0 (fm_lt rfl) rfl rfl ?_
    refine fm_iconst (v := 0) (pc := 9) F dX9_fits_9 (by decide) ?_
    refine fm_ialdK (pc := 10) F dX9_fits_10 2 (fm_lt rfl) rfl 0 (fm_ok (by decide)) rfl ?_
    refine fm_icmp_ge (tgt := 48) (pc := 11) F dX9_fits_11 (by decide) (fun c1 => ?_) (fun c1 => ?_)
    · replace hf := fm_ip c1 hf
      refine fm_iload_n (pc := 48) F dX9_fits_48 2 rfl ?_
      exact fm_iret (pc := 49) F E hf dX9_fits_49
    · replace hf := fm_in c1 hf
      refine fm_iload_n (pc := 14) F dX9_fits_14 2 rfl ?_
      refine fm_aload_n (pc := 15) F dX9_fits_15 0 rfl ?_
      refine fm_get (v := .ref (ad 11)) (pc := 16) F (ci := 9) (T := TX9) (n := 29) rfl in_X9 18 (fm_lt rfl) dX9_fits_16 q813 0 (fm_lt rfl) rfl rfl ?_
      refine fm_bipush (v := 8) (pc := 19) F dX9_fits_19 (by decide) ?_
      refine fm_iload_n (pc := 21) F dX9_fits_21 3 rfl ?_
      refine fm_iadd (pc := 22) F dX9_fits_22 ?_
      obtain ⟨b2, hf⟩ := fm_b_inv hf
      refine fm_iald (pc := 23) F dX9_fits_23 11 (fm_lt rfl) rfl b2 ?_
      refine fm_aload_n (pc := 24) F dX9_fits_24 0 rfl ?_
      refine fm_get (v := .ref (ad 4)) (pc := 25) F (ci := 9) (T := TX9) (n := 29) rfl in_X9 11 (fm_lt rfl) dX9_fits_25 q806 0 (fm_lt rfl) rfl rfl ?_
      refine fm_iload_n (pc := 28) F dX9_fits_28 1 rfl ?_
      obtain ⟨b3, hf⟩ := fm_b_inv hf
      refine fm_iald (pc := 29) F dX9_fits_29 4 (fm_lt rfl) rfl b3 ?_
      refine fm_icmp_lt (tgt := 39) (pc := 30) F dX9_fits_30 (by decide) (fun c4 => ?_) (fun c4 => ?_)
      · replace hf := fm_ip c4 hf
        refine fm_iconst (v := 0) (pc := 39) F dX9_fits_39 (by decide) ?_
        refine fm_ior (pc := 40) F dX9_fits_40 ?_
        refine fm_istore_n (lv' := [(2, .int (l2 ||| 0)), (0, .ref (ad 0)), (1, .int l1), (3, .int l3)]) (pc := 41) F dX9_fits_41 rfl (fm_lt rfl) rfl ?_
        refine fm_iinc (v := (l3 + 1)) (lv' := [(3, .int (l3 + 1)), (2, .int (l2 ||| 0)), (0, .ref (ad 0)), (1, .int l1)]) (pc := 42) F dX9_fits_42 3 rfl rfl (fm_lt rfl) rfl ?_
        refine fm_goto (tgt := 4) (pc := 45) F dX9_fits_45 (by decide) ?_
        refine fm_pick [2, 3, 1, 0] rfl ?_
        exact ih _ _ _ _ hf
      · replace hf := fm_in c4 hf
        refine fm_iconst (v := 1) (pc := 33) F dX9_fits_33 (by decide) ?_
        refine fm_iload_n (pc := 34) F dX9_fits_34 3 rfl ?_
        refine fm_ishl (pc := 35) F dX9_fits_35 ?_
        refine fm_goto (tgt := 40) (pc := 36) F dX9_fits_36 (by decide) ?_
        refine fm_ior (pc := 40) F dX9_fits_40 ?_
        refine fm_topi (fun x5 ex5 => ?_)
        replace hf := fm_let_inv ex5 hf
        refine fm_istore_n (lv' := [(2, .int x5), (0, .ref (ad 0)), (1, .int l1), (3, .int l3)]) (pc := 41) F dX9_fits_41 rfl (fm_lt rfl) rfl ?_
        refine fm_iinc (v := (l3 + 1)) (lv' := [(3, .int (l3 + 1)), (2, .int x5), (0, .ref (ad 0)), (1, .int l1)]) (pc := 42) F dX9_fits_42 3 rfl rfl (fm_lt rfl) rfl ?_
        refine fm_goto (tgt := 4) (pc := 45) F dX9_fits_45 (by decide) ?_
        refine fm_pick [2, 3, 1, 0] rfl ?_
        exact ih _ _ _ _ hf
set_option maxHeartbeats 4000000 in
theorem mX9_fits {l : Launch} {D : va_G} {dA : Nat → ClassId} {ad : Nat → Nat} {n : Nat}  (inj : ∀ i j, i < 20 → j < 20 → ad i = ad j → i = j) {M M' : fm_M} {l1 : Int32} {r : Int32} (hf : fX9_fits n M l1 = some (r, M')) : fm_C l yX9_fits (ws_ yX9_fits cX9_fits 4 (some .int)) rmX9_fits (YM D dA ad) [.ref (ad 0), .int l1] M (some (.int r)) M' := by
  refine fm_enter (by decide) rfl (fm_le rfl) inj ?_
  intro X hXl F E
  subst hXl
  unfold fX9_fits at hf
  show fm_G X (YM D dA ad) (0, 0) 4 M 0 [(0, .ref (ad 0)), (1, .int l1)] []
  refine fm_iconst (v := 0) (pc := 0) F dX9_fits_0 (by decide) ?_
  refine fm_istore_n (lv' := [(2, .int 0), (0, .ref (ad 0)), (1, .int l1)]) (pc := 1) F dX9_fits_1 rfl (fm_lt rfl) rfl ?_
  refine fm_iconst (v := 0) (pc := 2) F dX9_fits_2 (by decide) ?_
  refine fm_istore_n (lv' := [(3, .int 0), (2, .int 0), (0, .ref (ad 0)), (1, .int l1)]) (pc := 3) F dX9_fits_3 rfl (fm_lt rfl) rfl ?_
  refine fm_pick [2, 3, 1, 0] rfl ?_
  exact wX9_fits_4 F E n _ _ _ _ hf
abbrev rmX9_bell : Room := { frames := 4, cells := 0, slots := 0, locals := 123 }
def fX9_bell (n : Nat) (M : fm_M) (l1 : Int32) (l2 : Int32) : Option (Int32 × fm_M) :=
  fm_let (fm_wr M 0 0 0) fun M1 =>
  fm_bi (fX9_isTown n M1 l1) fun r2 M3 =>
  if r2 = 0 then
    some ((-1), M3)
  else
    fm_bi (fX9_in n M3 l2 0 3) fun r7 M8 =>
    if r7 = 0 then
      some ((-1), M8)
    else
      if l2 = 0 then
        fm_b l1 12 <|
        some ((M8.1 4 l1.toNatClampNeg), M8)
      else
        if l2 = 1 then
          fm_b l1 12 <|
          some ((M8.1 5 l1.toNatClampNeg), M8)
        else
          if l2 = 2 then
            fm_bi (fX9_hangs n 11 M8 l1) fun r19 M20 =>
            some (r19, M20)
          else
            fm_bi (fX9_fits n M8 l1) fun r15 M16 =>
            some (r15, M16)
theorem hdX9_bell : yX9_bell.cls = RX9 ∧ yX9_bell.cls ≠ "java/lang/invoke/MethodHandle" ∧ yX9_bell.cls ≠ "java/lang/invoke/VarHandle" ∧ (parseMethodDescriptor yX9_bell.desc).map (fun d => d.parameters.length) = some 2 := by decide +kernel
set_option maxHeartbeats 4000000 in
theorem mX9_bell {l : Launch} {D : va_G} {dA : Nat → ClassId} {ad : Nat → Nat} {n : Nat}  (inj : ∀ i j, i < 20 → j < 20 → ad i = ad j → i = j) {M M' : fm_M} {l1 : Int32} {l2 : Int32} {r : Int32} (hf : fX9_bell n M l1 l2 = some (r, M')) : fm_C l yX9_bell (ws_ yX9_bell cX9_bell 3 (some .int)) rmX9_bell (YM D dA ad) [.ref (ad 0), .int l1, .int l2] M (some (.int r)) M' := by
  refine fm_enter (by decide) rfl (fm_le rfl) inj ?_
  intro X hXl F E
  subst hXl
  unfold fX9_bell at hf
  show fm_G X (YM D dA ad) (0, 0) 3 M 0 [(0, .ref (ad 0)), (1, .int l1), (2, .int l2)] []
  refine fm_aload_n (pc := 0) F dX9_bell_0 0 rfl ?_
  refine fm_iconst (v := 0) (pc := 1) F dX9_bell_1 (by decide) ?_
  refine fm_putI (v := 0) (pc := 2) F clX9 0 (fm_lt rfl) dX9_bell_2 q795 rfl rfl 0 (fm_lt rfl) rfl (fm_lt rfl) rfl ?_
  refine fm_nameM (fun M1 eM1 => ?_)
  replace hf := fm_let_inv eM1 hf
  refine fm_aload_n (pc := 5) F dX9_bell_5 0 rfl ?_
  refine fm_iload_n (pc := 6) F dX9_bell_6 1 rfl ?_
  obtain ⟨r2, M3, h4, hf⟩ := fm_bi_inv hf
  refine fm_callV (As := [.int l1]) (rest := []) (pc := 7) F (ci := 9) 0 (fm_lt rfl) rfl rfl (mX9_isTown F.inj h4) q931 q933 qs25 q50 q934 ⟨rfl, rfl⟩ hdX9_isTown ⟨fm_le rfl, fm_le rfl, Nat.zero_le _, Nat.zero_le _⟩ rfl rfl (fm_le rfl) dX9_bell_7 ?_
  refine fm_if_eq (tgt := 22) (pc := 10) F dX9_bell_10 (by decide) (fun c6 => ?_) (fun c6 => ?_)
  · replace hf := fm_ip c6 hf
    refine fm_iconst (v := (-1)) (pc := 22) F dX9_bell_22 (by decide) ?_
    exact fm_iret (pc := 23) F E hf dX9_bell_23
  · replace hf := fm_in c6 hf
    refine fm_iload_n (pc := 13) F dX9_bell_13 2 rfl ?_
    refine fm_iconst (v := 0) (pc := 14) F dX9_bell_14 (by decide) ?_
    refine fm_iconst (v := 3) (pc := 15) F dX9_bell_15 (by decide) ?_
    obtain ⟨r7, M8, h9, hf⟩ := fm_bi_inv hf
    refine fm_callS (As := [.int l2, .int 0, .int 3]) (rest := []) (pc := 16) F (mX9_in F.inj h9) q887 q888 q50 q889 ⟨rfl, rfl⟩ hdX9_in.2 ⟨fm_le rfl, fm_le rfl, Nat.zero_le _, Nat.zero_le _⟩ rfl rfl (fm_le rfl) dX9_bell_16 ?_
    refine fm_if_ne (tgt := 24) (pc := 19) F dX9_bell_19 (by decide) (fun c11 => ?_) (fun c11 => ?_)
    · replace hf := fm_in c11 hf
      refine fm_iload_n (pc := 24) F dX9_bell_24 2 rfl ?_
      refine fm_if_ne (tgt := 37) (pc := 25) F dX9_bell_25 (by decide) (fun c12 => ?_) (fun c12 => ?_)
      · replace hf := fm_in c12 hf
        refine fm_iload_n (pc := 37) F dX9_bell_37 2 rfl ?_
        refine fm_iconst (v := 1) (pc := 38) F dX9_bell_38 (by decide) ?_
        refine fm_icmp_ne (tgt := 51) (pc := 39) F dX9_bell_39 (by decide) (fun c13 => ?_) (fun c13 => ?_)
        · replace hf := fm_in c13 hf
          refine fm_iload_n (pc := 51) F dX9_bell_51 2 rfl ?_
          refine fm_iconst (v := 2) (pc := 52) F dX9_bell_52 (by decide) ?_
          refine fm_icmp_ne (tgt := 67) (pc := 53) F dX9_bell_53 (by decide) (fun c14 => ?_) (fun c14 => ?_)
          · replace hf := fm_in c14 hf
            refine fm_aload_n (pc := 67) F dX9_bell_67 0 rfl ?_
            refine fm_iload_n (pc := 68) F dX9_bell_68 1 rfl ?_
            obtain ⟨r15, M16, h17, hf⟩ := fm_bi_inv hf
            refine fm_callV (As := [.int l1]) (rest := []) (pc := 69) F (ci := 9) 0 (fm_lt rfl) rfl rfl (mX9_fits F.inj h17) q946 q948 qs27 q50 q949 ⟨rfl, rfl⟩ hdX9_fits ⟨fm_le rfl, fm_le rfl, Nat.zero_le _, Nat.zero_le _⟩ rfl rfl (fm_le rfl) dX9_bell_69 ?_
            exact fm_iret (pc := 72) F E hf dX9_bell_72
          · replace hf := fm_ip c14 hf
            refine fm_aload_n (pc := 56) F dX9_bell_56 0 rfl ?_
            refine fm_get (v := .ref (ad 11)) (pc := 57) F (ci := 9) (T := TX9) (n := 29) rfl in_X9 18 (fm_lt rfl) dX9_bell_57 q813 0 (fm_lt rfl) rfl rfl ?_
            refine fm_iload_n (pc := 60) F dX9_bell_60 1 rfl ?_
            obtain ⟨r19, M20, h21, hf⟩ := fm_bi_inv hf
            refine fm_callS (As := [.ref (ad 11), .int l1]) (rest := []) (pc := 61) F (mX9_hangs (Or.inl rfl) F.inj h21) q935 q936 q50 q937 ⟨rfl, rfl⟩ hdX9_hangs.2 ⟨fm_le rfl, fm_le rfl, Nat.zero_le _, Nat.zero_le _⟩ rfl rfl (fm_le rfl) dX9_bell_61 ?_
            refine fm_goto (tgt := 72) (pc := 64) F dX9_bell_64 (by decide) ?_
            exact fm_iret (pc := 72) F E hf dX9_bell_72
        · replace hf := fm_ip c13 hf
          refine fm_aload_n (pc := 42) F dX9_bell_42 0 rfl ?_
          refine fm_get (v := .ref (ad 5)) (pc := 43) F (ci := 9) (T := TX9) (n := 29) rfl in_X9 12 (fm_lt rfl) dX9_bell_43 q807 0 (fm_lt rfl) rfl rfl ?_
          refine fm_iload_n (pc := 46) F dX9_bell_46 1 rfl ?_
          obtain ⟨b23, hf⟩ := fm_b_inv hf
          refine fm_iald (pc := 47) F dX9_bell_47 5 (fm_lt rfl) rfl b23 ?_
          refine fm_goto (tgt := 72) (pc := 48) F dX9_bell_48 (by decide) ?_
          exact fm_iret (pc := 72) F E hf dX9_bell_72
      · replace hf := fm_ip c12 hf
        refine fm_aload_n (pc := 28) F dX9_bell_28 0 rfl ?_
        refine fm_get (v := .ref (ad 4)) (pc := 29) F (ci := 9) (T := TX9) (n := 29) rfl in_X9 11 (fm_lt rfl) dX9_bell_29 q806 0 (fm_lt rfl) rfl rfl ?_
        refine fm_iload_n (pc := 32) F dX9_bell_32 1 rfl ?_
        obtain ⟨b24, hf⟩ := fm_b_inv hf
        refine fm_iald (pc := 33) F dX9_bell_33 4 (fm_lt rfl) rfl b24 ?_
        refine fm_goto (tgt := 72) (pc := 34) F dX9_bell_34 (by decide) ?_
        exact fm_iret (pc := 72) F E hf dX9_bell_72
    · replace hf := fm_ip c11 hf
      refine fm_iconst (v := (-1)) (pc := 22) F dX9_bell_22 (by decide) ?_
      exact fm_iret (pc := 23) F E hf dX9_bell_23
abbrev rmX9_far : Room := { frames := 4, cells := 0, slots := 0, locals := 123 }
def fX9_far (n : Nat) (M : fm_M) (l1 : Int32) (l2 : Int32) : Option (Int32 × fm_M) :=
  fm_let (fm_wr M 0 0 0) fun M1 =>
  fm_bi (fX9_isTown n M1 l1) fun r2 M3 =>
  if r2 = 0 then
    some ((-1), M3)
  else
    fm_bi (fX9_isTown n M3 l2) fun r7 M8 =>
    if r7 = 0 then
      some ((-1), M8)
    else
      fm_b ((6 * l1) + l2) 36 <|
      if (M8.1 10 ((6 * l1) + l2).toNatClampNeg) < 1000000 then
        fm_b ((6 * l1) + l2) 36 <|
        some ((M8.1 10 ((6 * l1) + l2).toNatClampNeg), M8)
      else
        some ((-9), M8)
theorem hdX9_far : yX9_far.cls = RX9 ∧ yX9_far.cls ≠ "java/lang/invoke/MethodHandle" ∧ yX9_far.cls ≠ "java/lang/invoke/VarHandle" ∧ (parseMethodDescriptor yX9_far.desc).map (fun d => d.parameters.length) = some 2 := by decide +kernel
set_option maxHeartbeats 4000000 in
theorem mX9_far {l : Launch} {D : va_G} {dA : Nat → ClassId} {ad : Nat → Nat} {n : Nat}  (inj : ∀ i j, i < 20 → j < 20 → ad i = ad j → i = j) {M M' : fm_M} {l1 : Int32} {l2 : Int32} {r : Int32} (hf : fX9_far n M l1 l2 = some (r, M')) : fm_C l yX9_far (ws_ yX9_far cX9_far 3 (some .int)) rmX9_far (YM D dA ad) [.ref (ad 0), .int l1, .int l2] M (some (.int r)) M' := by
  refine fm_enter (by decide) rfl (fm_le rfl) inj ?_
  intro X hXl F E
  subst hXl
  unfold fX9_far at hf
  show fm_G X (YM D dA ad) (0, 0) 3 M 0 [(0, .ref (ad 0)), (1, .int l1), (2, .int l2)] []
  refine fm_aload_n (pc := 0) F dX9_far_0 0 rfl ?_
  refine fm_iconst (v := 0) (pc := 1) F dX9_far_1 (by decide) ?_
  refine fm_putI (v := 0) (pc := 2) F clX9 0 (fm_lt rfl) dX9_far_2 q795 rfl rfl 0 (fm_lt rfl) rfl (fm_lt rfl) rfl ?_
  refine fm_nameM (fun M1 eM1 => ?_)
  replace hf := fm_let_inv eM1 hf
  refine fm_aload_n (pc := 5) F dX9_far_5 0 rfl ?_
  refine fm_iload_n (pc := 6) F dX9_far_6 1 rfl ?_
  obtain ⟨r2, M3, h4, hf⟩ := fm_bi_inv hf
  refine fm_callV (As := [.int l1]) (rest := []) (pc := 7) F (ci := 9) 0 (fm_lt rfl) rfl rfl (mX9_isTown F.inj h4) q931 q933 qs25 q50 q934 ⟨rfl, rfl⟩ hdX9_isTown ⟨fm_le rfl, fm_le rfl, Nat.zero_le _, Nat.zero_le _⟩ rfl rfl (fm_le rfl) dX9_far_7 ?_
  refine fm_if_eq (tgt := 21) (pc := 10) F dX9_far_10 (by decide) (fun c6 => ?_) (fun c6 => ?_)
  · replace hf := fm_ip c6 hf
    refine fm_iconst (v := (-1)) (pc := 21) F dX9_far_21 (by decide) ?_
    exact fm_iret (pc := 22) F E hf dX9_far_22
  · replace hf := fm_in c6 hf
    refine fm_aload_n (pc := 13) F dX9_far_13 0 rfl ?_
    refine fm_iload_n (pc := 14) F dX9_far_14 2 rfl ?_
    obtain ⟨r7, M8, h9, hf⟩ := fm_bi_inv hf
    refine fm_callV (As := [.int l2]) (rest := []) (pc := 15) F (ci := 9) 0 (fm_lt rfl) rfl rfl (mX9_isTown F.inj h9) q931 q933 qs25 q50 q934 ⟨rfl, rfl⟩ hdX9_isTown ⟨fm_le rfl, fm_le rfl, Nat.zero_le _, Nat.zero_le _⟩ rfl rfl (fm_le rfl) dX9_far_15 ?_
    refine fm_if_ne (tgt := 23) (pc := 18) F dX9_far_18 (by decide) (fun c11 => ?_) (fun c11 => ?_)
    · replace hf := fm_in c11 hf
      refine fm_aload_n (pc := 23) F dX9_far_23 0 rfl ?_
      refine fm_get (v := .ref (ad 10)) (pc := 24) F (ci := 9) (T := TX9) (n := 29) rfl in_X9 17 (fm_lt rfl) dX9_far_24 q812 0 (fm_lt rfl) rfl rfl ?_
      refine fm_bipush (v := 6) (pc := 27) F dX9_far_27 (by decide) ?_
      refine fm_iload_n (pc := 29) F dX9_far_29 1 rfl ?_
      refine fm_imul (pc := 30) F dX9_far_30 ?_
      refine fm_iload_n (pc := 31) F dX9_far_31 2 rfl ?_
      refine fm_iadd (pc := 32) F dX9_far_32 ?_
      obtain ⟨b12, hf⟩ := fm_b_inv hf
      refine fm_iald (pc := 33) F dX9_far_33 10 (fm_lt rfl) rfl b12 ?_
      refine fm_ldc (pc := 34) F dX9_far_34 q926 ?_
      refine fm_icmp_lt (tgt := 44) (pc := 36) F dX9_far_36 (by decide) (fun c13 => ?_) (fun c13 => ?_)
      · replace hf := fm_ip c13 hf
        refine fm_aload_n (pc := 44) F dX9_far_44 0 rfl ?_
        refine fm_get (v := .ref (ad 10)) (pc := 45) F (ci := 9) (T := TX9) (n := 29) rfl in_X9 17 (fm_lt rfl) dX9_far_45 q812 0 (fm_lt rfl) rfl rfl ?_
        refine fm_bipush (v := 6) (pc := 48) F dX9_far_48 (by decide) ?_
        refine fm_iload_n (pc := 50) F dX9_far_50 1 rfl ?_
        refine fm_imul (pc := 51) F dX9_far_51 ?_
        refine fm_iload_n (pc := 52) F dX9_far_52 2 rfl ?_
        refine fm_iadd (pc := 53) F dX9_far_53 ?_
        obtain ⟨b14, hf⟩ := fm_b_inv hf
        refine fm_iald (pc := 54) F dX9_far_54 10 (fm_lt rfl) rfl b14 ?_
        exact fm_iret (pc := 55) F E hf dX9_far_55
      · replace hf := fm_in c13 hf
        refine fm_bipush (v := (-9)) (pc := 39) F dX9_far_39 (by decide) ?_
        refine fm_goto (tgt := 55) (pc := 41) F dX9_far_41 (by decide) ?_
        exact fm_iret (pc := 55) F E hf dX9_far_55
    · replace hf := fm_ip c11 hf
      refine fm_iconst (v := (-1)) (pc := 21) F dX9_far_21 (by decide) ?_
      exact fm_iret (pc := 22) F E hf dX9_far_22
abbrev rmX9_oath : Room := { frames := 3, cells := 0, slots := 0, locals := 102 }
def fX9_oath (n : Nat) (M : fm_M) (l1 : Int32) (l2 : Int32) : Option (Int32 × fm_M) :=
  fm_let (fm_wr M 0 0 0) fun M1 =>
  fm_bi (fX9_in n M1 l1 0 ((M1.1 2 1) - 1)) fun r2 M3 =>
  if r2 = 0 then
    some ((-1), M3)
  else
    fm_bi (fX9_in n M3 l2 0 3) fun r7 M8 =>
    if r7 = 0 then
      some ((-1), M8)
    else
      if l2 = 0 then
        fm_b l1 12 <|
        some ((M8.1 7 l1.toNatClampNeg), M8)
      else
        if l2 = 1 then
          fm_b l1 12 <|
          some ((M8.1 8 l1.toNatClampNeg), M8)
        else
          if l2 = 2 then
            fm_b l1 12 <|
            some ((M8.1 9 l1.toNatClampNeg), M8)
          else
            fm_b (14 + l1) 56 <|
            some ((M8.1 11 (14 + l1).toNatClampNeg), M8)
theorem hdX9_oath : yX9_oath.cls = RX9 ∧ yX9_oath.cls ≠ "java/lang/invoke/MethodHandle" ∧ yX9_oath.cls ≠ "java/lang/invoke/VarHandle" ∧ (parseMethodDescriptor yX9_oath.desc).map (fun d => d.parameters.length) = some 2 := by decide +kernel
set_option maxHeartbeats 4000000 in
theorem mX9_oath {l : Launch} {D : va_G} {dA : Nat → ClassId} {ad : Nat → Nat} {n : Nat}  (inj : ∀ i j, i < 20 → j < 20 → ad i = ad j → i = j) {M M' : fm_M} {l1 : Int32} {l2 : Int32} {r : Int32} (hf : fX9_oath n M l1 l2 = some (r, M')) : fm_C l yX9_oath (ws_ yX9_oath cX9_oath 3 (some .int)) rmX9_oath (YM D dA ad) [.ref (ad 0), .int l1, .int l2] M (some (.int r)) M' := by
  refine fm_enter (by decide) rfl (fm_le rfl) inj ?_
  intro X hXl F E
  subst hXl
  unfold fX9_oath at hf
  show fm_G X (YM D dA ad) (0, 0) 3 M 0 [(0, .ref (ad 0)), (1, .int l1), (2, .int l2)] []
  refine fm_aload_n (pc := 0) F dX9_oath_0 0 rfl ?_
  refine fm_iconst (v := 0) (pc := 1) F dX9_oath_1 (by decide) ?_
  refine fm_putI (v := 0) (pc := 2) F clX9 0 (fm_lt rfl) dX9_oath_2 q795 rfl rfl 0 (fm_lt rfl) rfl (fm_lt rfl) rfl ?_
  refine fm_nameM (fun M1 eM1 => ?_)
  replace hf := fm_let_inv eM1 hf
  refine fm_iload_n (pc := 5) F dX9_oath_5 1 rfl ?_
  refine fm_iconst (v := 0) (pc := 6) F dX9_oath_6 (by decide) ?_
  refine fm_aload_n (pc := 7) F dX9_oath_7 0 rfl ?_
  refine fm_get (v := .ref (ad 2)) (pc := 8) F (ci := 9) (T := TX9) (n := 29) rfl in_X9 9 (fm_lt rfl) dX9_oath_8 q804 0 (fm_lt rfl) rfl rfl ?_
  refine fm_iconst (v := 1) (pc := 11) F dX9_oath_11 (by decide) ?_
  refine fm_ialdK (pc := 12) F dX9_oath_12 2 (fm_lt rfl) rfl 1 (fm_ok (by decide)) rfl ?_
  refine fm_iconst (v := 1) (pc := 13) F dX9_oath_13 (by decide) ?_
  refine fm_isub (pc := 14) F dX9_oath_14 ?_
  obtain ⟨r2, M3, h4, hf⟩ := fm_bi_inv hf
  refine fm_callS (As := [.int l1, .int 0, .int ((M1.1 2 1) - 1)]) (rest := []) (pc := 15) F (mX9_in F.inj h4) q887 q888 q50 q889 ⟨rfl, rfl⟩ hdX9_in.2 ⟨fm_le rfl, fm_le rfl, Nat.zero_le _, Nat.zero_le _⟩ rfl rfl (fm_le rfl) dX9_oath_15 ?_
  refine fm_if_eq (tgt := 30) (pc := 18) F dX9_oath_18 (by decide) (fun c6 => ?_) (fun c6 => ?_)
  · replace hf := fm_ip c6 hf
    refine fm_iconst (v := (-1)) (pc := 30) F dX9_oath_30 (by decide) ?_
    exact fm_iret (pc := 31) F E hf dX9_oath_31
  · replace hf := fm_in c6 hf
    refine fm_iload_n (pc := 21) F dX9_oath_21 2 rfl ?_
    refine fm_iconst (v := 0) (pc := 22) F dX9_oath_22 (by decide) ?_
    refine fm_iconst (v := 3) (pc := 23) F dX9_oath_23 (by decide) ?_
    obtain ⟨r7, M8, h9, hf⟩ := fm_bi_inv hf
    refine fm_callS (As := [.int l2, .int 0, .int 3]) (rest := []) (pc := 24) F (mX9_in F.inj h9) q887 q888 q50 q889 ⟨rfl, rfl⟩ hdX9_in.2 ⟨fm_le rfl, fm_le rfl, Nat.zero_le _, Nat.zero_le _⟩ rfl rfl (fm_le rfl) dX9_oath_24 ?_
    refine fm_if_ne (tgt := 32) (pc := 27) F dX9_oath_27 (by decide) (fun c11 => ?_) (fun c11 => ?_)
    · replace hf := fm_in c11 hf
      refine fm_iload_n (pc := 32) F dX9_oath_32 2 rfl ?_
      refine fm_if_ne (tgt := 45) (pc := 33) F dX9_oath_33 (by decide) (fun c12 => ?_) (fun c12 => ?_)
      · replace hf := fm_in c12 hf
        refine fm_iload_n (pc := 45) F dX9_oath_45 2 rfl ?_
        refine fm_iconst (v := 1) (pc := 46) F dX9_oath_46 (by decide) ?_
        refine fm_icmp_ne (tgt := 59) (pc := 47) F dX9_oath_47 (by decide) (fun c13 => ?_) (fun c13 => ?_)
        · replace hf := fm_in c13 hf
          refine fm_iload_n (pc := 59) F dX9_oath_59 2 rfl ?_
          refine fm_iconst (v := 2) (pc := 60) F dX9_oath_60 (by decide) ?_
          refine fm_icmp_ne (tgt := 73) (pc := 61) F dX9_oath_61 (by decide) (fun c14 => ?_) (fun c14 => ?_)
          · replace hf := fm_in c14 hf
            refine fm_aload_n (pc := 73) F dX9_oath_73 0 rfl ?_
            refine fm_get (v := .ref (ad 11)) (pc := 74) F (ci := 9) (T := TX9) (n := 29) rfl in_X9 18 (fm_lt rfl) dX9_oath_74 q813 0 (fm_lt rfl) rfl rfl ?_
            refine fm_bipush (v := 14) (pc := 77) F dX9_oath_77 (by decide) ?_
            refine fm_iload_n (pc := 79) F dX9_oath_79 1 rfl ?_
            refine fm_iadd (pc := 80) F dX9_oath_80 ?_
            obtain ⟨b15, hf⟩ := fm_b_inv hf
            refine fm_iald (pc := 81) F dX9_oath_81 11 (fm_lt rfl) rfl b15 ?_
            exact fm_iret (pc := 82) F E hf dX9_oath_82
          · replace hf := fm_ip c14 hf
            refine fm_aload_n (pc := 64) F dX9_oath_64 0 rfl ?_
            refine fm_get (v := .ref (ad 9)) (pc := 65) F (ci := 9) (T := TX9) (n := 29) rfl in_X9 16 (fm_lt rfl) dX9_oath_65 q811 0 (fm_lt rfl) rfl rfl ?_
            refine fm_iload_n (pc := 68) F dX9_oath_68 1 rfl ?_
            obtain ⟨b16, hf⟩ := fm_b_inv hf
            refine fm_iald (pc := 69) F dX9_oath_69 9 (fm_lt rfl) rfl b16 ?_
            refine fm_goto (tgt := 82) (pc := 70) F dX9_oath_70 (by decide) ?_
            exact fm_iret (pc := 82) F E hf dX9_oath_82
        · replace hf := fm_ip c13 hf
          refine fm_aload_n (pc := 50) F dX9_oath_50 0 rfl ?_
          refine fm_get (v := .ref (ad 8)) (pc := 51) F (ci := 9) (T := TX9) (n := 29) rfl in_X9 15 (fm_lt rfl) dX9_oath_51 q810 0 (fm_lt rfl) rfl rfl ?_
          refine fm_iload_n (pc := 54) F dX9_oath_54 1 rfl ?_
          obtain ⟨b17, hf⟩ := fm_b_inv hf
          refine fm_iald (pc := 55) F dX9_oath_55 8 (fm_lt rfl) rfl b17 ?_
          refine fm_goto (tgt := 82) (pc := 56) F dX9_oath_56 (by decide) ?_
          exact fm_iret (pc := 82) F E hf dX9_oath_82
      · replace hf := fm_ip c12 hf
        refine fm_aload_n (pc := 36) F dX9_oath_36 0 rfl ?_
        refine fm_get (v := .ref (ad 7)) (pc := 37) F (ci := 9) (T := TX9) (n := 29) rfl in_X9 14 (fm_lt rfl) dX9_oath_37 q809 0 (fm_lt rfl) rfl rfl ?_
        refine fm_iload_n (pc := 40) F dX9_oath_40 1 rfl ?_
        obtain ⟨b18, hf⟩ := fm_b_inv hf
        refine fm_iald (pc := 41) F dX9_oath_41 7 (fm_lt rfl) rfl b18 ?_
        refine fm_goto (tgt := 82) (pc := 42) F dX9_oath_42 (by decide) ?_
        exact fm_iret (pc := 82) F E hf dX9_oath_82
    · replace hf := fm_ip c11 hf
      refine fm_iconst (v := (-1)) (pc := 30) F dX9_oath_30 (by decide) ?_
      exact fm_iret (pc := 31) F E hf dX9_oath_31
abbrev rmX9_now : Room := { frames := 3, cells := 0, slots := 0, locals := 103 }
def fX9_now_57 (n : Nat) (k23 : fm_M → Int32 → Int32 → Int32 → Int32 → Option (Int32 × fm_M)) (M : fm_M) (l1 : Int32) (l3 : Int32) (l4 : Int32) (s0 : Int32) (s1 : Int32) : Option (Int32 × fm_M) :=
  fm_bi (fX9_isDumb n M l4) fun r1 M2 =>
  if r1 = 0 then
    k23 M2 l1 (s1 ||| s0) (l3 ||| 0) (l4 + 1)
  else
    fm_let (l3 ||| (1 <<< (l4 &&& 31))) fun x6 =>
    k23 M2 l1 (s1 ||| s0) x6 (l4 + 1)
def fX9_now_23 (n : Nat) : Nat → fm_M → Int32 → Int32 → Int32 → Int32 → Option (Int32 × fm_M)
  | 0, _, _, _, _, _ => none
  | k + 1, M, l1, l2, l3, l4 =>
    if (M.1 2 0) ≤ l4 then
      if 2 ≤ l1 then
        if l1 = 2 then
          some (l2, M)
        else
          if l1 = 3 then
            some (l3, M)
          else
            some ((M.1 0 23), M)
      else
        fm_b l1 56 <|
        some ((M.1 11 l1.toNatClampNeg), M)
    else
      fm_b (2 + l4) 56 <|
      if (M.1 11 (2 + l4).toNatClampNeg) = l4 then
        fX9_now_57 n (fX9_now_23 n k) M l1 l3 l4 (1 <<< (l4 &&& 31)) l2
      else
        fX9_now_57 n (fX9_now_23 n k) M l1 l3 l4 0 l2
def fX9_now (n : Nat) (M : fm_M) (l1 : Int32) : Option (Int32 × fm_M) :=
  fm_let (fm_wr M 0 0 0) fun M1 =>
  fm_bi (fX9_in n M1 l1 0 4) fun r2 M3 =>
  if r2 = 0 then
    some ((-1), M3)
  else
    fX9_now_23 n n M3 l1 0 0 0
theorem hdX9_now : yX9_now.cls = RX9 ∧ yX9_now.cls ≠ "java/lang/invoke/MethodHandle" ∧ yX9_now.cls ≠ "java/lang/invoke/VarHandle" ∧ (parseMethodDescriptor yX9_now.desc).map (fun d => d.parameters.length) = some 1 := by decide +kernel
set_option maxHeartbeats 4000000 in
theorem wX9_now_57 {X : fm_X} {D : va_G} {dA : Nat → ClassId} {ad : Nat → Nat} {n : Nat}  {r : Int32} (F : fm_F X (YM D dA ad) cX9_now 5 RX9 rmX9_now) {M' : fm_M} (E : fm_E X (YM D dA ad) (some (.int r)) M' (some .int)) {k23 : fm_M → Int32 → Int32 → Int32 → Int32 → Option (Int32 × fm_M)} (hk23 : ∀ (M : fm_M) (l1 : Int32) (l2 : Int32) (l3 : Int32) (l4 : Int32), k23 M l1 l2 l3 l4 = some (r, M') → fm_G X (YM D dA ad) (0, 0) 5 M 23 [(0, .ref (ad 0)), (1, .int l1), (2, .int l2), (3, .int l3), (4, .int l4)] []) : ∀ (M : fm_M) (l1 : Int32) (l3 : Int32) (l4 : Int32) (s0 : Int32) (s1 : Int32), fX9_now_57 n k23 M l1 l3 l4 s0 s1 = some (r, M') → fm_G X (YM D dA ad) (0, 0) 5 M 57 [(0, .ref (ad 0)), (1, .int l1), (3, .int l3), (4, .int l4)] [.int s0, .int s1] := by
  intro M l1 l3 l4 s0 s1 hf
  unfold fX9_now_57 at hf
  refine fm_ior (pc := 57) F dX9_now_57 ?_
  refine fm_istore_n (lv' := [(2, .int (s1 ||| s0)), (0, .ref (ad 0)), (1, .int l1), (3, .int l3), (4, .int l4)]) (pc := 58) F dX9_now_58 rfl (fm_lt rfl) rfl ?_
  refine fm_iload_n (pc := 59) F dX9_now_59 3 rfl ?_
  refine fm_aload_n (pc := 60) F dX9_now_60 1 rfl ?_
  refine fm_iload (pc := 61) F dX9_now_61 4 rfl ?_
  obtain ⟨r1, M2, h3, hf⟩ := fm_bi_inv hf
  refine fm_callV (As := [.int l4]) (rest := [.int l3]) (pc := 63) F (ci := 9) 0 (fm_lt rfl) rfl rfl (mX9_isDumb F.inj h3) q938 q940 qs26 q50 q941 ⟨rfl, rfl⟩ hdX9_isDumb ⟨fm_le rfl, fm_le rfl, Nat.zero_le _, Nat.zero_le _⟩ rfl rfl (fm_le rfl) dX9_now_63 ?_
  refine fm_if_eq (tgt := 76) (pc := 66) F dX9_now_66 (by decide) (fun c5 => ?_) (fun c5 => ?_)
  · replace hf := fm_ip c5 hf
    refine fm_iconst (v := 0) (pc := 76) F dX9_now_76 (by decide) ?_
    refine fm_ior (pc := 77) F dX9_now_77 ?_
    refine fm_istore_n (lv' := [(3, .int (l3 ||| 0)), (2, .int (s1 ||| s0)), (0, .ref (ad 0)), (1, .int l1), (4, .int l4)]) (pc := 78) F dX9_now_78 rfl (fm_lt rfl) rfl ?_
    refine fm_iinc (v := (l4 + 1)) (lv' := [(4, .int (l4 + 1)), (3, .int (l3 ||| 0)), (2, .int (s1 ||| s0)), (0, .ref (ad 0)), (1, .int l1)]) (pc := 79) F dX9_now_79 4 rfl rfl (fm_lt rfl) rfl ?_
    refine fm_goto (tgt := 23) (pc := 82) F dX9_now_82 (by decide) ?_
    refine fm_pick [3, 4, 2, 1, 0] rfl ?_
    exact hk23 _ _ _ _ _ hf
  · replace hf := fm_in c5 hf
    refine fm_iconst (v := 1) (pc := 69) F dX9_now_69 (by decide) ?_
    refine fm_iload (pc := 70) F dX9_now_70 4 rfl ?_
    refine fm_ishl (pc := 72) F dX9_now_72 ?_
    refine fm_goto (tgt := 77) (pc := 73) F dX9_now_73 (by decide) ?_
    refine fm_ior (pc := 77) F dX9_now_77 ?_
    refine fm_topi (fun x6 ex6 => ?_)
    replace hf := fm_let_inv ex6 hf
    refine fm_istore_n (lv' := [(3, .int x6), (2, .int (s1 ||| s0)), (0, .ref (ad 0)), (1, .int l1), (4, .int l4)]) (pc := 78) F dX9_now_78 rfl (fm_lt rfl) rfl ?_
    refine fm_iinc (v := (l4 + 1)) (lv' := [(4, .int (l4 + 1)), (3, .int x6), (2, .int (s1 ||| s0)), (0, .ref (ad 0)), (1, .int l1)]) (pc := 79) F dX9_now_79 4 rfl rfl (fm_lt rfl) rfl ?_
    refine fm_goto (tgt := 23) (pc := 82) F dX9_now_82 (by decide) ?_
    refine fm_pick [3, 4, 2, 1, 0] rfl ?_
    exact hk23 _ _ _ _ _ hf
set_option maxHeartbeats 4000000 in
theorem wX9_now_23 {X : fm_X} {D : va_G} {dA : Nat → ClassId} {ad : Nat → Nat} {n : Nat}  {r : Int32} (F : fm_F X (YM D dA ad) cX9_now 5 RX9 rmX9_now) {M' : fm_M} (E : fm_E X (YM D dA ad) (some (.int r)) M' (some .int)) : ∀ (k : Nat) (M : fm_M) (l1 : Int32) (l2 : Int32) (l3 : Int32) (l4 : Int32), fX9_now_23 n k M l1 l2 l3 l4 = some (r, M') → fm_G X (YM D dA ad) (0, 0) 5 M 23 [(0, .ref (ad 0)), (1, .int l1), (2, .int l2), (3, .int l3), (4, .int l4)] [] := by
  intro k
  induction k with
  | zero =>
    intro M l1 l2 l3 l4 hf
    rw [fX9_now_23] at hf
    cases hf
  | succ k ih =>
    intro M l1 l2 l3 l4 hf
    rw [fX9_now_23] at hf
    refine fm_iload (pc := 23) F dX9_now_23 4 rfl ?_
    refine fm_aload_n (pc := 25) F dX9_now_25 0 rfl ?_
    refine fm_get (v := .ref (ad 2)) (pc := 26) F (ci := 9) (T := TX9) (n := 29) rfl in_X9 9 (fm_lt rfl) dX9_now_26 q804 0 (fm_lt rfl) rfl rfl ?_
    refine fm_iconst (v := 0) (pc := 29) F dX9_now_29 (by decide) ?_
    refine fm_ialdK (pc := 30) F dX9_now_30 2 (fm_lt rfl) rfl 0 (fm_ok (by decide)) rfl ?_
    refine fm_icmp_ge (tgt := 85) (pc := 31) F dX9_now_31 (by decide) (fun c1 => ?_) (fun c1 => ?_)
    · replace hf := fm_ip c1 hf
      refine fm_iload_n (pc := 85) F dX9_now_85 1 rfl ?_
      refine fm_iconst (v := 2) (pc := 86) F dX9_now_86 (by decide) ?_
      refine fm_icmp_ge (tgt := 99) (pc := 87) F dX9_now_87 (by decide) (fun c2 => ?_) (fun c2 => ?_)
      · replace hf := fm_ip c2 hf
        refine fm_iload_n (pc := 99) F dX9_now_99 1 rfl ?_
        refine fm_iconst (v := 2) (pc := 100) F dX9_now_100 (by decide) ?_
        refine fm_icmp_ne (tgt := 108) (pc := 101) F dX9_now_101 (by decide) (fun c3 => ?_) (fun c3 => ?_)
        · replace hf := fm_in c3 hf
          refine fm_iload_n (pc := 108) F dX9_now_108 1 rfl ?_
          refine fm_iconst (v := 3) (pc := 109) F dX9_now_109 (by decide) ?_
          refine fm_icmp_ne (tgt := 117) (pc := 110) F dX9_now_110 (by decide) (fun c4 => ?_) (fun c4 => ?_)
          · replace hf := fm_in c4 hf
            refine fm_aload_n (pc := 117) F dX9_now_117 0 rfl ?_
            refine fm_get (v := .int (M.1 0 23)) (pc := 118) F (ci := 9) (T := TX9) (n := 29) rfl in_X9 23 (fm_lt rfl) dX9_now_118 q818 0 (fm_lt rfl) rfl rfl ?_
            exact fm_iret (pc := 121) F E hf dX9_now_121
          · replace hf := fm_ip c4 hf
            refine fm_iload_n (pc := 113) F dX9_now_113 3 rfl ?_
            refine fm_goto (tgt := 121) (pc := 114) F dX9_now_114 (by decide) ?_
            exact fm_iret (pc := 121) F E hf dX9_now_121
        · replace hf := fm_ip c3 hf
          refine fm_iload_n (pc := 104) F dX9_now_104 2 rfl ?_
          refine fm_goto (tgt := 121) (pc := 105) F dX9_now_105 (by decide) ?_
          exact fm_iret (pc := 121) F E hf dX9_now_121
      · replace hf := fm_in c2 hf
        refine fm_aload_n (pc := 90) F dX9_now_90 0 rfl ?_
        refine fm_get (v := .ref (ad 11)) (pc := 91) F (ci := 9) (T := TX9) (n := 29) rfl in_X9 18 (fm_lt rfl) dX9_now_91 q813 0 (fm_lt rfl) rfl rfl ?_
        refine fm_iload_n (pc := 94) F dX9_now_94 1 rfl ?_
        obtain ⟨b5, hf⟩ := fm_b_inv hf
        refine fm_iald (pc := 95) F dX9_now_95 11 (fm_lt rfl) rfl b5 ?_
        refine fm_goto (tgt := 121) (pc := 96) F dX9_now_96 (by decide) ?_
        exact fm_iret (pc := 121) F E hf dX9_now_121
    · replace hf := fm_in c1 hf
      refine fm_iload_n (pc := 34) F dX9_now_34 2 rfl ?_
      refine fm_aload_n (pc := 35) F dX9_now_35 0 rfl ?_
      refine fm_get (v := .ref (ad 11)) (pc := 36) F (ci := 9) (T := TX9) (n := 29) rfl in_X9 18 (fm_lt rfl) dX9_now_36 q813 0 (fm_lt rfl) rfl rfl ?_
      refine fm_iconst (v := 2) (pc := 39) F dX9_now_39 (by decide) ?_
      refine fm_iload (pc := 40) F dX9_now_40 4 rfl ?_
      refine fm_iadd (pc := 42) F dX9_now_42 ?_
      obtain ⟨b6, hf⟩ := fm_b_inv hf
      refine fm_iald (pc := 43) F dX9_now_43 11 (fm_lt rfl) rfl b6 ?_
      refine fm_iload (pc := 44) F dX9_now_44 4 rfl ?_
      refine fm_icmp_ne (tgt := 56) (pc := 46) F dX9_now_46 (by decide) (fun c7 => ?_) (fun c7 => ?_)
      · replace hf := fm_in c7 hf
        refine fm_iconst (v := 0) (pc := 56) F dX9_now_56 (by decide) ?_
        refine fm_pick [0, 1, 3, 4] rfl ?_
        exact wX9_now_57 F E ih _ _ _ _ _ _ hf
      · replace hf := fm_ip c7 hf
        refine fm_iconst (v := 1) (pc := 49) F dX9_now_49 (by decide) ?_
        refine fm_iload (pc := 50) F dX9_now_50 4 rfl ?_
        refine fm_ishl (pc := 52) F dX9_now_52 ?_
        refine fm_goto (tgt := 57) (pc := 53) F dX9_now_53 (by decide) ?_
        refine fm_pick [0, 1, 3, 4] rfl ?_
        exact wX9_now_57 F E ih _ _ _ _ _ _ hf
set_option maxHeartbeats 4000000 in
theorem mX9_now {l : Launch} {D : va_G} {dA : Nat → ClassId} {ad : Nat → Nat} {n : Nat}  (inj : ∀ i j, i < 20 → j < 20 → ad i = ad j → i = j) {M M' : fm_M} {l1 : Int32} {r : Int32} (hf : fX9_now n M l1 = some (r, M')) : fm_C l yX9_now (ws_ yX9_now cX9_now 5 (some .int)) rmX9_now (YM D dA ad) [.ref (ad 0), .int l1] M (some (.int r)) M' := by
  refine fm_enter (by decide) rfl (fm_le rfl) inj ?_
  intro X hXl F E
  subst hXl
  unfold fX9_now at hf
  show fm_G X (YM D dA ad) (0, 0) 5 M 0 [(0, .ref (ad 0)), (1, .int l1)] []
  refine fm_aload_n (pc := 0) F dX9_now_0 0 rfl ?_
  refine fm_iconst (v := 0) (pc := 1) F dX9_now_1 (by decide) ?_
  refine fm_putI (v := 0) (pc := 2) F clX9 0 (fm_lt rfl) dX9_now_2 q795 rfl rfl 0 (fm_lt rfl) rfl (fm_lt rfl) rfl ?_
  refine fm_nameM (fun M1 eM1 => ?_)
  replace hf := fm_let_inv eM1 hf
  refine fm_iload_n (pc := 5) F dX9_now_5 1 rfl ?_
  refine fm_iconst (v := 0) (pc := 6) F dX9_now_6 (by decide) ?_
  refine fm_iconst (v := 4) (pc := 7) F dX9_now_7 (by decide) ?_
  obtain ⟨r2, M3, h4, hf⟩ := fm_bi_inv hf
  refine fm_callS (As := [.int l1, .int 0, .int 4]) (rest := []) (pc := 8) F (mX9_in F.inj h4) q887 q888 q50 q889 ⟨rfl, rfl⟩ hdX9_in.2 ⟨fm_le rfl, fm_le rfl, Nat.zero_le _, Nat.zero_le _⟩ rfl rfl (fm_le rfl) dX9_now_8 ?_
  refine fm_if_ne (tgt := 16) (pc := 11) F dX9_now_11 (by decide) (fun c6 => ?_) (fun c6 => ?_)
  · replace hf := fm_in c6 hf
    refine fm_iconst (v := 0) (pc := 16) F dX9_now_16 (by decide) ?_
    refine fm_istore_n (lv' := [(2, .int 0), (0, .ref (ad 0)), (1, .int l1)]) (pc := 17) F dX9_now_17 rfl (fm_lt rfl) rfl ?_
    refine fm_iconst (v := 0) (pc := 18) F dX9_now_18 (by decide) ?_
    refine fm_istore_n (lv' := [(3, .int 0), (2, .int 0), (0, .ref (ad 0)), (1, .int l1)]) (pc := 19) F dX9_now_19 rfl (fm_lt rfl) rfl ?_
    refine fm_iconst (v := 0) (pc := 20) F dX9_now_20 (by decide) ?_
    refine fm_istore (lv' := [(4, .int 0), (3, .int 0), (2, .int 0), (0, .ref (ad 0)), (1, .int l1)]) (pc := 21) F dX9_now_21 (fm_lt rfl) rfl ?_
    refine fm_pick [3, 4, 2, 1, 0] rfl ?_
    exact wX9_now_23 F E n _ _ _ _ _ hf
  · replace hf := fm_ip c6 hf
    refine fm_iconst (v := (-1)) (pc := 14) F dX9_now_14 (by decide) ?_
    exact fm_iret (pc := 15) F E hf dX9_now_15
abbrev rmX9_notes : Room := { frames := 2, cells := 0, slots := 0, locals := 80 }
def fX9_notes_47 (n : Nat) : Nat → fm_M → Int32 → Option (fm_M)
  | 0, _, _ => none
  | k + 1, M, l1 =>
    if 56 ≤ l1 then
      fm_let (fm_wr M 0 23 ((M.1 0 23) + 1)) fun M2 =>
      some M2
    else
      fm_b l1 56 <|
      fm_b ((56 * (M.1 0 23)) + l1) 560 <|
      fm_let (fm_wr M 15 ((56 * (M.1 0 23)) + l1).toNatClampNeg (M.1 11 l1.toNatClampNeg)) fun M5 =>
      fX9_notes_47 n k M5 (l1 + 1)
def fX9_notes_11 (n : Nat) : Nat → fm_M → Int32 → Option (fm_M)
  | 0, _, _ => none
  | k + 1, M, l1 =>
    if 504 ≤ l1 then
      fm_let (fm_wr M 0 23 9) fun M2 =>
      fX9_notes_47 n n M2 0
    else
      fm_b (l1 + 56) 560 <|
      fm_b l1 560 <|
      fm_let (fm_wr M 15 l1.toNatClampNeg (M.1 15 (l1 + 56).toNatClampNeg)) fun M5 =>
      fX9_notes_11 n k M5 (l1 + 1)
def fX9_notes (n : Nat) (M : fm_M) : Option (fm_M) :=
  if (M.1 0 23) = 10 then
    fX9_notes_11 n n M 0
  else
    fX9_notes_47 n n M 0
theorem hdX9_notes : yX9_notes.cls = RX9 ∧ yX9_notes.cls ≠ "java/lang/invoke/MethodHandle" ∧ yX9_notes.cls ≠ "java/lang/invoke/VarHandle" ∧ (parseMethodDescriptor yX9_notes.desc).map (fun d => d.parameters.length) = some 0 := by decide +kernel
set_option maxHeartbeats 4000000 in
theorem wX9_notes_47 {X : fm_X} {D : va_G} {dA : Nat → ClassId} {ad : Nat → Nat} {n : Nat}  (F : fm_F X (YM D dA ad) cX9_notes 2 RX9 rmX9_notes) {M' : fm_M} (E : fm_E X (YM D dA ad) none M' none) : ∀ (k : Nat) (M : fm_M) (l1 : Int32), fX9_notes_47 n k M l1 = some M' → fm_G X (YM D dA ad) (0, 0) 2 M 47 [(0, .ref (ad 0)), (1, .int l1)] [] := by
  intro k
  induction k with
  | zero =>
    intro M l1 hf
    rw [fX9_notes_47] at hf
    cases hf
  | succ k ih =>
    intro M l1 hf
    rw [fX9_notes_47] at hf
    refine fm_iload_n (pc := 47) F dX9_notes_47 1 rfl ?_
    refine fm_bipush (v := 56) (pc := 48) F dX9_notes_48 (by decide) ?_
    refine fm_icmp_ge (tgt := 79) (pc := 50) F dX9_notes_50 (by decide) (fun c1 => ?_) (fun c1 => ?_)
    · replace hf := fm_ip c1 hf
      refine fm_aload_n (pc := 79) F dX9_notes_79 0 rfl ?_
      refine fm_dup (pc := 80) F dX9_notes_80 rfl ?_
      refine fm_get (v := .int (M.1 0 23)) (pc := 81) F (ci := 9) (T := TX9) (n := 29) rfl in_X9 23 (fm_lt rfl) dX9_notes_81 q818 0 (fm_lt rfl) rfl rfl ?_
      refine fm_iconst (v := 1) (pc := 84) F dX9_notes_84 (by decide) ?_
      refine fm_iadd (pc := 85) F dX9_notes_85 ?_
      refine fm_putI (v := ((M.1 0 23) + 1)) (pc := 86) F clX9 23 (fm_lt rfl) dX9_notes_86 q818 rfl rfl 0 (fm_lt rfl) rfl (fm_lt rfl) rfl ?_
      refine fm_nameM (fun M2 eM2 => ?_)
      replace hf := fm_let_inv eM2 hf
      exact fm_vret (pc := 89) F E hf dX9_notes_89
    · replace hf := fm_in c1 hf
      refine fm_aload_n (pc := 53) F dX9_notes_53 0 rfl ?_
      refine fm_get (v := .ref (ad 15)) (pc := 54) F (ci := 9) (T := TX9) (n := 29) rfl in_X9 22 (fm_lt rfl) dX9_notes_54 q817 0 (fm_lt rfl) rfl rfl ?_
      refine fm_bipush (v := 56) (pc := 57) F dX9_notes_57 (by decide) ?_
      refine fm_aload_n (pc := 59) F dX9_notes_59 0 rfl ?_
      refine fm_get (v := .int (M.1 0 23)) (pc := 60) F (ci := 9) (T := TX9) (n := 29) rfl in_X9 23 (fm_lt rfl) dX9_notes_60 q818 0 (fm_lt rfl) rfl rfl ?_
      refine fm_imul (pc := 63) F dX9_notes_63 ?_
      refine fm_iload_n (pc := 64) F dX9_notes_64 1 rfl ?_
      refine fm_iadd (pc := 65) F dX9_notes_65 ?_
      refine fm_aload_n (pc := 66) F dX9_notes_66 0 rfl ?_
      refine fm_get (v := .ref (ad 11)) (pc := 67) F (ci := 9) (T := TX9) (n := 29) rfl in_X9 18 (fm_lt rfl) dX9_notes_67 q813 0 (fm_lt rfl) rfl rfl ?_
      refine fm_iload_n (pc := 70) F dX9_notes_70 1 rfl ?_
      obtain ⟨b3, hf⟩ := fm_b_inv hf
      refine fm_iald (pc := 71) F dX9_notes_71 11 (fm_lt rfl) rfl b3 ?_
      obtain ⟨b4, hf⟩ := fm_b_inv hf
      refine fm_iast (pc := 72) F dX9_notes_72 15 (fm_lt rfl) (fun _ => rfl) b4 ?_
      refine fm_nameM (fun M5 eM5 => ?_)
      replace hf := fm_let_inv eM5 hf
      refine fm_iinc (v := (l1 + 1)) (lv' := [(1, .int (l1 + 1)), (0, .ref (ad 0))]) (pc := 73) F dX9_notes_73 1 rfl rfl (fm_lt rfl) rfl ?_
      refine fm_goto (tgt := 47) (pc := 76) F dX9_notes_76 (by decide) ?_
      refine fm_pick [1, 0] rfl ?_
      exact ih _ _ hf
set_option maxHeartbeats 4000000 in
theorem wX9_notes_11 {X : fm_X} {D : va_G} {dA : Nat → ClassId} {ad : Nat → Nat} {n : Nat}  (F : fm_F X (YM D dA ad) cX9_notes 2 RX9 rmX9_notes) {M' : fm_M} (E : fm_E X (YM D dA ad) none M' none) : ∀ (k : Nat) (M : fm_M) (l1 : Int32), fX9_notes_11 n k M l1 = some M' → fm_G X (YM D dA ad) (0, 0) 2 M 11 [(0, .ref (ad 0)), (1, .int l1)] [] := by
  intro k
  induction k with
  | zero =>
    intro M l1 hf
    rw [fX9_notes_11] at hf
    cases hf
  | succ k ih =>
    intro M l1 hf
    rw [fX9_notes_11] at hf
    refine fm_iload_n (pc := 11) F dX9_notes_11 1 rfl ?_
    refine fm_sipush (v := 504) (pc := 12) F dX9_notes_12 (by decide) ?_
    refine fm_icmp_ge (tgt := 39) (pc := 15) F dX9_notes_15 (by decide) (fun c1 => ?_) (fun c1 => ?_)
    · replace hf := fm_ip c1 hf
      refine fm_aload_n (pc := 39) F dX9_notes_39 0 rfl ?_
      refine fm_bipush (v := 9) (pc := 40) F dX9_notes_40 (by decide) ?_
      refine fm_putI (v := 9) (pc := 42) F clX9 23 (fm_lt rfl) dX9_notes_42 q818 rfl rfl 0 (fm_lt rfl) rfl (fm_lt rfl) rfl ?_
      refine fm_nameM (fun M2 eM2 => ?_)
      replace hf := fm_let_inv eM2 hf
      refine fm_iconst (v := 0) (pc := 45) F dX9_notes_45 (by decide) ?_
      refine fm_istore_n (lv' := [(1, .int 0), (0, .ref (ad 0))]) (pc := 46) F dX9_notes_46 rfl (fm_lt rfl) rfl ?_
      refine fm_pick [1, 0] rfl ?_
      exact wX9_notes_47 F E n _ _ hf
    · replace hf := fm_in c1 hf
      refine fm_aload_n (pc := 18) F dX9_notes_18 0 rfl ?_
      refine fm_get (v := .ref (ad 15)) (pc := 19) F (ci := 9) (T := TX9) (n := 29) rfl in_X9 22 (fm_lt rfl) dX9_notes_19 q817 0 (fm_lt rfl) rfl rfl ?_
      refine fm_iload_n (pc := 22) F dX9_notes_22 1 rfl ?_
      refine fm_aload_n (pc := 23) F dX9_notes_23 0 rfl ?_
      refine fm_get (v := .ref (ad 15)) (pc := 24) F (ci := 9) (T := TX9) (n := 29) rfl in_X9 22 (fm_lt rfl) dX9_notes_24 q817 0 (fm_lt rfl) rfl rfl ?_
      refine fm_iload_n (pc := 27) F dX9_notes_27 1 rfl ?_
      refine fm_bipush (v := 56) (pc := 28) F dX9_notes_28 (by decide) ?_
      refine fm_iadd (pc := 30) F dX9_notes_30 ?_
      obtain ⟨b3, hf⟩ := fm_b_inv hf
      refine fm_iald (pc := 31) F dX9_notes_31 15 (fm_lt rfl) rfl b3 ?_
      obtain ⟨b4, hf⟩ := fm_b_inv hf
      refine fm_iast (pc := 32) F dX9_notes_32 15 (fm_lt rfl) (fun _ => rfl) b4 ?_
      refine fm_nameM (fun M5 eM5 => ?_)
      replace hf := fm_let_inv eM5 hf
      refine fm_iinc (v := (l1 + 1)) (lv' := [(1, .int (l1 + 1)), (0, .ref (ad 0))]) (pc := 33) F dX9_notes_33 1 rfl rfl (fm_lt rfl) rfl ?_
      refine fm_goto (tgt := 11) (pc := 36) F dX9_notes_36 (by decide) ?_
      refine fm_pick [1, 0] rfl ?_
      exact ih _ _ hf
set_option maxHeartbeats 4000000 in
theorem mX9_notes {l : Launch} {D : va_G} {dA : Nat → ClassId} {ad : Nat → Nat} {n : Nat}  (inj : ∀ i j, i < 20 → j < 20 → ad i = ad j → i = j) {M M' : fm_M} (hf : fX9_notes n M = some M') : fm_C l yX9_notes (ws_ yX9_notes cX9_notes 2 none) rmX9_notes (YM D dA ad) [.ref (ad 0)] M none M' := by
  refine fm_enter (by decide) rfl (fm_le rfl) inj ?_
  intro X hXl F E
  subst hXl
  unfold fX9_notes at hf
  show fm_G X (YM D dA ad) (0, 0) 2 M 0 [(0, .ref (ad 0))] []
  refine fm_aload_n (pc := 0) F dX9_notes_0 0 rfl ?_
  refine fm_get (v := .int (M.1 0 23)) (pc := 1) F (ci := 9) (T := TX9) (n := 29) rfl in_X9 23 (fm_lt rfl) dX9_notes_1 q818 0 (fm_lt rfl) rfl rfl ?_
  refine fm_bipush (v := 10) (pc := 4) F dX9_notes_4 (by decide) ?_
  refine fm_icmp_ne (tgt := 45) (pc := 6) F dX9_notes_6 (by decide) (fun c1 => ?_) (fun c1 => ?_)
  · replace hf := fm_in c1 hf
    refine fm_iconst (v := 0) (pc := 45) F dX9_notes_45 (by decide) ?_
    refine fm_istore_n (lv' := [(1, .int 0), (0, .ref (ad 0))]) (pc := 46) F dX9_notes_46 rfl (fm_lt rfl) rfl ?_
    refine fm_pick [1, 0] rfl ?_
    exact wX9_notes_47 F E n _ _ hf
  · replace hf := fm_ip c1 hf
    refine fm_iconst (v := 0) (pc := 9) F dX9_notes_9 (by decide) ?_
    refine fm_istore_n (lv' := [(1, .int 0), (0, .ref (ad 0))]) (pc := 10) F dX9_notes_10 rfl (fm_lt rfl) rfl ?_
    refine fm_pick [1, 0] rfl ?_
    exact wX9_notes_11 F E n _ _ hf
abbrev rmX9_draws : Room := { frames := 2, cells := 0, slots := 0, locals := 80 }
def fX9_draws_75 (n : Nat) (k4 : fm_M → Int32 → Int32 → Int32 → Option (fm_M)) (k60 : fm_M → Int32 → Int32 → Int32 → Int32 → Int32 → Option (fm_M)) (M : fm_M) (l1 : Int32) (l2 : Int32) (l3 : Int32) (l6 : Int32) (l7 : Int32) : Option (fm_M) :=
  if ((l2 >>> (l7 &&& 31)) &&& 1) = 1 then
    k60 M l1 l2 l3 (l6 - 0) (l7 + 1)
  else
    k60 M l1 l2 l3 (l6 - 1) (l7 + 1)
def fX9_draws_60 (n : Nat) (k4 : fm_M → Int32 → Int32 → Int32 → Option (fm_M)) : Nat → fm_M → Int32 → Int32 → Int32 → Int32 → Int32 → Option (fm_M)
  | 0, _, _, _, _, _, _ => none
  | k + 1, M, l1, l2, l3, l6, l7 =>
    if ((l2 >>> (l7 &&& 31)) &&& 1) = 1 then
      fX9_draws_75 n k4 (fX9_draws_60 n k4 k) M l1 l2 l3 l6 l7
    else
      if l6 ≤ 0 then
        fm_b l3 6 <|
        fm_let (fm_wr M 18 l3.toNatClampNeg l7) fun M4 =>
        fm_let (l2 ||| (1 <<< (l7 &&& 31))) fun x5 =>
        k4 M4 l1 x5 (l3 + 1)
      else
        fX9_draws_75 n k4 (fX9_draws_60 n k4 k) M l1 l2 l3 l6 l7
def fX9_draws_4 (n : Nat) : Nat → fm_M → Int32 → Int32 → Int32 → Option (fm_M)
  | 0, _, _, _, _ => none
  | k + 1, M, l1, l2, l3 =>
    if (M.1 2 0) ≤ l3 then
      some M
    else
      fm_let (((7919 * l1.toInt64) + (6151 * l3.toInt64)) + 1) fun x2 =>
      fm_let ((x2 * x2) - (x2 * x2) / 65521 * 65521) fun x3 =>
      fm_nzl (((M.1 2 0) - l3).toInt64) <|
      fm_let ((x3 / 16) - (x3 / 16) / ((M.1 2 0) - l3).toInt64 * ((M.1 2 0) - l3).toInt64) fun x5 =>
      fX9_draws_60 n (fX9_draws_4 n k) n M l1 l2 l3 x5.toInt32 0
def fX9_draws (n : Nat) (M : fm_M) (l1 : Int32) : Option (fm_M) :=
  fX9_draws_4 n n M l1 0 0
theorem hdX9_draws : yX9_draws.cls = RX9 ∧ yX9_draws.cls ≠ "java/lang/invoke/MethodHandle" ∧ yX9_draws.cls ≠ "java/lang/invoke/VarHandle" ∧ (parseMethodDescriptor yX9_draws.desc).map (fun d => d.parameters.length) = some 1 := by decide +kernel
set_option maxHeartbeats 4000000 in
theorem wX9_draws_75 {X : fm_X} {D : va_G} {dA : Nat → ClassId} {ad : Nat → Nat} {n : Nat}  (F : fm_F X (YM D dA ad) cX9_draws 8 RX9 rmX9_draws) {M' : fm_M} (E : fm_E X (YM D dA ad) none M' none) {k4 : fm_M → Int32 → Int32 → Int32 → Option (fm_M)} (hk4 : ∀ (M : fm_M) (l1 : Int32) (l2 : Int32) (l3 : Int32), k4 M l1 l2 l3 = some M' → fm_G X (YM D dA ad) (0, 0) 8 M 4 [(0, .ref (ad 0)), (1, .int l1), (2, .int l2), (3, .int l3)] []) {k60 : fm_M → Int32 → Int32 → Int32 → Int32 → Int32 → Option (fm_M)} (hk60 : ∀ (M : fm_M) (l1 : Int32) (l2 : Int32) (l3 : Int32) (l6 : Int32) (l7 : Int32), k60 M l1 l2 l3 l6 l7 = some M' → fm_G X (YM D dA ad) (0, 0) 8 M 60 [(0, .ref (ad 0)), (1, .int l1), (2, .int l2), (3, .int l3), (6, .int l6), (7, .int l7)] []) : ∀ (M : fm_M) (l1 : Int32) (l2 : Int32) (l3 : Int32) (l6 : Int32) (l7 : Int32), fX9_draws_75 n k4 k60 M l1 l2 l3 l6 l7 = some M' → fm_G X (YM D dA ad) (0, 0) 8 M 75 [(0, .ref (ad 0)), (1, .int l1), (2, .int l2), (3, .int l3), (6, .int l6), (7, .int l7)] [] := by
  intro M l1 l2 l3 l6 l7 hf
  unfold fX9_draws_75 at hf
  refine fm_iload (pc := 75) F dX9_draws_75 4 rfl ?_
  refine fm_iload_n (pc := 77) F dX9_draws_77 2 rfl ?_
  refine fm_iload (pc := 78) F dX9_draws_78 5 rfl ?_
  refine fm_ishr (pc := 80) F dX9_draws_80 ?_
  refine fm_iconst (v := 1) (pc := 81) F dX9_draws_81 (by decide) ?_
  refine fm_iand (pc := 82) F dX9_draws_82 ?_
  refine fm_iconst (v := 1) (pc := 83) F dX9_draws_83 (by decide) ?_
  refine fm_icmp_ne (tgt := 91) (pc := 84) F dX9_draws_84 (by decide) (fun c1 => ?_) (fun c1 => ?_)
  · replace hf := fm_in c1 hf
    refine fm_iconst (v := 1) (pc := 91) F dX9_draws_91 (by decide) ?_
    refine fm_isub (pc := 92) F dX9_draws_92 ?_
    refine fm_istore (lv' := [(6, .int (l6 - 1)), (0, .ref (ad 0)), (1, .int l1), (2, .int l2), (3, .int l3), (7, .int l7)]) (pc := 93) F dX9_draws_93 (fm_lt rfl) rfl ?_
    refine fm_iinc (v := (l7 + 1)) (lv' := [(7, .int (l7 + 1)), (6, .int (l6 - 1)), (0, .ref (ad 0)), (1, .int l1), (2, .int l2), (3, .int l3)]) (pc := 95) F dX9_draws_95 5 rfl rfl (fm_lt rfl) rfl ?_
    refine fm_goto (tgt := 60) (pc := 98) F dX9_draws_98 (by decide) ?_
    refine fm_pick [2, 3, 4, 5, 1, 0] rfl ?_
    exact hk60 _ _ _ _ _ _ hf
  · replace hf := fm_ip c1 hf
    refine fm_iconst (v := 0) (pc := 87) F dX9_draws_87 (by decide) ?_
    refine fm_goto (tgt := 92) (pc := 88) F dX9_draws_88 (by decide) ?_
    refine fm_isub (pc := 92) F dX9_draws_92 ?_
    refine fm_istore (lv' := [(6, .int (l6 - 0)), (0, .ref (ad 0)), (1, .int l1), (2, .int l2), (3, .int l3), (7, .int l7)]) (pc := 93) F dX9_draws_93 (fm_lt rfl) rfl ?_
    refine fm_iinc (v := (l7 + 1)) (lv' := [(7, .int (l7 + 1)), (6, .int (l6 - 0)), (0, .ref (ad 0)), (1, .int l1), (2, .int l2), (3, .int l3)]) (pc := 95) F dX9_draws_95 5 rfl rfl (fm_lt rfl) rfl ?_
    refine fm_goto (tgt := 60) (pc := 98) F dX9_draws_98 (by decide) ?_
    refine fm_pick [2, 3, 4, 5, 1, 0] rfl ?_
    exact hk60 _ _ _ _ _ _ hf
set_option maxHeartbeats 4000000 in
theorem wX9_draws_60 {X : fm_X} {D : va_G} {dA : Nat → ClassId} {ad : Nat → Nat} {n : Nat}  (F : fm_F X (YM D dA ad) cX9_draws 8 RX9 rmX9_draws) {M' : fm_M} (E : fm_E X (YM D dA ad) none M' none) {k4 : fm_M → Int32 → Int32 → Int32 → Option (fm_M)} (hk4 : ∀ (M : fm_M) (l1 : Int32) (l2 : Int32) (l3 : Int32), k4 M l1 l2 l3 = some M' → fm_G X (YM D dA ad) (0, 0) 8 M 4 [(0, .ref (ad 0)), (1, .int l1), (2, .int l2), (3, .int l3)] []) : ∀ (k : Nat) (M : fm_M) (l1 : Int32) (l2 : Int32) (l3 : Int32) (l6 : Int32) (l7 : Int32), fX9_draws_60 n k4 k M l1 l2 l3 l6 l7 = some M' → fm_G X (YM D dA ad) (0, 0) 8 M 60 [(0, .ref (ad 0)), (1, .int l1), (2, .int l2), (3, .int l3), (6, .int l6), (7, .int l7)] [] := by
  intro k
  induction k with
  | zero =>
    intro M l1 l2 l3 l6 l7 hf
    rw [fX9_draws_60] at hf
    cases hf
  | succ k ih =>
    intro M l1 l2 l3 l6 l7 hf
    rw [fX9_draws_60] at hf
    refine fm_iload_n (pc := 60) F dX9_draws_60 2 rfl ?_
    refine fm_iload (pc := 61) F dX9_draws_61 5 rfl ?_
    refine fm_ishr (pc := 63) F dX9_draws_63 ?_
    refine fm_iconst (v := 1) (pc := 64) F dX9_draws_64 (by decide) ?_
    refine fm_iand (pc := 65) F dX9_draws_65 ?_
    refine fm_iconst (v := 1) (pc := 66) F dX9_draws_66 (by decide) ?_
    refine fm_icmp_eq (tgt := 75) (pc := 67) F dX9_draws_67 (by decide) (fun c1 => ?_) (fun c1 => ?_)
    · replace hf := fm_ip c1 hf
      exact wX9_draws_75 F E hk4 ih _ _ _ _ _ _ hf
    · replace hf := fm_in c1 hf
      refine fm_iload (pc := 70) F dX9_draws_70 4 rfl ?_
      refine fm_if_le (tgt := 101) (pc := 72) F dX9_draws_72 (by decide) (fun c2 => ?_) (fun c2 => ?_)
      · replace hf := fm_ip c2 hf
        refine fm_aload_n (pc := 101) F dX9_draws_101 0 rfl ?_
        refine fm_get (v := .ref (ad 18)) (pc := 102) F (ci := 9) (T := TX9) (n := 29) rfl in_X9 27 (fm_lt rfl) dX9_draws_102 q822 0 (fm_lt rfl) rfl rfl ?_
        refine fm_iload_n (pc := 105) F dX9_draws_105 3 rfl ?_
        refine fm_iload (pc := 106) F dX9_draws_106 5 rfl ?_
        obtain ⟨b3, hf⟩ := fm_b_inv hf
        refine fm_iast (pc := 108) F dX9_draws_108 18 (fm_lt rfl) (fun _ => rfl) b3 ?_
        refine fm_nameM (fun M4 eM4 => ?_)
        replace hf := fm_let_inv eM4 hf
        refine fm_iload_n (pc := 109) F dX9_draws_109 2 rfl ?_
        refine fm_iconst (v := 1) (pc := 110) F dX9_draws_110 (by decide) ?_
        refine fm_iload (pc := 111) F dX9_draws_111 5 rfl ?_
        refine fm_ishl (pc := 113) F dX9_draws_113 ?_
        refine fm_ior (pc := 114) F dX9_draws_114 ?_
        refine fm_topi (fun x5 ex5 => ?_)
        replace hf := fm_let_inv ex5 hf
        refine fm_istore_n (lv' := [(2, .int x5), (0, .ref (ad 0)), (1, .int l1), (3, .int l3), (6, .int l6), (7, .int l7)]) (pc := 115) F dX9_draws_115 rfl (fm_lt rfl) rfl ?_
        refine fm_iinc (v := (l3 + 1)) (lv' := [(3, .int (l3 + 1)), (2, .int x5), (0, .ref (ad 0)), (1, .int l1), (6, .int l6), (7, .int l7)]) (pc := 116) F dX9_draws_116 3 rfl rfl (fm_lt rfl) rfl ?_
        refine fm_goto (tgt := 4) (pc := 119) F dX9_draws_119 (by decide) ?_
        refine fm_pick [2, 3, 1, 0] rfl ?_
        exact hk4 _ _ _ _ hf
      · replace hf := fm_in c2 hf
        exact wX9_draws_75 F E hk4 ih _ _ _ _ _ _ hf
set_option maxHeartbeats 4000000 in
theorem wX9_draws_4 {X : fm_X} {D : va_G} {dA : Nat → ClassId} {ad : Nat → Nat} {n : Nat}  (F : fm_F X (YM D dA ad) cX9_draws 8 RX9 rmX9_draws) {M' : fm_M} (E : fm_E X (YM D dA ad) none M' none) : ∀ (k : Nat) (M : fm_M) (l1 : Int32) (l2 : Int32) (l3 : Int32), fX9_draws_4 n k M l1 l2 l3 = some M' → fm_G X (YM D dA ad) (0, 0) 8 M 4 [(0, .ref (ad 0)), (1, .int l1), (2, .int l2), (3, .int l3)] [] := by
  intro k
  induction k with
  | zero =>
    intro M l1 l2 l3 hf
    rw [fX9_draws_4] at hf
    cases hf
  | succ k ih =>
    intro M l1 l2 l3 hf
    rw [fX9_draws_4] at hf
    refine fm_iload_n (pc := 4) F dX9_draws_4 3 rfl ?_
    refine fm_aload_n (pc := 5) F dX9_draws_5 0 rfl ?_
    refine fm_get (v := .ref (ad 2)) (pc := 6) F (ci := 9) (T := TX9) (n := 29) rfl in_X9 9 (fm_lt rfl) dX9_draws_6 q804 0 (fm_lt rfl) rfl rfl ?_
    refine fm_iconst (v := 0) (pc := 9) F dX9_draws_9 (by decide) ?_
    refine fm_ialdK (pc := 10) F dX9_draws_10 2 (fm_lt rfl) rfl 0 (fm_ok (by decide)) rfl ?_
    refine fm_icmp_ge (tgt := 122) (pc := 11) F dX9_draws_11 (by decide) (fun c1 => ?_) (fun c1 => ?_)
    · replace hf := fm_ip c1 hf
      exact fm_vret (pc := 122) F E hf dX9_draws_122
    · replace hf := fm_in c1 hf
      refine fm_ldc2 (pc := 14) F dX9_draws_14 q978 ?_
      refine fm_iload_n (pc := 17) F dX9_draws_17 1 rfl ?_
      refine fm_i2l (pc := 18) F dX9_draws_18 ?_
      refine fm_lmul (pc := 19) F dX9_draws_19 ?_
      refine fm_ldc2 (pc := 20) F dX9_draws_20 q979 ?_
      refine fm_iload_n (pc := 23) F dX9_draws_23 3 rfl ?_
      refine fm_i2l (pc := 24) F dX9_draws_24 ?_
      refine fm_lmul (pc := 25) F dX9_draws_25 ?_
      refine fm_ladd (pc := 26) F dX9_draws_26 ?_
      refine fm_lconst (v := 1) (pc := 27) F dX9_draws_27 (by decide) ?_
      refine fm_ladd (pc := 28) F dX9_draws_28 ?_
      refine fm_topl (fun x2 ex2 => ?_)
      replace hf := fm_let_inv ex2 hf
      refine fm_lstore (lv' := [(4, .long x2), (0, .ref (ad 0)), (1, .int l1), (2, .int l2), (3, .int l3)]) (pc := 29) F dX9_draws_29 (fm_lt rfl) rfl ?_
      refine fm_lload (pc := 31) F dX9_draws_31 0 rfl ?_
      refine fm_lload (pc := 33) F dX9_draws_33 0 rfl ?_
      refine fm_lmul (pc := 35) F dX9_draws_35 ?_
      refine fm_ldc2 (pc := 36) F dX9_draws_36 q980 ?_
      refine fm_lrem (pc := 39) F dX9_draws_39 (by decide) ?_
      refine fm_topl (fun x3 ex3 => ?_)
      replace hf := fm_let_inv ex3 hf
      refine fm_ldc2 (pc := 40) F dX9_draws_40 q981 ?_
      refine fm_ldiv (pc := 43) F dX9_draws_43 (by decide) ?_
      refine fm_aload_n (pc := 44) F dX9_draws_44 1 rfl ?_
      refine fm_get (v := .ref (ad 2)) (pc := 45) F (ci := 9) (T := TX9) (n := 29) rfl in_X9 9 (fm_lt rfl) dX9_draws_45 q804 0 (fm_lt rfl) rfl rfl ?_
      refine fm_iconst (v := 0) (pc := 48) F dX9_draws_48 (by decide) ?_
      refine fm_ialdK (pc := 49) F dX9_draws_49 2 (fm_lt rfl) rfl 0 (fm_ok (by decide)) rfl ?_
      refine fm_iload_n (pc := 50) F dX9_draws_50 4 rfl ?_
      refine fm_isub (pc := 51) F dX9_draws_51 ?_
      refine fm_i2l (pc := 52) F dX9_draws_52 ?_
      obtain ⟨b4, hf⟩ := fm_nzl_inv hf
      refine fm_lrem (pc := 53) F dX9_draws_53 b4 ?_
      refine fm_topl (fun x5 ex5 => ?_)
      replace hf := fm_let_inv ex5 hf
      refine fm_l2i (pc := 54) F dX9_draws_54 ?_
      refine fm_istore (lv' := [(6, .int x5.toInt32), (4, .long x2), (0, .ref (ad 0)), (1, .int l1), (2, .int l2), (3, .int l3)]) (pc := 55) F dX9_draws_55 (fm_lt rfl) rfl ?_
      refine fm_iconst (v := 0) (pc := 57) F dX9_draws_57 (by decide) ?_
      refine fm_istore (lv' := [(7, .int 0), (6, .int x5.toInt32), (4, .long x2), (0, .ref (ad 0)), (1, .int l1), (2, .int l2), (3, .int l3)]) (pc := 58) F dX9_draws_58 (fm_lt rfl) rfl ?_
      refine fm_pick [3, 4, 5, 6, 1, 0] rfl ?_
      exact wX9_draws_60 F E ih n _ _ _ _ _ _ hf
set_option maxHeartbeats 4000000 in
theorem mX9_draws {l : Launch} {D : va_G} {dA : Nat → ClassId} {ad : Nat → Nat} {n : Nat}  (inj : ∀ i j, i < 20 → j < 20 → ad i = ad j → i = j) {M M' : fm_M} {l1 : Int32} (hf : fX9_draws n M l1 = some M') : fm_C l yX9_draws (ws_ yX9_draws cX9_draws 8 none) rmX9_draws (YM D dA ad) [.ref (ad 0), .int l1] M none M' := by
  refine fm_enter (by decide) rfl (fm_le rfl) inj ?_
  intro X hXl F E
  subst hXl
  unfold fX9_draws at hf
  show fm_G X (YM D dA ad) (0, 0) 8 M 0 [(0, .ref (ad 0)), (1, .int l1)] []
  refine fm_iconst (v := 0) (pc := 0) F dX9_draws_0 (by decide) ?_
  refine fm_istore_n (lv' := [(2, .int 0), (0, .ref (ad 0)), (1, .int l1)]) (pc := 1) F dX9_draws_1 rfl (fm_lt rfl) rfl ?_
  refine fm_iconst (v := 0) (pc := 2) F dX9_draws_2 (by decide) ?_
  refine fm_istore_n (lv' := [(3, .int 0), (2, .int 0), (0, .ref (ad 0)), (1, .int l1)]) (pc := 3) F dX9_draws_3 rfl (fm_lt rfl) rfl ?_
  refine fm_pick [2, 3, 1, 0] rfl ?_
  exact wX9_draws_4 F E n _ _ _ _ hf
abbrev rmX9_cuts : Room := { frames := 2, cells := 0, slots := 0, locals := 80 }
def fX9_cuts_4 (n : Nat) (a1 : Nat) : Nat → fm_M → Int32 → Int32 → Option (Int32 × fm_M)
  | 0, _, _, _ => none
  | k + 1, M, l2, l3 =>
    if (M.1 2 0) ≤ l3 then
      fm_let (fm_wr M a1 1 ((M.1 a1 1) + l2)) fun M2 =>
      some (l2, M2)
    else
      fm_b (8 + l3) 56 <|
      fm_b (2 + l3) 56 <|
      fm_b (M.1 a1 (2 + l3).toNatClampNeg) 12 <|
      if (M.1 4 (M.1 a1 (2 + l3).toNatClampNeg).toNatClampNeg) ≤ (M.1 a1 (8 + l3).toNatClampNeg) then
        fX9_cuts_4 n a1 k M l2 (l3 + 1)
      else
        fm_b (2 + l3) 56 <|
        fm_b (M.1 a1 (2 + l3).toNatClampNeg) 12 <|
        fm_b (8 + l3) 56 <|
        fm_let (fm_wr M a1 (8 + l3).toNatClampNeg (M.1 4 (M.1 a1 (2 + l3).toNatClampNeg).toNatClampNeg)) fun M10 =>
        fX9_cuts_4 n a1 k M10 (l2 + 1) (l3 + 1)
def fX9_cuts (n : Nat) (a1 : Nat) (M : fm_M) : Option (Int32 × fm_M) :=
  fX9_cuts_4 n a1 n M 0 0
theorem hdX9_cuts : yX9_cuts.cls = RX9 ∧ yX9_cuts.cls ≠ "java/lang/invoke/MethodHandle" ∧ yX9_cuts.cls ≠ "java/lang/invoke/VarHandle" ∧ (parseMethodDescriptor yX9_cuts.desc).map (fun d => d.parameters.length) = some 1 := by decide +kernel
set_option maxHeartbeats 4000000 in
theorem wX9_cuts_4 {X : fm_X} {D : va_G} {dA : Nat → ClassId} {ad : Nat → Nat} {n : Nat} {a1 : Nat} (ha1 : fm_r56 a1)  {r : Int32} (F : fm_F X (YM D dA ad) cX9_cuts 4 RX9 rmX9_cuts) {M' : fm_M} (E : fm_E X (YM D dA ad) (some (.int r)) M' (some .int)) : ∀ (k : Nat) (M : fm_M) (l2 : Int32) (l3 : Int32), fX9_cuts_4 n a1 k M l2 l3 = some (r, M') → fm_G X (YM D dA ad) (0, 0) 4 M 4 [(0, .ref (ad 0)), (1, .ref (ad a1)), (2, .int l2), (3, .int l3)] [] := by
  intro k
  induction k with
  | zero =>
    intro M l2 l3 hf
    rw [fX9_cuts_4] at hf
    cases hf
  | succ k ih =>
    intro M l2 l3 hf
    rw [fX9_cuts_4] at hf
    refine fm_iload_n (pc := 4) F dX9_cuts_4 3 rfl ?_
    refine fm_aload_n (pc := 5) F dX9_cuts_5 0 rfl ?_
    refine fm_get (v := .ref (ad 2)) (pc := 6) F (ci := 9) (T := TX9) (n := 29) rfl in_X9 9 (fm_lt rfl) dX9_cuts_6 q804 0 (fm_lt rfl) rfl rfl ?_
    refine fm_iconst (v := 0) (pc := 9) F dX9_cuts_9 (by decide) ?_
    refine fm_ialdK (pc := 10) F dX9_cuts_10 2 (fm_lt rfl) rfl 0 (fm_ok (by decide)) rfl ?_
    refine fm_icmp_ge (tgt := 58) (pc := 11) F dX9_cuts_11 (by decide) (fun c1 => ?_) (fun c1 => ?_)
    · replace hf := fm_ip c1 hf
      refine fm_aload_n (pc := 58) F dX9_cuts_58 1 rfl ?_
      refine fm_iconst (v := 1) (pc := 59) F dX9_cuts_59 (by decide) ?_
      refine fm_dup2_11 (pc := 60) F dX9_cuts_60 rfl rfl ?_
      refine fm_ialdK (pc := 61) F dX9_cuts_61 a1 ha1.lt (ha1.mk _ _) 1 (fm_ok (by decide)) rfl ?_
      refine fm_iload_n (pc := 62) F dX9_cuts_62 2 rfl ?_
      refine fm_iadd (pc := 63) F dX9_cuts_63 ?_
      refine fm_iastK (pc := 64) F dX9_cuts_64 a1 ha1.lt (fun _ => ha1.mk _ _) 1 (fm_ok (by decide)) rfl ?_
      refine fm_nameM (fun M2 eM2 => ?_)
      replace hf := fm_let_inv eM2 hf
      refine fm_iload_n (pc := 65) F dX9_cuts_65 2 rfl ?_
      exact fm_iret (pc := 66) F E hf dX9_cuts_66
    · replace hf := fm_in c1 hf
      refine fm_aload_n (pc := 14) F dX9_cuts_14 1 rfl ?_
      refine fm_bipush (v := 8) (pc := 15) F dX9_cuts_15 (by decide) ?_
      refine fm_iload_n (pc := 17) F dX9_cuts_17 3 rfl ?_
      refine fm_iadd (pc := 18) F dX9_cuts_18 ?_
      obtain ⟨b3, hf⟩ := fm_b_inv hf
      refine fm_iald (pc := 19) F dX9_cuts_19 a1 ha1.lt (ha1.mk _ _) b3 ?_
      refine fm_aload_n (pc := 20) F dX9_cuts_20 0 rfl ?_
      refine fm_get (v := .ref (ad 4)) (pc := 21) F (ci := 9) (T := TX9) (n := 29) rfl in_X9 11 (fm_lt rfl) dX9_cuts_21 q806 0 (fm_lt rfl) rfl rfl ?_
      refine fm_aload_n (pc := 24) F dX9_cuts_24 1 rfl ?_
      refine fm_iconst (v := 2) (pc := 25) F dX9_cuts_25 (by decide) ?_
      refine fm_iload_n (pc := 26) F dX9_cuts_26 3 rfl ?_
      refine fm_iadd (pc := 27) F dX9_cuts_27 ?_
      obtain ⟨b4, hf⟩ := fm_b_inv hf
      refine fm_iald (pc := 28) F dX9_cuts_28 a1 ha1.lt (ha1.mk _ _) b4 ?_
      obtain ⟨b5, hf⟩ := fm_b_inv hf
      refine fm_iald (pc := 29) F dX9_cuts_29 4 (fm_lt rfl) rfl b5 ?_
      refine fm_icmp_ge (tgt := 52) (pc := 30) F dX9_cuts_30 (by decide) (fun c6 => ?_) (fun c6 => ?_)
      · replace hf := fm_ip c6 hf
        refine fm_iinc (v := (l3 + 1)) (lv' := [(3, .int (l3 + 1)), (0, .ref (ad 0)), (1, .ref (ad a1)), (2, .int l2)]) (pc := 52) F dX9_cuts_52 3 rfl rfl (fm_lt rfl) rfl ?_
        refine fm_goto (tgt := 4) (pc := 55) F dX9_cuts_55 (by decide) ?_
        refine fm_pick [1, 2, 3, 0] rfl ?_
        exact ih _ _ _ hf
      · replace hf := fm_in c6 hf
        refine fm_aload_n (pc := 33) F dX9_cuts_33 1 rfl ?_
        refine fm_bipush (v := 8) (pc := 34) F dX9_cuts_34 (by decide) ?_
        refine fm_iload_n (pc := 36) F dX9_cuts_36 3 rfl ?_
        refine fm_iadd (pc := 37) F dX9_cuts_37 ?_
        refine fm_aload_n (pc := 38) F dX9_cuts_38 0 rfl ?_
        refine fm_get (v := .ref (ad 4)) (pc := 39) F (ci := 9) (T := TX9) (n := 29) rfl in_X9 11 (fm_lt rfl) dX9_cuts_39 q806 0 (fm_lt rfl) rfl rfl ?_
        refine fm_aload_n (pc := 42) F dX9_cuts_42 1 rfl ?_
        refine fm_iconst (v := 2) (pc := 43) F dX9_cuts_43 (by decide) ?_
        refine fm_iload_n (pc := 44) F dX9_cuts_44 3 rfl ?_
        refine fm_iadd (pc := 45) F dX9_cuts_45 ?_
        obtain ⟨b7, hf⟩ := fm_b_inv hf
        refine fm_iald (pc := 46) F dX9_cuts_46 a1 ha1.lt (ha1.mk _ _) b7 ?_
        obtain ⟨b8, hf⟩ := fm_b_inv hf
        refine fm_iald (pc := 47) F dX9_cuts_47 4 (fm_lt rfl) rfl b8 ?_
        obtain ⟨b9, hf⟩ := fm_b_inv hf
        refine fm_iast (pc := 48) F dX9_cuts_48 a1 ha1.lt (fun _ => ha1.mk _ _) b9 ?_
        refine fm_nameM (fun M10 eM10 => ?_)
        replace hf := fm_let_inv eM10 hf
        refine fm_iinc (v := (l2 + 1)) (lv' := [(2, .int (l2 + 1)), (0, .ref (ad 0)), (1, .ref (ad a1)), (3, .int l3)]) (pc := 49) F dX9_cuts_49 2 rfl rfl (fm_lt rfl) rfl ?_
        refine fm_iinc (v := (l3 + 1)) (lv' := [(3, .int (l3 + 1)), (2, .int (l2 + 1)), (0, .ref (ad 0)), (1, .ref (ad a1))]) (pc := 52) F dX9_cuts_52 3 rfl rfl (fm_lt rfl) rfl ?_
        refine fm_goto (tgt := 4) (pc := 55) F dX9_cuts_55 (by decide) ?_
        refine fm_pick [2, 3, 1, 0] rfl ?_
        exact ih _ _ _ hf
set_option maxHeartbeats 4000000 in
theorem mX9_cuts {l : Launch} {D : va_G} {dA : Nat → ClassId} {ad : Nat → Nat} {n : Nat} {a1 : Nat} (ha1 : fm_r56 a1)  (inj : ∀ i j, i < 20 → j < 20 → ad i = ad j → i = j) {M M' : fm_M} {r : Int32} (hf : fX9_cuts n a1 M = some (r, M')) : fm_C l yX9_cuts (ws_ yX9_cuts cX9_cuts 4 (some .int)) rmX9_cuts (YM D dA ad) [.ref (ad 0), .ref (ad a1)] M (some (.int r)) M' := by
  refine fm_enter (by decide) rfl (fm_le rfl) inj ?_
  intro X hXl F E
  subst hXl
  unfold fX9_cuts at hf
  show fm_G X (YM D dA ad) (0, 0) 4 M 0 [(0, .ref (ad 0)), (1, .ref (ad a1))] []
  refine fm_iconst (v := 0) (pc := 0) F dX9_cuts_0 (by decide) ?_
  refine fm_istore_n (lv' := [(2, .int 0), (0, .ref (ad 0)), (1, .ref (ad a1))]) (pc := 1) F dX9_cuts_1 rfl (fm_lt rfl) rfl ?_
  refine fm_iconst (v := 0) (pc := 2) F dX9_cuts_2 (by decide) ?_
  refine fm_istore_n (lv' := [(3, .int 0), (2, .int 0), (0, .ref (ad 0)), (1, .ref (ad a1))]) (pc := 3) F dX9_cuts_3 rfl (fm_lt rfl) rfl ?_
  refine fm_pick [2, 3, 1, 0] rfl ?_
  exact wX9_cuts_4 ha1 F E n _ _ _ hf
abbrev rmX9_drawn : Room := { frames := 3, cells := 0, slots := 0, locals := 107 }
def fX9_drawn_129 (n : Nat) (a1 : Nat) : Nat → fm_M → Int32 → Option (Int32 × fm_M)
  | 0, _, _ => none
  | k + 1, M, l3 =>
    if (M.1 2 0) ≤ l3 then
      fm_let (fm_wr M a1 0 ((M.1 a1 0) + 1)) fun M2 =>
      fm_bi (fX9_cuts n a1 M2) fun r3 M4 =>
      some (r3, M4)
    else
      fm_b l3 6 <|
      fm_b (2 + l3) 56 <|
      fm_let (fm_wr M a1 (2 + l3).toNatClampNeg (M.1 19 l3.toNatClampNeg)) fun M9 =>
      fX9_drawn_129 n a1 k M9 (l3 + 1)
def fX9_drawn_76 (n : Nat) (a1 : Nat) : Nat → fm_M → Int32 → Option (Int32 × fm_M)
  | 0, _, _ => none
  | k + 1, M, l3 =>
    if (M.1 2 0) ≤ l3 then
      fX9_drawn_129 n a1 n M 0
    else
      fm_b (2 + l3) 56 <|
      fm_b ((20 + (6 * (M.1 a1 (2 + l3).toNatClampNeg))) + l3) 56 <|
      fm_let (M.1 a1 ((20 + (6 * (M.1 a1 (2 + l3).toNatClampNeg))) + l3).toNatClampNeg) fun x4 =>
      fm_b ((20 + (6 * (M.1 a1 (2 + l3).toNatClampNeg))) + l3) 56 <|
      fm_let (fm_wr M a1 ((20 + (6 * (M.1 a1 (2 + l3).toNatClampNeg))) + l3).toNatClampNeg (x4 + 1)) fun M6 =>
      fm_b l3 6 <|
      fm_b (2 + (M6.1 18 l3.toNatClampNeg)) 56 <|
      fm_b l3 6 <|
      fm_let (fm_wr M6 19 l3.toNatClampNeg (M6.1 a1 (2 + (M6.1 18 l3.toNatClampNeg)).toNatClampNeg)) fun M10 =>
      fX9_drawn_76 n a1 k M10 (l3 + 1)
def fX9_drawn_2 (n : Nat) (a1 : Nat) : Nat → fm_M → Int32 → Int32 → Option (Int32 × fm_M)
  | 0, _, _, _ => none
  | k + 1, M, l2, l3 =>
    if (M.1 2 1) ≤ l3 then
      fm_bv (fX9_draws n M l2) fun M3 =>
      fX9_drawn_76 n a1 n M3 0
    else
      fm_b l3 12 <|
      if (M.1 9 l3.toNatClampNeg) = (M.1 a1 0) then
        fm_b (14 + l3) 56 <|
        if (M.1 a1 (14 + l3).toNatClampNeg) = 0 then
          fm_b l3 12 <|
          fm_b (2 + (M.1 8 l3.toNatClampNeg)) 56 <|
          fm_b l3 12 <|
          if (M.1 a1 (2 + (M.1 8 l3.toNatClampNeg)).toNatClampNeg) = (M.1 7 l3.toNatClampNeg) then
            fm_b (14 + l3) 56 <|
            fm_let (fm_wr M a1 (14 + l3).toNatClampNeg 1) fun M17 =>
            fX9_drawn_2 n a1 k M17 l2 (l3 + 1)
          else
            fm_b (14 + l3) 56 <|
            fm_let (fm_wr M a1 (14 + l3).toNatClampNeg 2) fun M15 =>
            fX9_drawn_2 n a1 k M15 l2 (l3 + 1)
        else
          fX9_drawn_2 n a1 k M l2 (l3 + 1)
      else
        fX9_drawn_2 n a1 k M l2 (l3 + 1)
def fX9_drawn (n : Nat) (a1 : Nat) (M : fm_M) (l2 : Int32) : Option (Int32 × fm_M) :=
  fX9_drawn_2 n a1 n M l2 0
theorem hdX9_drawn : yX9_drawn.cls = RX9 ∧ yX9_drawn.cls ≠ "java/lang/invoke/MethodHandle" ∧ yX9_drawn.cls ≠ "java/lang/invoke/VarHandle" ∧ (parseMethodDescriptor yX9_drawn.desc).map (fun d => d.parameters.length) = some 2 := by decide +kernel
set_option maxHeartbeats 4000000 in
theorem wX9_drawn_129 {X : fm_X} {D : va_G} {dA : Nat → ClassId} {ad : Nat → Nat} {n : Nat} {a1 : Nat} (ha1 : fm_r56 a1)  {r : Int32} (F : fm_F X (YM D dA ad) cX9_drawn 4 RX9 rmX9_drawn) {M' : fm_M} (E : fm_E X (YM D dA ad) (some (.int r)) M' (some .int)) : ∀ (k : Nat) (M : fm_M) (l3 : Int32), fX9_drawn_129 n a1 k M l3 = some (r, M') → fm_G X (YM D dA ad) (0, 0) 4 M 129 [(0, .ref (ad 0)), (1, .ref (ad a1)), (3, .int l3)] [] := by
  intro k
  induction k with
  | zero =>
    intro M l3 hf
    rw [fX9_drawn_129] at hf
    cases hf
  | succ k ih =>
    intro M l3 hf
    rw [fX9_drawn_129] at hf
    refine fm_iload_n (pc := 129) F dX9_drawn_129 2 rfl ?_
    refine fm_aload_n (pc := 130) F dX9_drawn_130 0 rfl ?_
    refine fm_get (v := .ref (ad 2)) (pc := 131) F (ci := 9) (T := TX9) (n := 29) rfl in_X9 9 (fm_lt rfl) dX9_drawn_131 q804 0 (fm_lt rfl) rfl rfl ?_
    refine fm_iconst (v := 0) (pc := 134) F dX9_drawn_134 (by decide) ?_
    refine fm_ialdK (pc := 135) F dX9_drawn_135 2 (fm_lt rfl) rfl 0 (fm_ok (by decide)) rfl ?_
    refine fm_icmp_ge (tgt := 156) (pc := 136) F dX9_drawn_136 (by decide) (fun c1 => ?_) (fun c1 => ?_)
    · replace hf := fm_ip c1 hf
      refine fm_aload_n (pc := 156) F dX9_drawn_156 1 rfl ?_
      refine fm_iconst (v := 0) (pc := 157) F dX9_drawn_157 (by decide) ?_
      refine fm_dup2_11 (pc := 158) F dX9_drawn_158 rfl rfl ?_
      refine fm_ialdK (pc := 159) F dX9_drawn_159 a1 ha1.lt (ha1.mk _ _) 0 (fm_ok (by decide)) rfl ?_
      refine fm_iconst (v := 1) (pc := 160) F dX9_drawn_160 (by decide) ?_
      refine fm_iadd (pc := 161) F dX9_drawn_161 ?_
      refine fm_iastK (pc := 162) F dX9_drawn_162 a1 ha1.lt (fun _ => ha1.mk _ _) 0 (fm_ok (by decide)) rfl ?_
      refine fm_nameM (fun M2 eM2 => ?_)
      replace hf := fm_let_inv eM2 hf
      refine fm_aload_n (pc := 163) F dX9_drawn_163 0 rfl ?_
      refine fm_aload_n (pc := 164) F dX9_drawn_164 1 rfl ?_
      obtain ⟨r3, M4, h5, hf⟩ := fm_bi_inv hf
      refine fm_callV (As := [.ref (ad a1)]) (rest := []) (pc := 165) F (ci := 9) 0 (fm_lt rfl) rfl rfl (mX9_cuts ha1 F.inj h5) q982 q984 qs31 q50 q985 ⟨rfl, rfl⟩ hdX9_cuts ⟨fm_le rfl, fm_le rfl, Nat.zero_le _, Nat.zero_le _⟩ rfl rfl (fm_le rfl) dX9_drawn_165 ?_
      exact fm_iret (pc := 168) F E hf dX9_drawn_168
    · replace hf := fm_in c1 hf
      refine fm_aload_n (pc := 139) F dX9_drawn_139 1 rfl ?_
      refine fm_iconst (v := 2) (pc := 140) F dX9_drawn_140 (by decide) ?_
      refine fm_iload_n (pc := 141) F dX9_drawn_141 2 rfl ?_
      refine fm_iadd (pc := 142) F dX9_drawn_142 ?_
      refine fm_aload_n (pc := 143) F dX9_drawn_143 0 rfl ?_
      refine fm_get (v := .ref (ad 19)) (pc := 144) F (ci := 9) (T := TX9) (n := 29) rfl in_X9 28 (fm_lt rfl) dX9_drawn_144 q823 0 (fm_lt rfl) rfl rfl ?_
      refine fm_iload_n (pc := 147) F dX9_drawn_147 2 rfl ?_
      obtain ⟨b7, hf⟩ := fm_b_inv hf
      refine fm_iald (pc := 148) F dX9_drawn_148 19 (fm_lt rfl) rfl b7 ?_
      obtain ⟨b8, hf⟩ := fm_b_inv hf
      refine fm_iast (pc := 149) F dX9_drawn_149 a1 ha1.lt (fun _ => ha1.mk _ _) b8 ?_
      refine fm_nameM (fun M9 eM9 => ?_)
      replace hf := fm_let_inv eM9 hf
      refine fm_iinc (v := (l3 + 1)) (lv' := [(3, .int (l3 + 1)), (0, .ref (ad 0)), (1, .ref (ad a1))]) (pc := 150) F dX9_drawn_150 2 rfl rfl (fm_lt rfl) rfl ?_
      refine fm_goto (tgt := 129) (pc := 153) F dX9_drawn_153 (by decide) ?_
      refine fm_pick [1, 2, 0] rfl ?_
      exact ih _ _ hf
set_option maxHeartbeats 4000000 in
theorem wX9_drawn_76 {X : fm_X} {D : va_G} {dA : Nat → ClassId} {ad : Nat → Nat} {n : Nat} {a1 : Nat} (ha1 : fm_r56 a1)  {r : Int32} (F : fm_F X (YM D dA ad) cX9_drawn 4 RX9 rmX9_drawn) {M' : fm_M} (E : fm_E X (YM D dA ad) (some (.int r)) M' (some .int)) : ∀ (k : Nat) (M : fm_M) (l3 : Int32), fX9_drawn_76 n a1 k M l3 = some (r, M') → fm_G X (YM D dA ad) (0, 0) 4 M 76 [(0, .ref (ad 0)), (1, .ref (ad a1)), (3, .int l3)] [] := by
  intro k
  induction k with
  | zero =>
    intro M l3 hf
    rw [fX9_drawn_76] at hf
    cases hf
  | succ k ih =>
    intro M l3 hf
    rw [fX9_drawn_76] at hf
    refine fm_iload_n (pc := 76) F dX9_drawn_76 2 rfl ?_
    refine fm_aload_n (pc := 77) F dX9_drawn_77 0 rfl ?_
    refine fm_get (v := .ref (ad 2)) (pc := 78) F (ci := 9) (T := TX9) (n := 29) rfl in_X9 9 (fm_lt rfl) dX9_drawn_78 q804 0 (fm_lt rfl) rfl rfl ?_
    refine fm_iconst (v := 0) (pc := 81) F dX9_drawn_81 (by decide) ?_
    refine fm_ialdK (pc := 82) F dX9_drawn_82 2 (fm_lt rfl) rfl 0 (fm_ok (by decide)) rfl ?_
    refine fm_icmp_ge (tgt := 127) (pc := 83) F dX9_drawn_83 (by decide) (fun c1 => ?_) (fun c1 => ?_)
    · replace hf := fm_ip c1 hf
      refine fm_iconst (v := 0) (pc := 127) F dX9_drawn_127 (by decide) ?_
      refine fm_istore_n (lv' := [(3, .int 0), (0, .ref (ad 0)), (1, .ref (ad a1))]) (pc := 128) F dX9_drawn_128 rfl (fm_lt rfl) rfl ?_
      refine fm_pick [1, 2, 0] rfl ?_
      exact wX9_drawn_129 ha1 F E n _ _ hf
    · replace hf := fm_in c1 hf
      refine fm_aload_n (pc := 86) F dX9_drawn_86 1 rfl ?_
      refine fm_bipush (v := 20) (pc := 87) F dX9_drawn_87 (by decide) ?_
      refine fm_bipush (v := 6) (pc := 89) F dX9_drawn_89 (by decide) ?_
      refine fm_aload_n (pc := 91) F dX9_drawn_91 1 rfl ?_
      refine fm_iconst (v := 2) (pc := 92) F dX9_drawn_92 (by decide) ?_
      refine fm_iload_n (pc := 93) F dX9_drawn_93 2 rfl ?_
      refine fm_iadd (pc := 94) F dX9_drawn_94 ?_
      obtain ⟨b2, hf⟩ := fm_b_inv hf
      refine fm_iald (pc := 95) F dX9_drawn_95 a1 ha1.lt (ha1.mk _ _) b2 ?_
      refine fm_imul (pc := 96) F dX9_drawn_96 ?_
      refine fm_iadd (pc := 97) F dX9_drawn_97 ?_
      refine fm_iload_n (pc := 98) F dX9_drawn_98 2 rfl ?_
      refine fm_iadd (pc := 99) F dX9_drawn_99 ?_
      refine fm_dup2_11 (pc := 100) F dX9_drawn_100 rfl rfl ?_
      obtain ⟨b3, hf⟩ := fm_b_inv hf
      refine fm_iald (pc := 101) F dX9_drawn_101 a1 ha1.lt (ha1.mk _ _) b3 ?_
      refine fm_topi (fun x4 ex4 => ?_)
      replace hf := fm_let_inv ex4 hf
      refine fm_iconst (v := 1) (pc := 102) F dX9_drawn_102 (by decide) ?_
      refine fm_iadd (pc := 103) F dX9_drawn_103 ?_
      obtain ⟨b5, hf⟩ := fm_b_inv hf
      refine fm_iast (pc := 104) F dX9_drawn_104 a1 ha1.lt (fun _ => ha1.mk _ _) b5 ?_
      refine fm_nameM (fun M6 eM6 => ?_)
      replace hf := fm_let_inv eM6 hf
      refine fm_aload_n (pc := 105) F dX9_drawn_105 0 rfl ?_
      refine fm_get (v := .ref (ad 19)) (pc := 106) F (ci := 9) (T := TX9) (n := 29) rfl in_X9 28 (fm_lt rfl) dX9_drawn_106 q823 0 (fm_lt rfl) rfl rfl ?_
      refine fm_iload_n (pc := 109) F dX9_drawn_109 2 rfl ?_
      refine fm_aload_n (pc := 110) F dX9_drawn_110 1 rfl ?_
      refine fm_iconst (v := 2) (pc := 111) F dX9_drawn_111 (by decide) ?_
      refine fm_aload_n (pc := 112) F dX9_drawn_112 0 rfl ?_
      refine fm_get (v := .ref (ad 18)) (pc := 113) F (ci := 9) (T := TX9) (n := 29) rfl in_X9 27 (fm_lt rfl) dX9_drawn_113 q822 0 (fm_lt rfl) rfl rfl ?_
      refine fm_iload_n (pc := 116) F dX9_drawn_116 2 rfl ?_
      obtain ⟨b7, hf⟩ := fm_b_inv hf
      refine fm_iald (pc := 117) F dX9_drawn_117 18 (fm_lt rfl) rfl b7 ?_
      refine fm_iadd (pc := 118) F dX9_drawn_118 ?_
      obtain ⟨b8, hf⟩ := fm_b_inv hf
      refine fm_iald (pc := 119) F dX9_drawn_119 a1 ha1.lt (ha1.mk _ _) b8 ?_
      obtain ⟨b9, hf⟩ := fm_b_inv hf
      refine fm_iast (pc := 120) F dX9_drawn_120 19 (fm_lt rfl) (fun _ => rfl) b9 ?_
      refine fm_nameM (fun M10 eM10 => ?_)
      replace hf := fm_let_inv eM10 hf
      refine fm_iinc (v := (l3 + 1)) (lv' := [(3, .int (l3 + 1)), (0, .ref (ad 0)), (1, .ref (ad a1))]) (pc := 121) F dX9_drawn_121 2 rfl rfl (fm_lt rfl) rfl ?_
      refine fm_goto (tgt := 76) (pc := 124) F dX9_drawn_124 (by decide) ?_
      refine fm_pick [1, 2, 0] rfl ?_
      exact ih _ _ hf
set_option maxHeartbeats 4000000 in
theorem wX9_drawn_2 {X : fm_X} {D : va_G} {dA : Nat → ClassId} {ad : Nat → Nat} {n : Nat} {a1 : Nat} (ha1 : fm_r56 a1)  {r : Int32} (F : fm_F X (YM D dA ad) cX9_drawn 4 RX9 rmX9_drawn) {M' : fm_M} (E : fm_E X (YM D dA ad) (some (.int r)) M' (some .int)) : ∀ (k : Nat) (M : fm_M) (l2 : Int32) (l3 : Int32), fX9_drawn_2 n a1 k M l2 l3 = some (r, M') → fm_G X (YM D dA ad) (0, 0) 4 M 2 [(0, .ref (ad 0)), (1, .ref (ad a1)), (2, .int l2), (3, .int l3)] [] := by
  intro k
  induction k with
  | zero =>
    intro M l2 l3 hf
    rw [fX9_drawn_2] at hf
    cases hf
  | succ k ih =>
    intro M l2 l3 hf
    rw [fX9_drawn_2] at hf
    refine fm_iload_n (pc := 2) F dX9_drawn_2 3 rfl ?_
    refine fm_aload_n (pc := 3) F dX9_drawn_3 0 rfl ?_
    refine fm_get (v := .ref (ad 2)) (pc := 4) F (ci := 9) (T := TX9) (n := 29) rfl in_X9 9 (fm_lt rfl) dX9_drawn_4 q804 0 (fm_lt rfl) rfl rfl ?_
    refine fm_iconst (v := 1) (pc := 7) F dX9_drawn_7 (by decide) ?_
    refine fm_ialdK (pc := 8) F dX9_drawn_8 2 (fm_lt rfl) rfl 1 (fm_ok (by decide)) rfl ?_
    refine fm_icmp_ge (tgt := 69) (pc := 9) F dX9_drawn_9 (by decide) (fun c1 => ?_) (fun c1 => ?_)
    · replace hf := fm_ip c1 hf
      refine fm_aload_n (pc := 69) F dX9_drawn_69 0 rfl ?_
      refine fm_iload_n (pc := 70) F dX9_drawn_70 2 rfl ?_
      obtain ⟨M3, h4, hf⟩ := fm_bv_inv hf
      refine fm_callV (As := [.int l2]) (rest := []) (pc := 71) F (ci := 9) 0 (fm_lt rfl) rfl rfl (mX9_draws F.inj h4) q974 q976 qs30 q50 q977 ⟨rfl, rfl⟩ hdX9_draws ⟨fm_le rfl, fm_le rfl, Nat.zero_le _, Nat.zero_le _⟩ rfl rfl (fm_le rfl) dX9_drawn_71 ?_
      refine fm_iconst (v := 0) (pc := 74) F dX9_drawn_74 (by decide) ?_
      refine fm_istore_n (lv' := [(3, .int 0), (0, .ref (ad 0)), (1, .ref (ad a1)), (2, .int l2)]) (pc := 75) F dX9_drawn_75 rfl (fm_lt rfl) rfl ?_
      refine fm_pick [1, 2, 0] rfl ?_
      exact wX9_drawn_76 ha1 F E n _ _ hf
    · replace hf := fm_in c1 hf
      refine fm_aload_n (pc := 12) F dX9_drawn_12 0 rfl ?_
      refine fm_get (v := .ref (ad 9)) (pc := 13) F (ci := 9) (T := TX9) (n := 29) rfl in_X9 16 (fm_lt rfl) dX9_drawn_13 q811 0 (fm_lt rfl) rfl rfl ?_
      refine fm_iload_n (pc := 16) F dX9_drawn_16 3 rfl ?_
      obtain ⟨b6, hf⟩ := fm_b_inv hf
      refine fm_iald (pc := 17) F dX9_drawn_17 9 (fm_lt rfl) rfl b6 ?_
      refine fm_aload_n (pc := 18) F dX9_drawn_18 1 rfl ?_
      refine fm_iconst (v := 0) (pc := 19) F dX9_drawn_19 (by decide) ?_
      refine fm_ialdK (pc := 20) F dX9_drawn_20 a1 ha1.lt (ha1.mk _ _) 0 (fm_ok (by decide)) rfl ?_
      refine fm_icmp_ne (tgt := 63) (pc := 21) F dX9_drawn_21 (by decide) (fun c7 => ?_) (fun c7 => ?_)
      · replace hf := fm_in c7 hf
        refine fm_iinc (v := (l3 + 1)) (lv' := [(3, .int (l3 + 1)), (0, .ref (ad 0)), (1, .ref (ad a1)), (2, .int l2)]) (pc := 63) F dX9_drawn_63 3 rfl rfl (fm_lt rfl) rfl ?_
        refine fm_goto (tgt := 2) (pc := 66) F dX9_drawn_66 (by decide) ?_
        refine fm_pick [1, 2, 3, 0] rfl ?_
        exact ih _ _ _ hf
      · replace hf := fm_ip c7 hf
        refine fm_aload_n (pc := 24) F dX9_drawn_24 1 rfl ?_
        refine fm_bipush (v := 14) (pc := 25) F dX9_drawn_25 (by decide) ?_
        refine fm_iload_n (pc := 27) F dX9_drawn_27 3 rfl ?_
        refine fm_iadd (pc := 28) F dX9_drawn_28 ?_
        obtain ⟨b8, hf⟩ := fm_b_inv hf
        refine fm_iald (pc := 29) F dX9_drawn_29 a1 ha1.lt (ha1.mk _ _) b8 ?_
        refine fm_if_ne (tgt := 63) (pc := 30) F dX9_drawn_30 (by decide) (fun c9 => ?_) (fun c9 => ?_)
        · replace hf := fm_in c9 hf
          refine fm_iinc (v := (l3 + 1)) (lv' := [(3, .int (l3 + 1)), (0, .ref (ad 0)), (1, .ref (ad a1)), (2, .int l2)]) (pc := 63) F dX9_drawn_63 3 rfl rfl (fm_lt rfl) rfl ?_
          refine fm_goto (tgt := 2) (pc := 66) F dX9_drawn_66 (by decide) ?_
          refine fm_pick [1, 2, 3, 0] rfl ?_
          exact ih _ _ _ hf
        · replace hf := fm_ip c9 hf
          refine fm_aload_n (pc := 33) F dX9_drawn_33 1 rfl ?_
          refine fm_bipush (v := 14) (pc := 34) F dX9_drawn_34 (by decide) ?_
          refine fm_iload_n (pc := 36) F dX9_drawn_36 3 rfl ?_
          refine fm_iadd (pc := 37) F dX9_drawn_37 ?_
          refine fm_aload_n (pc := 38) F dX9_drawn_38 1 rfl ?_
          refine fm_iconst (v := 2) (pc := 39) F dX9_drawn_39 (by decide) ?_
          refine fm_aload_n (pc := 40) F dX9_drawn_40 0 rfl ?_
          refine fm_get (v := .ref (ad 8)) (pc := 41) F (ci := 9) (T := TX9) (n := 29) rfl in_X9 15 (fm_lt rfl) dX9_drawn_41 q810 0 (fm_lt rfl) rfl rfl ?_
          refine fm_iload_n (pc := 44) F dX9_drawn_44 3 rfl ?_
          obtain ⟨b10, hf⟩ := fm_b_inv hf
          refine fm_iald (pc := 45) F dX9_drawn_45 8 (fm_lt rfl) rfl b10 ?_
          refine fm_iadd (pc := 46) F dX9_drawn_46 ?_
          obtain ⟨b11, hf⟩ := fm_b_inv hf
          refine fm_iald (pc := 47) F dX9_drawn_47 a1 ha1.lt (ha1.mk _ _) b11 ?_
          refine fm_aload_n (pc := 48) F dX9_drawn_48 0 rfl ?_
          refine fm_get (v := .ref (ad 7)) (pc := 49) F (ci := 9) (T := TX9) (n := 29) rfl in_X9 14 (fm_lt rfl) dX9_drawn_49 q809 0 (fm_lt rfl) rfl rfl ?_
          refine fm_iload_n (pc := 52) F dX9_drawn_52 3 rfl ?_
          obtain ⟨b12, hf⟩ := fm_b_inv hf
          refine fm_iald (pc := 53) F dX9_drawn_53 7 (fm_lt rfl) rfl b12 ?_
          refine fm_icmp_ne (tgt := 61) (pc := 54) F dX9_drawn_54 (by decide) (fun c13 => ?_) (fun c13 => ?_)
          · replace hf := fm_in c13 hf
            refine fm_iconst (v := 2) (pc := 61) F dX9_drawn_61 (by decide) ?_
            obtain ⟨b14, hf⟩ := fm_b_inv hf
            refine fm_iast (pc := 62) F dX9_drawn_62 a1 ha1.lt (fun _ => ha1.mk _ _) b14 ?_
            refine fm_nameM (fun M15 eM15 => ?_)
            replace hf := fm_let_inv eM15 hf
            refine fm_iinc (v := (l3 + 1)) (lv' := [(3, .int (l3 + 1)), (0, .ref (ad 0)), (1, .ref (ad a1)), (2, .int l2)]) (pc := 63) F dX9_drawn_63 3 rfl rfl (fm_lt rfl) rfl ?_
            refine fm_goto (tgt := 2) (pc := 66) F dX9_drawn_66 (by decide) ?_
            refine fm_pick [1, 2, 3, 0] rfl ?_
            exact ih _ _ _ hf
          · replace hf := fm_ip c13 hf
            refine fm_iconst (v := 1) (pc := 57) F dX9_drawn_57 (by decide) ?_
            refine fm_goto (tgt := 62) (pc := 58) F dX9_drawn_58 (by decide) ?_
            obtain ⟨b16, hf⟩ := fm_b_inv hf
            refine fm_iast (pc := 62) F dX9_drawn_62 a1 ha1.lt (fun _ => ha1.mk _ _) b16 ?_
            refine fm_nameM (fun M17 eM17 => ?_)
            replace hf := fm_let_inv eM17 hf
            refine fm_iinc (v := (l3 + 1)) (lv' := [(3, .int (l3 + 1)), (0, .ref (ad 0)), (1, .ref (ad a1)), (2, .int l2)]) (pc := 63) F dX9_drawn_63 3 rfl rfl (fm_lt rfl) rfl ?_
            refine fm_goto (tgt := 2) (pc := 66) F dX9_drawn_66 (by decide) ?_
            refine fm_pick [1, 2, 3, 0] rfl ?_
            exact ih _ _ _ hf
set_option maxHeartbeats 4000000 in
theorem mX9_drawn {l : Launch} {D : va_G} {dA : Nat → ClassId} {ad : Nat → Nat} {n : Nat} {a1 : Nat} (ha1 : fm_r56 a1)  (inj : ∀ i j, i < 20 → j < 20 → ad i = ad j → i = j) {M M' : fm_M} {l2 : Int32} {r : Int32} (hf : fX9_drawn n a1 M l2 = some (r, M')) : fm_C l yX9_drawn (ws_ yX9_drawn cX9_drawn 4 (some .int)) rmX9_drawn (YM D dA ad) [.ref (ad 0), .ref (ad a1), .int l2] M (some (.int r)) M' := by
  refine fm_enter (by decide) rfl (fm_le rfl) inj ?_
  intro X hXl F E
  subst hXl
  unfold fX9_drawn at hf
  show fm_G X (YM D dA ad) (0, 0) 4 M 0 [(0, .ref (ad 0)), (1, .ref (ad a1)), (2, .int l2)] []
  refine fm_iconst (v := 0) (pc := 0) F dX9_drawn_0 (by decide) ?_
  refine fm_istore_n (lv' := [(3, .int 0), (0, .ref (ad 0)), (1, .ref (ad a1)), (2, .int l2)]) (pc := 1) F dX9_drawn_1 rfl (fm_lt rfl) rfl ?_
  refine fm_pick [1, 2, 3, 0] rfl ?_
  exact wX9_drawn_2 ha1 F E n _ _ _ hf
