/-! the component: its methods as functions, and their walks (printed by gen/genC.py) -/
set_option maxRecDepth 100000
abbrev rmX0_in : Room := { frames := 2, cells := 0, slots := 0, locals := 80 }
def fX0_in (n bk : Nat) (M : fm_M) (l0 : Int32) (l1 : Int32) (l2 : Int32) : Option (Int32 × fm_M) :=
  if l0 < l1 then
    some (0, M)
  else
    if l2 < l0 then
      some (0, M)
    else
      some (1, M)
theorem hdX0_in : yX0_in.cls = RX0 ∧ yX0_in.cls ≠ "java/lang/invoke/MethodHandle" ∧ yX0_in.cls ≠ "java/lang/invoke/VarHandle" ∧ (parseMethodDescriptor yX0_in.desc).map (fun d => d.parameters.length) = some 3 := by decide +kernel
set_option maxHeartbeats 4000000 in
theorem mX0_in {l : Launch} {D : va_G} {dA : Nat → ClassId} {ad : Nat → Nat} {N bk : Nat} {n : Nat} (hN : 193 ≤ N) (hb : fm_isBk N bk) (inj : ∀ i j, i < N → j < N → ad i = ad j → i = j) {M M' : fm_M} {l0 : Int32} {l1 : Int32} {l2 : Int32} {r : Int32} (hf : fX0_in n bk M l0 l1 l2 = some (r, M')) : fm_C l yX0_in (ws_ yX0_in cX0_in 3 (some .boolean)) rmX0_in (YC D dA N ad bk) [.int l0, .int l1, .int l2] M (some (.int r)) M' := by
  refine fm_enter (by decide) rfl (fm_le rfl) inj ?_
  intro X hXl F E
  subst hXl
  unfold fX0_in at hf
  show fm_G X (YC D dA N ad bk) (0, 0) 3 M 0 [(0, .int l0), (1, .int l1), (2, .int l2)] []
  refine fm_iload_n (pc := 0) F dX0_in_0 0 rfl ?_
  refine fm_iload_n (pc := 1) F dX0_in_1 1 rfl ?_
  refine fm_icmp_lt (tgt := 14) (pc := 2) F dX0_in_2 (by decide) (fun c1 => ?_) (fun c1 => ?_)
  · replace hf := fm_ip c1 hf
    refine fm_iconst (v := 0) (pc := 14) F dX0_in_14 (by decide) ?_
    exact fm_zret (pc := 15) F E (Or.inl rfl) hf dX0_in_15
  · replace hf := fm_in c1 hf
    refine fm_iload_n (pc := 5) F dX0_in_5 0 rfl ?_
    refine fm_iload_n (pc := 6) F dX0_in_6 2 rfl ?_
    refine fm_icmp_gt (tgt := 14) (pc := 7) F dX0_in_7 (by decide) (fun c2 => ?_) (fun c2 => ?_)
    · replace hf := fm_ip c2 hf
      refine fm_iconst (v := 0) (pc := 14) F dX0_in_14 (by decide) ?_
      exact fm_zret (pc := 15) F E (Or.inl rfl) hf dX0_in_15
    · replace hf := fm_in c2 hf
      refine fm_iconst (v := 1) (pc := 10) F dX0_in_10 (by decide) ?_
      refine fm_goto (tgt := 15) (pc := 11) F dX0_in_11 (by decide) ?_
      exact fm_zret (pc := 15) F E (Or.inr rfl) hf dX0_in_15
abbrev rmX0_isSeed : Room := { frames := 3, cells := 0, slots := 0, locals := 102 }
def fX0_isSeed (n bk : Nat) (M : fm_M) (l0 : Int32) : Option (Int32 × fm_M) :=
  fm_bi (fX0_in n bk M l0 0 9999) fun r1 M2 =>
  fm_bz r1 (some (r1, M2))
theorem hdX0_isSeed : yX0_isSeed.cls = RX0 ∧ yX0_isSeed.cls ≠ "java/lang/invoke/MethodHandle" ∧ yX0_isSeed.cls ≠ "java/lang/invoke/VarHandle" ∧ (parseMethodDescriptor yX0_isSeed.desc).map (fun d => d.parameters.length) = some 1 := by decide +kernel
set_option maxHeartbeats 4000000 in
theorem mX0_isSeed {l : Launch} {D : va_G} {dA : Nat → ClassId} {ad : Nat → Nat} {N bk : Nat} {n : Nat} (hN : 193 ≤ N) (hb : fm_isBk N bk) (inj : ∀ i j, i < N → j < N → ad i = ad j → i = j) {M M' : fm_M} {l0 : Int32} {r : Int32} (hf : fX0_isSeed n bk M l0 = some (r, M')) : fm_C l yX0_isSeed (ws_ yX0_isSeed cX0_isSeed 1 (some .boolean)) rmX0_isSeed (YC D dA N ad bk) [.int l0] M (some (.int r)) M' := by
  refine fm_enter (by decide) rfl (fm_le rfl) inj ?_
  intro X hXl F E
  subst hXl
  unfold fX0_isSeed at hf
  show fm_G X (YC D dA N ad bk) (0, 0) 1 M 0 [(0, .int l0)] []
  refine fm_iload_n (pc := 0) F dX0_isSeed_0 0 rfl ?_
  refine fm_iconst (v := 0) (pc := 1) F dX0_isSeed_1 (by decide) ?_
  refine fm_sipush (v := 9999) (pc := 2) F dX0_isSeed_2 (by decide) ?_
  obtain ⟨r1, M2, h3, hf⟩ := fm_bi_inv hf
  refine fm_callS (As := [.int l0, .int 0, .int 9999]) (rest := []) (pc := 5) F (mX0_in hN hb F.inj h3) q339 q340 q39 q341 ⟨rfl, rfl⟩ hdX0_in.2 ⟨fm_le rfl, fm_le rfl, Nat.zero_le _, Nat.zero_le _⟩ rfl rfl (fm_le rfl) dX0_isSeed_5 ?_
  obtain ⟨b5, hf⟩ := fm_bz_inv hf
  exact fm_zret (pc := 8) F E b5 hf dX0_isSeed_8
abbrev rmJ1_fill : Room := { frames := 2, cells := 0, slots := 0, locals := 80 }
def fJ1_fill_5 (n bk : Nat) (a0 : Nat) : Nat → fm_M → Int32 → Int32 → Int32 → Option (fm_M)
  | 0, _, _, _, _ => none
  | k + 1, M, l1, l2, l3 =>
    if l3 ≤ l2 then
      some M
    else
      fm_b l2 6 <|
      fm_let (fm_wr M a0 l2.toNatClampNeg l1) fun M3 =>
      fJ1_fill_5 n bk a0 k M3 l1 (l2 + 1) l3
def fJ1_fill (n bk : Nat) (a0 : Nat) (M : fm_M) (l1 : Int32) : Option (fm_M) :=
  fJ1_fill_5 n bk a0 n M l1 0 6
theorem hdJ1_fill : yJ1_fill.cls = RJ1 ∧ yJ1_fill.cls ≠ "java/lang/invoke/MethodHandle" ∧ yJ1_fill.cls ≠ "java/lang/invoke/VarHandle" ∧ (parseMethodDescriptor yJ1_fill.desc).map (fun d => d.parameters.length) = some 2 := by decide +kernel
set_option maxHeartbeats 4000000 in
theorem wJ1_fill_5 {X : fm_X} {D : va_G} {dA : Nat → ClassId} {ad : Nat → Nat} {N bk : Nat} {n : Nat} {a0 : Nat} (ha0 : fm_i6 N ad dA bk a0) (hN : 193 ≤ N) (hb : fm_isBk N bk) (F : fm_F X (YC D dA N ad bk) cJ1_fill 4 RJ1 rmJ1_fill) {M' : fm_M} (E : fm_E X (YC D dA N ad bk) none M' none) : ∀ (k : Nat) (M : fm_M) (l1 : Int32) (l2 : Int32) (l3 : Int32), fJ1_fill_5 n bk a0 k M l1 l2 l3 = some M' → fm_G X (YC D dA N ad bk) (0, 0) 4 M 5 [(0, .ref (ad a0)), (1, .int l1), (2, .int l2), (3, .int l3)] [] := by
  intro k
  induction k with
  | zero =>
    intro M l1 l2 l3 hf
    rw [fJ1_fill_5] at hf
    cases hf
  | succ k ih =>
    intro M l1 l2 l3 hf
    rw [fJ1_fill_5] at hf
    refine fm_iload_n (pc := 5) F dJ1_fill_5 2 rfl ?_
    refine fm_iload_n (pc := 6) F dJ1_fill_6 3 rfl ?_
    refine fm_icmp_ge (tgt := 20) (pc := 7) F dJ1_fill_7 (by decide) (fun c1 => ?_) (fun c1 => ?_)
    · replace hf := fm_ip c1 hf
      exact fm_vret (pc := 20) F E hf dJ1_fill_20
    · replace hf := fm_in c1 hf
      refine fm_aload_n (pc := 10) F dJ1_fill_10 0 rfl ?_
      refine fm_iload_n (pc := 11) F dJ1_fill_11 2 rfl ?_
      refine fm_iload_n (pc := 12) F dJ1_fill_12 1 rfl ?_
      obtain ⟨b2, hf⟩ := fm_b_inv hf
      refine fm_iast (pc := 13) F dJ1_fill_13 a0 ha0.1 (fun _ => ha0.2 _ _) b2 ?_
      refine fm_nameM (fun M3 eM3 => ?_)
      replace hf := fm_let_inv eM3 hf
      refine fm_iinc (v := (l2 + 1)) (lv' := [(2, .int (l2 + 1)), (0, .ref (ad a0)), (1, .int l1), (3, .int l3)]) (pc := 14) F dJ1_fill_14 2 rfl rfl (fm_lt rfl) rfl ?_
      refine fm_goto (tgt := 5) (pc := 17) F dJ1_fill_17 (by decide) ?_
      refine fm_pick [1, 2, 0, 3] rfl ?_
      exact ih _ _ _ _ hf
set_option maxHeartbeats 4000000 in
theorem mJ1_fill {l : Launch} {D : va_G} {dA : Nat → ClassId} {ad : Nat → Nat} {N bk : Nat} {n : Nat} {a0 : Nat} (ha0 : fm_i6 N ad dA bk a0) (hN : 193 ≤ N) (hb : fm_isBk N bk) (inj : ∀ i j, i < N → j < N → ad i = ad j → i = j) {M M' : fm_M} {l1 : Int32} (hf : fJ1_fill n bk a0 M l1 = some M') : fm_C l yJ1_fill (ws_ yJ1_fill cJ1_fill 4 none) rmJ1_fill (YC D dA N ad bk) [.ref (ad a0), .int l1] M none M' := by
  refine fm_enter (by decide) rfl (fm_le rfl) inj ?_
  intro X hXl F E
  subst hXl
  unfold fJ1_fill at hf
  show fm_G X (YC D dA N ad bk) (0, 0) 4 M 0 [(0, .ref (ad a0)), (1, .int l1)] []
  refine fm_iconst (v := 0) (pc := 0) F dJ1_fill_0 (by decide) ?_
  refine fm_istore_n (lv' := [(2, .int 0), (0, .ref (ad a0)), (1, .int l1)]) (pc := 1) F dJ1_fill_1 rfl (fm_lt rfl) rfl ?_
  refine fm_aload_n (pc := 2) F dJ1_fill_2 1 rfl ?_
  refine fm_alen (v := 6) (pc := 3) F dJ1_fill_3 a0 ha0.1 0 (ha0.2 _ _) rfl rfl ?_
  refine fm_istore_n (lv' := [(3, .int 6), (2, .int 0), (0, .ref (ad a0)), (1, .int l1)]) (pc := 4) F dJ1_fill_4 rfl (fm_lt rfl) rfl ?_
  refine fm_pick [2, 3, 1, 0] rfl ?_
  exact wJ1_fill_5 ha0 hN hb F E n _ _ _ _ hf
abbrev rmJ1_fill_2 : Room := { frames := 2, cells := 0, slots := 0, locals := 80 }
def fJ1_fill_2_5 (n bk : Nat) : Nat → fm_M → Int32 → Int32 → Int32 → Option (fm_M)
  | 0, _, _, _, _ => none
  | k + 1, M, l1, l2, l3 =>
    if l3 ≤ l2 then
      some M
    else
      fm_b l2 2 <|
      fm_bz l1 <|
      fm_let (fm_wr M 5 l2.toNatClampNeg l1) fun M4 =>
      fJ1_fill_2_5 n bk k M4 l1 (l2 + 1) l3
def fJ1_fill_2 (n bk : Nat) (M : fm_M) (l1 : Int32) : Option (fm_M) :=
  fJ1_fill_2_5 n bk n M l1 0 2
theorem hdJ1_fill_2 : yJ1_fill_2.cls = RJ1 ∧ yJ1_fill_2.cls ≠ "java/lang/invoke/MethodHandle" ∧ yJ1_fill_2.cls ≠ "java/lang/invoke/VarHandle" ∧ (parseMethodDescriptor yJ1_fill_2.desc).map (fun d => d.parameters.length) = some 2 := by decide +kernel
set_option maxHeartbeats 4000000 in
theorem wJ1_fill_2_5 {X : fm_X} {D : va_G} {dA : Nat → ClassId} {ad : Nat → Nat} {N bk : Nat} {n : Nat} (hN : 193 ≤ N) (hb : fm_isBk N bk) (F : fm_F X (YC D dA N ad bk) cJ1_fill_2 4 RJ1 rmJ1_fill_2) {M' : fm_M} (E : fm_E X (YC D dA N ad bk) none M' none) : ∀ (k : Nat) (M : fm_M) (l1 : Int32) (l2 : Int32) (l3 : Int32), fJ1_fill_2_5 n bk k M l1 l2 l3 = some M' → fm_G X (YC D dA N ad bk) (0, 0) 4 M 5 [(0, .ref (ad 5)), (1, .int l1), (2, .int l2), (3, .int l3)] [] := by
  intro k
  induction k with
  | zero =>
    intro M l1 l2 l3 hf
    rw [fJ1_fill_2_5] at hf
    cases hf
  | succ k ih =>
    intro M l1 l2 l3 hf
    rw [fJ1_fill_2_5] at hf
    refine fm_iload_n (pc := 5) F dJ1_fill_2_5 2 rfl ?_
    refine fm_iload_n (pc := 6) F dJ1_fill_2_6 3 rfl ?_
    refine fm_icmp_ge (tgt := 20) (pc := 7) F dJ1_fill_2_7 (by decide) (fun c1 => ?_) (fun c1 => ?_)
    · replace hf := fm_ip c1 hf
      exact fm_vret (pc := 20) F E hf dJ1_fill_2_20
    · replace hf := fm_in c1 hf
      refine fm_aload_n (pc := 10) F dJ1_fill_2_10 0 rfl ?_
      refine fm_iload_n (pc := 11) F dJ1_fill_2_11 2 rfl ?_
      refine fm_iload_n (pc := 12) F dJ1_fill_2_12 1 rfl ?_
      obtain ⟨b2, hf⟩ := fm_b_inv hf
      obtain ⟨b3, hf⟩ := fm_bz_inv hf
      refine fm_zast (pc := 13) F dJ1_fill_2_13 5 (fm_ltN hN rfl) (fun _ => rfl) b2 (fm_narB b3) ?_
      refine fm_nameM (fun M4 eM4 => ?_)
      replace hf := fm_let_inv eM4 hf
      refine fm_iinc (v := (l2 + 1)) (lv' := [(2, .int (l2 + 1)), (0, .ref (ad 5)), (1, .int l1), (3, .int l3)]) (pc := 14) F dJ1_fill_2_14 2 rfl rfl (fm_lt rfl) rfl ?_
      refine fm_goto (tgt := 5) (pc := 17) F dJ1_fill_2_17 (by decide) ?_
      refine fm_pick [1, 2, 0, 3] rfl ?_
      exact ih _ _ _ _ hf
set_option maxHeartbeats 4000000 in
theorem mJ1_fill_2 {l : Launch} {D : va_G} {dA : Nat → ClassId} {ad : Nat → Nat} {N bk : Nat} {n : Nat} (hN : 193 ≤ N) (hb : fm_isBk N bk) (inj : ∀ i j, i < N → j < N → ad i = ad j → i = j) {M M' : fm_M} {l1 : Int32} (hf : fJ1_fill_2 n bk M l1 = some M') : fm_C l yJ1_fill_2 (ws_ yJ1_fill_2 cJ1_fill_2 4 none) rmJ1_fill_2 (YC D dA N ad bk) [.ref (ad 5), .int l1] M none M' := by
  refine fm_enter (by decide) rfl (fm_le rfl) inj ?_
  intro X hXl F E
  subst hXl
  unfold fJ1_fill_2 at hf
  show fm_G X (YC D dA N ad bk) (0, 0) 4 M 0 [(0, .ref (ad 5)), (1, .int l1)] []
  refine fm_iconst (v := 0) (pc := 0) F dJ1_fill_2_0 (by decide) ?_
  refine fm_istore_n (lv' := [(2, .int 0), (0, .ref (ad 5)), (1, .int l1)]) (pc := 1) F dJ1_fill_2_1 rfl (fm_lt rfl) rfl ?_
  refine fm_aload_n (pc := 2) F dJ1_fill_2_2 1 rfl ?_
  refine fm_alen (v := 2) (pc := 3) F dJ1_fill_2_3 5 (fm_ltN hN rfl) 1 rfl rfl rfl ?_
  refine fm_istore_n (lv' := [(3, .int 2), (2, .int 0), (0, .ref (ad 5)), (1, .int l1)]) (pc := 4) F dJ1_fill_2_4 rfl (fm_lt rfl) rfl ?_
  refine fm_pick [2, 3, 1, 0] rfl ?_
  exact wJ1_fill_2_5 hN hb F E n _ _ _ _ hf
abbrev rmX1_measure : Room := { frames := 2, cells := 0, slots := 0, locals := 80 }
def fX1_measure_10 (n bk : Nat) (b0 : Nat) (k2 : fm_M → Int32 → Option (fm_M)) : Nat → fm_M → Int32 → Int32 → Option (fm_M)
  | 0, _, _, _ => none
  | k + 1, M, l1, l2 =>
    if 6 ≤ l2 then
      k2 M (l1 + 1)
    else
      fm_b l1 6 <|
      if l1 = l2 then
        fm_b l2 6 <|
        fm_let (fm_wr M (b0 + 12 + l1.toNatClampNeg) l2.toNatClampNeg 0) fun M14 =>
        fX1_measure_10 n bk b0 k2 k M14 l1 (l2 + 1)
      else
        fm_b l1 6 <|
        fm_b l2 6 <|
        if (M.1 (b0 + 5 + l1.toNatClampNeg) l2.toNatClampNeg) ≤ 0 then
          fm_b l2 6 <|
          fm_let (fm_wr M (b0 + 12 + l1.toNatClampNeg) l2.toNatClampNeg 100000) fun M8 =>
          fX1_measure_10 n bk b0 k2 k M8 l1 (l2 + 1)
        else
          fm_b l1 6 <|
          fm_b l2 6 <|
          fm_b l2 6 <|
          fm_let (fm_wr M (b0 + 12 + l1.toNatClampNeg) l2.toNatClampNeg (M.1 (b0 + 5 + l1.toNatClampNeg) l2.toNatClampNeg)) fun M12 =>
          fX1_measure_10 n bk b0 k2 k M12 l1 (l2 + 1)
def fX1_measure_87 (n bk : Nat) (b0 : Nat) (k71 : fm_M → Int32 → Option (fm_M)) (k79 : fm_M → Int32 → Int32 → Option (fm_M)) : Nat → fm_M → Int32 → Int32 → Int32 → Option (fm_M)
  | 0, _, _, _, _ => none
  | k + 1, M, l1, l2, l3 =>
    if 6 ≤ l3 then
      k79 M l1 (l2 + 1)
    else
      fm_b l2 6 <|
      fm_b l2 6 <|
      fm_b l3 6 <|
      fm_b l2 6 <|
      fm_b l1 6 <|
      fm_b l1 6 <|
      fm_b l3 6 <|
      fm_let ((M.1 (b0 + 12 + l2.toNatClampNeg) l1.toNatClampNeg) + (M.1 (b0 + 12 + l1.toNatClampNeg) l3.toNatClampNeg)) fun x9 =>
      fm_let (if x9 < (M.1 (b0 + 12 + l2.toNatClampNeg) l3.toNatClampNeg) then x9 else (M.1 (b0 + 12 + l2.toNatClampNeg) l3.toNatClampNeg)) fun x10 =>
      fm_b l3 6 <|
      fm_let (fm_wr M (b0 + 12 + l2.toNatClampNeg) l3.toNatClampNeg x10) fun M12 =>
      fX1_measure_87 n bk b0 k71 k79 k M12 l1 l2 (l3 + 1)
def fX1_measure_79 (n bk : Nat) (b0 : Nat) (k71 : fm_M → Int32 → Option (fm_M)) : Nat → fm_M → Int32 → Int32 → Option (fm_M)
  | 0, _, _, _ => none
  | k + 1, M, l1, l2 =>
    if 6 ≤ l2 then
      k71 M (l1 + 1)
    else
      fX1_measure_87 n bk b0 k71 (fX1_measure_79 n bk b0 k71 k) n M l1 l2 0
def fX1_measure_71 (n bk : Nat) (b0 : Nat) : Nat → fm_M → Int32 → Option (fm_M)
  | 0, _, _ => none
  | k + 1, M, l1 =>
    if 6 ≤ l1 then
      some M
    else
      fX1_measure_79 n bk b0 (fX1_measure_71 n bk b0 k) n M l1 0
def fX1_measure_2 (n bk : Nat) (b0 : Nat) : Nat → fm_M → Int32 → Option (fm_M)
  | 0, _, _ => none
  | k + 1, M, l1 =>
    if 6 ≤ l1 then
      fX1_measure_71 n bk b0 n M 0
    else
      fX1_measure_10 n bk b0 (fX1_measure_2 n bk b0 k) n M l1 0
def fX1_measure (n bk : Nat) (b0 : Nat) (M : fm_M) : Option (fm_M) :=
  fX1_measure_2 n bk b0 n M 0
theorem hdX1_measure : yX1_measure.cls = RX1 ∧ yX1_measure.cls ≠ "java/lang/invoke/MethodHandle" ∧ yX1_measure.cls ≠ "java/lang/invoke/VarHandle" ∧ (parseMethodDescriptor yX1_measure.desc).map (fun d => d.parameters.length) = some 0 := by decide +kernel
set_option maxHeartbeats 4000000 in
theorem wX1_measure_10 {X : fm_X} {D : va_G} {dA : Nat → ClassId} {ad : Nat → Nat} {N bk : Nat} {n : Nat} {b0 : Nat} (hb0 : fm_isBk N b0) (hN : 193 ≤ N) (hb : fm_isBk N bk) (F : fm_F X (YC D dA N ad bk) cX1_measure 4 RX1 rmX1_measure) {M' : fm_M} (E : fm_E X (YC D dA N ad bk) none M' none) {k2 : fm_M → Int32 → Option (fm_M)} (hk2 : ∀ (M : fm_M) (l1 : Int32), k2 M l1 = some M' → fm_G X (YC D dA N ad bk) (0, 0) 4 M 2 [(0, .ref (ad b0)), (1, .int l1)] []) : ∀ (k : Nat) (M : fm_M) (l1 : Int32) (l2 : Int32), fX1_measure_10 n bk b0 k2 k M l1 l2 = some M' → fm_G X (YC D dA N ad bk) (0, 0) 4 M 10 [(0, .ref (ad b0)), (1, .int l1), (2, .int l2)] [] := by
  intro k
  induction k with
  | zero =>
    intro M l1 l2 hf
    rw [fX1_measure_10] at hf
    cases hf
  | succ k ih =>
    intro M l1 l2 hf
    rw [fX1_measure_10] at hf
    refine fm_iload_n (pc := 10) F dX1_measure_10 2 rfl ?_
    refine fm_bipush (v := 6) (pc := 11) F dX1_measure_11 (by decide) ?_
    refine fm_icmp_ge (tgt := 63) (pc := 13) F dX1_measure_13 (by decide) (fun c1 => ?_) (fun c1 => ?_)
    · replace hf := fm_ip c1 hf
      refine fm_iinc (v := (l1 + 1)) (lv' := [(1, .int (l1 + 1)), (0, .ref (ad b0)), (2, .int l2)]) (pc := 63) F dX1_measure_63 1 rfl rfl (fm_lt rfl) rfl ?_
      refine fm_goto (tgt := 2) (pc := 66) F dX1_measure_66 (by decide) ?_
      refine fm_pick [1, 0] rfl ?_
      exact hk2 _ _ hf
    · replace hf := fm_in c1 hf
      refine fm_aload_n (pc := 16) F dX1_measure_16 0 rfl ?_
      refine fm_get (v := .ref (ad (b0 + 11))) (pc := 17) F (ci := 1) (T := TX1) (n := 11) rfl in_X1 4 (fm_lt rfl) dX1_measure_17 q94 b0 (hb0.lt 0 (fm_lt rfl)) (hb0.mk0 (ad := ad) (dA := dA) (bk := bk) _ M.2) rfl ?_
      refine fm_iload_n (pc := 20) F dX1_measure_20 1 rfl ?_
      obtain ⟨b2, hf⟩ := fm_b_inv hf
      refine fm_aald (pc := 21) F dX1_measure_21 (b0 + 11) (hb0.lt 11 (fm_lt rfl)) 5 (fun j => b0 + 12 + j) (hb0.mk11 (ad := ad) (dA := dA) (bk := bk) (M.1 (b0 + 11)) M.2) rfl rfl b2 ?_
      refine fm_iload_n (pc := 22) F dX1_measure_22 2 rfl ?_
      refine fm_iload_n (pc := 23) F dX1_measure_23 1 rfl ?_
      refine fm_iload_n (pc := 24) F dX1_measure_24 2 rfl ?_
      refine fm_icmp_ne (tgt := 32) (pc := 25) F dX1_measure_25 (by decide) (fun c3 => ?_) (fun c3 => ?_)
      · replace hf := fm_in c3 hf
        refine fm_aload_n (pc := 32) F dX1_measure_32 0 rfl ?_
        refine fm_get (v := .ref (ad (b0 + 4))) (pc := 33) F (ci := 1) (T := TX1) (n := 11) rfl in_X1 3 (fm_lt rfl) dX1_measure_33 q91 b0 (hb0.lt 0 (fm_lt rfl)) (hb0.mk0 (ad := ad) (dA := dA) (bk := bk) _ M.2) rfl ?_
        refine fm_iload_n (pc := 36) F dX1_measure_36 1 rfl ?_
        obtain ⟨b4, hf⟩ := fm_b_inv hf
        refine fm_aald (pc := 37) F dX1_measure_37 (b0 + 4) (hb0.lt 4 (fm_lt rfl)) 5 (fun j => b0 + 5 + j) (hb0.mk4 (ad := ad) (dA := dA) (bk := bk) (M.1 (b0 + 4)) M.2) rfl rfl b4 ?_
        refine fm_iload_n (pc := 38) F dX1_measure_38 2 rfl ?_
        obtain ⟨b5, hf⟩ := fm_b_inv hf
        refine fm_iald (pc := 39) F dX1_measure_39 (b0 + 5 + l1.toNatClampNeg) (hb0.ltr 5 (fm_le rfl) (fm_vlt b4)) (hb0.mkr5 (ad := ad) (dA := dA) (bk := bk) (fm_vlt b4) _ M.2) b5 ?_
        refine fm_if_le (tgt := 54) (pc := 40) F dX1_measure_40 (by decide) (fun c6 => ?_) (fun c6 => ?_)
        · replace hf := fm_ip c6 hf
          refine fm_ldc (pc := 54) F dX1_measure_54 q569 ?_
          obtain ⟨b7, hf⟩ := fm_b_inv hf
          refine fm_iast (pc := 56) F dX1_measure_56 (b0 + 12 + l1.toNatClampNeg) (hb0.ltr 12 (fm_le rfl) (fm_vlt b2)) (fun _ => hb0.mkr12 (ad := ad) (dA := dA) (bk := bk) (fm_vlt b2) _ M.2) b7 ?_
          refine fm_nameM (fun M8 eM8 => ?_)
          replace hf := fm_let_inv eM8 hf
          refine fm_iinc (v := (l2 + 1)) (lv' := [(2, .int (l2 + 1)), (0, .ref (ad b0)), (1, .int l1)]) (pc := 57) F dX1_measure_57 2 rfl rfl (fm_lt rfl) rfl ?_
          refine fm_goto (tgt := 10) (pc := 60) F dX1_measure_60 (by decide) ?_
          refine fm_pick [1, 2, 0] rfl ?_
          exact ih _ _ _ hf
        · replace hf := fm_in c6 hf
          refine fm_aload_n (pc := 43) F dX1_measure_43 0 rfl ?_
          refine fm_get (v := .ref (ad (b0 + 4))) (pc := 44) F (ci := 1) (T := TX1) (n := 11) rfl in_X1 3 (fm_lt rfl) dX1_measure_44 q91 b0 (hb0.lt 0 (fm_lt rfl)) (hb0.mk0 (ad := ad) (dA := dA) (bk := bk) _ M.2) rfl ?_
          refine fm_iload_n (pc := 47) F dX1_measure_47 1 rfl ?_
          obtain ⟨b9, hf⟩ := fm_b_inv hf
          refine fm_aald (pc := 48) F dX1_measure_48 (b0 + 4) (hb0.lt 4 (fm_lt rfl)) 5 (fun j => b0 + 5 + j) (hb0.mk4 (ad := ad) (dA := dA) (bk := bk) (M.1 (b0 + 4)) M.2) rfl rfl b9 ?_
          refine fm_iload_n (pc := 49) F dX1_measure_49 2 rfl ?_
          obtain ⟨b10, hf⟩ := fm_b_inv hf
          refine fm_iald (pc := 50) F dX1_measure_50 (b0 + 5 + l1.toNatClampNeg) (hb0.ltr 5 (fm_le rfl) (fm_vlt b9)) (hb0.mkr5 (ad := ad) (dA := dA) (bk := bk) (fm_vlt b9) _ M.2) b10 ?_
          refine fm_goto (tgt := 56) (pc := 51) F dX1_measure_51 (by decide) ?_
          obtain ⟨b11, hf⟩ := fm_b_inv hf
          refine fm_iast (pc := 56) F dX1_measure_56 (b0 + 12 + l1.toNatClampNeg) (hb0.ltr 12 (fm_le rfl) (fm_vlt b2)) (fun _ => hb0.mkr12 (ad := ad) (dA := dA) (bk := bk) (fm_vlt b2) _ M.2) b11 ?_
          refine fm_nameM (fun M12 eM12 => ?_)
          replace hf := fm_let_inv eM12 hf
          refine fm_iinc (v := (l2 + 1)) (lv' := [(2, .int (l2 + 1)), (0, .ref (ad b0)), (1, .int l1)]) (pc := 57) F dX1_measure_57 2 rfl rfl (fm_lt rfl) rfl ?_
          refine fm_goto (tgt := 10) (pc := 60) F dX1_measure_60 (by decide) ?_
          refine fm_pick [1, 2, 0] rfl ?_
          exact ih _ _ _ hf
      · replace hf := fm_ip c3 hf
        refine fm_iconst (v := 0) (pc := 28) F dX1_measure_28 (by decide) ?_
        refine fm_goto (tgt := 56) (pc := 29) F dX1_measure_29 (by decide) ?_
        obtain ⟨b13, hf⟩ := fm_b_inv hf
        refine fm_iast (pc := 56) F dX1_measure_56 (b0 + 12 + l1.toNatClampNeg) (hb0.ltr 12 (fm_le rfl) (fm_vlt b2)) (fun _ => hb0.mkr12 (ad := ad) (dA := dA) (bk := bk) (fm_vlt b2) _ M.2) b13 ?_
        refine fm_nameM (fun M14 eM14 => ?_)
        replace hf := fm_let_inv eM14 hf
        refine fm_iinc (v := (l2 + 1)) (lv' := [(2, .int (l2 + 1)), (0, .ref (ad b0)), (1, .int l1)]) (pc := 57) F dX1_measure_57 2 rfl rfl (fm_lt rfl) rfl ?_
        refine fm_goto (tgt := 10) (pc := 60) F dX1_measure_60 (by decide) ?_
        refine fm_pick [1, 2, 0] rfl ?_
        exact ih _ _ _ hf
set_option maxHeartbeats 4000000 in
theorem wX1_measure_87 {X : fm_X} {D : va_G} {dA : Nat → ClassId} {ad : Nat → Nat} {N bk : Nat} {n : Nat} {b0 : Nat} (hb0 : fm_isBk N b0) (hN : 193 ≤ N) (hb : fm_isBk N bk) (F : fm_F X (YC D dA N ad bk) cX1_measure 4 RX1 rmX1_measure) {M' : fm_M} (E : fm_E X (YC D dA N ad bk) none M' none) {k71 : fm_M → Int32 → Option (fm_M)} (hk71 : ∀ (M : fm_M) (l1 : Int32), k71 M l1 = some M' → fm_G X (YC D dA N ad bk) (0, 0) 4 M 71 [(0, .ref (ad b0)), (1, .int l1)] []) {k79 : fm_M → Int32 → Int32 → Option (fm_M)} (hk79 : ∀ (M : fm_M) (l1 : Int32) (l2 : Int32), k79 M l1 l2 = some M' → fm_G X (YC D dA N ad bk) (0, 0) 4 M 79 [(0, .ref (ad b0)), (1, .int l1), (2, .int l2)] []) : ∀ (k : Nat) (M : fm_M) (l1 : Int32) (l2 : Int32) (l3 : Int32), fX1_measure_87 n bk b0 k71 k79 k M l1 l2 l3 = some M' → fm_G X (YC D dA N ad bk) (0, 0) 4 M 87 [(0, .ref (ad b0)), (1, .int l1), (2, .int l2), (3, .int l3)] [] := by
  intro k
  induction k with
  | zero =>
    intro M l1 l2 l3 hf
    rw [fX1_measure_87] at hf
    cases hf
  | succ k ih =>
    intro M l1 l2 l3 hf
    rw [fX1_measure_87] at hf
    refine fm_iload_n (pc := 87) F dX1_measure_87 3 rfl ?_
    refine fm_bipush (v := 6) (pc := 88) F dX1_measure_88 (by decide) ?_
    refine fm_icmp_ge (tgt := 135) (pc := 90) F dX1_measure_90 (by decide) (fun c1 => ?_) (fun c1 => ?_)
    · replace hf := fm_ip c1 hf
      refine fm_iinc (v := (l2 + 1)) (lv' := [(2, .int (l2 + 1)), (0, .ref (ad b0)), (1, .int l1), (3, .int l3)]) (pc := 135) F dX1_measure_135 2 rfl rfl (fm_lt rfl) rfl ?_
      refine fm_goto (tgt := 79) (pc := 138) F dX1_measure_138 (by decide) ?_
      refine fm_pick [1, 2, 0] rfl ?_
      exact hk79 _ _ _ hf
    · replace hf := fm_in c1 hf
      refine fm_aload_n (pc := 93) F dX1_measure_93 0 rfl ?_
      refine fm_get (v := .ref (ad (b0 + 11))) (pc := 94) F (ci := 1) (T := TX1) (n := 11) rfl in_X1 4 (fm_lt rfl) dX1_measure_94 q94 b0 (hb0.lt 0 (fm_lt rfl)) (hb0.mk0 (ad := ad) (dA := dA) (bk := bk) _ M.2) rfl ?_
      refine fm_iload_n (pc := 97) F dX1_measure_97 2 rfl ?_
      obtain ⟨b2, hf⟩ := fm_b_inv hf
      refine fm_aald (pc := 98) F dX1_measure_98 (b0 + 11) (hb0.lt 11 (fm_lt rfl)) 5 (fun j => b0 + 12 + j) (hb0.mk11 (ad := ad) (dA := dA) (bk := bk) (M.1 (b0 + 11)) M.2) rfl rfl b2 ?_
      refine fm_iload_n (pc := 99) F dX1_measure_99 3 rfl ?_
      refine fm_aload_n (pc := 100) F dX1_measure_100 0 rfl ?_
      refine fm_get (v := .ref (ad (b0 + 11))) (pc := 101) F (ci := 1) (T := TX1) (n := 11) rfl in_X1 4 (fm_lt rfl) dX1_measure_101 q94 b0 (hb0.lt 0 (fm_lt rfl)) (hb0.mk0 (ad := ad) (dA := dA) (bk := bk) _ M.2) rfl ?_
      refine fm_iload_n (pc := 104) F dX1_measure_104 2 rfl ?_
      obtain ⟨b3, hf⟩ := fm_b_inv hf
      refine fm_aald (pc := 105) F dX1_measure_105 (b0 + 11) (hb0.lt 11 (fm_lt rfl)) 5 (fun j => b0 + 12 + j) (hb0.mk11 (ad := ad) (dA := dA) (bk := bk) (M.1 (b0 + 11)) M.2) rfl rfl b3 ?_
      refine fm_iload_n (pc := 106) F dX1_measure_106 3 rfl ?_
      obtain ⟨b4, hf⟩ := fm_b_inv hf
      refine fm_iald (pc := 107) F dX1_measure_107 (b0 + 12 + l2.toNatClampNeg) (hb0.ltr 12 (fm_le rfl) (fm_vlt b3)) (hb0.mkr12 (ad := ad) (dA := dA) (bk := bk) (fm_vlt b3) _ M.2) b4 ?_
      refine fm_aload_n (pc := 108) F dX1_measure_108 0 rfl ?_
      refine fm_get (v := .ref (ad (b0 + 11))) (pc := 109) F (ci := 1) (T := TX1) (n := 11) rfl in_X1 4 (fm_lt rfl) dX1_measure_109 q94 b0 (hb0.lt 0 (fm_lt rfl)) (hb0.mk0 (ad := ad) (dA := dA) (bk := bk) _ M.2) rfl ?_
      refine fm_iload_n (pc := 112) F dX1_measure_112 2 rfl ?_
      obtain ⟨b5, hf⟩ := fm_b_inv hf
      refine fm_aald (pc := 113) F dX1_measure_113 (b0 + 11) (hb0.lt 11 (fm_lt rfl)) 5 (fun j => b0 + 12 + j) (hb0.mk11 (ad := ad) (dA := dA) (bk := bk) (M.1 (b0 + 11)) M.2) rfl rfl b5 ?_
      refine fm_iload_n (pc := 114) F dX1_measure_114 1 rfl ?_
      obtain ⟨b6, hf⟩ := fm_b_inv hf
      refine fm_iald (pc := 115) F dX1_measure_115 (b0 + 12 + l2.toNatClampNeg) (hb0.ltr 12 (fm_le rfl) (fm_vlt b5)) (hb0.mkr12 (ad := ad) (dA := dA) (bk := bk) (fm_vlt b5) _ M.2) b6 ?_
      refine fm_aload_n (pc := 116) F dX1_measure_116 0 rfl ?_
      refine fm_get (v := .ref (ad (b0 + 11))) (pc := 117) F (ci := 1) (T := TX1) (n := 11) rfl in_X1 4 (fm_lt rfl) dX1_measure_117 q94 b0 (hb0.lt 0 (fm_lt rfl)) (hb0.mk0 (ad := ad) (dA := dA) (bk := bk) _ M.2) rfl ?_
      refine fm_iload_n (pc := 120) F dX1_measure_120 1 rfl ?_
      obtain ⟨b7, hf⟩ := fm_b_inv hf
      refine fm_aald (pc := 121) F dX1_measure_121 (b0 + 11) (hb0.lt 11 (fm_lt rfl)) 5 (fun j => b0 + 12 + j) (hb0.mk11 (ad := ad) (dA := dA) (bk := bk) (M.1 (b0 + 11)) M.2) rfl rfl b7 ?_
      refine fm_iload_n (pc := 122) F dX1_measure_122 3 rfl ?_
      obtain ⟨b8, hf⟩ := fm_b_inv hf
      refine fm_iald (pc := 123) F dX1_measure_123 (b0 + 12 + l1.toNatClampNeg) (hb0.ltr 12 (fm_le rfl) (fm_vlt b7)) (hb0.mkr12 (ad := ad) (dA := dA) (bk := bk) (fm_vlt b7) _ M.2) b8 ?_
      refine fm_iadd (pc := 124) F dX1_measure_124 ?_
      refine fm_topi (fun x9 ex9 => ?_)
      replace hf := fm_let_inv ex9 hf
      refine fm_mmin (pc := 125) F q570 q392 q48 q393 ⟨fm_le rfl, fm_le rfl, Nat.zero_le _, Nat.zero_le _⟩ dX1_measure_125 ?_
      refine fm_topi (fun x10 ex10 => ?_)
      replace hf := fm_let_inv ex10 hf
      obtain ⟨b11, hf⟩ := fm_b_inv hf
      refine fm_iast (pc := 128) F dX1_measure_128 (b0 + 12 + l2.toNatClampNeg) (hb0.ltr 12 (fm_le rfl) (fm_vlt b2)) (fun _ => hb0.mkr12 (ad := ad) (dA := dA) (bk := bk) (fm_vlt b2) _ M.2) b11 ?_
      refine fm_nameM (fun M12 eM12 => ?_)
      replace hf := fm_let_inv eM12 hf
      refine fm_iinc (v := (l3 + 1)) (lv' := [(3, .int (l3 + 1)), (0, .ref (ad b0)), (1, .int l1), (2, .int l2)]) (pc := 129) F dX1_measure_129 3 rfl rfl (fm_lt rfl) rfl ?_
      refine fm_goto (tgt := 87) (pc := 132) F dX1_measure_132 (by decide) ?_
      refine fm_pick [1, 2, 3, 0] rfl ?_
      exact ih _ _ _ _ hf
set_option maxHeartbeats 4000000 in
theorem wX1_measure_79 {X : fm_X} {D : va_G} {dA : Nat → ClassId} {ad : Nat → Nat} {N bk : Nat} {n : Nat} {b0 : Nat} (hb0 : fm_isBk N b0) (hN : 193 ≤ N) (hb : fm_isBk N bk) (F : fm_F X (YC D dA N ad bk) cX1_measure 4 RX1 rmX1_measure) {M' : fm_M} (E : fm_E X (YC D dA N ad bk) none M' none) {k71 : fm_M → Int32 → Option (fm_M)} (hk71 : ∀ (M : fm_M) (l1 : Int32), k71 M l1 = some M' → fm_G X (YC D dA N ad bk) (0, 0) 4 M 71 [(0, .ref (ad b0)), (1, .int l1)] []) : ∀ (k : Nat) (M : fm_M) (l1 : Int32) (l2 : Int32), fX1_measure_79 n bk b0 k71 k M l1 l2 = some M' → fm_G X (YC D dA N ad bk) (0, 0) 4 M 79 [(0, .ref (ad b0)), (1, .int l1), (2, .int l2)] [] := by
  intro k
  induction k with
  | zero =>
    intro M l1 l2 hf
    rw [fX1_measure_79] at hf
    cases hf
  | succ k ih =>
    intro M l1 l2 hf
    rw [fX1_measure_79] at hf
    refine fm_iload_n (pc := 79) F dX1_measure_79 2 rfl ?_
    refine fm_bipush (v := 6) (pc := 80) F dX1_measure_80 (by decide) ?_
    refine fm_icmp_ge (tgt := 141) (pc := 82) F dX1_measure_82 (by decide) (fun c1 => ?_) (fun c1 => ?_)
    · replace hf := fm_ip c1 hf
      refine fm_iinc (v := (l1 + 1)) (lv' := [(1, .int (l1 + 1)), (0, .ref (ad b0)), (2, .int l2)]) (pc := 141) F dX1_measure_141 1 rfl rfl (fm_lt rfl) rfl ?_
      refine fm_goto (tgt := 71) (pc := 144) F dX1_measure_144 (by decide) ?_
      refine fm_pick [1, 0] rfl ?_
      exact hk71 _ _ hf
    · replace hf := fm_in c1 hf
      refine fm_iconst (v := 0) (pc := 85) F dX1_measure_85 (by decide) ?_
      refine fm_istore_n (lv' := [(3, .int 0), (0, .ref (ad b0)), (1, .int l1), (2, .int l2)]) (pc := 86) F dX1_measure_86 rfl (fm_lt rfl) rfl ?_
      refine fm_pick [1, 2, 3, 0] rfl ?_
      exact wX1_measure_87 hb0 hN hb F E hk71 ih n _ _ _ _ hf
set_option maxHeartbeats 4000000 in
theorem wX1_measure_71 {X : fm_X} {D : va_G} {dA : Nat → ClassId} {ad : Nat → Nat} {N bk : Nat} {n : Nat} {b0 : Nat} (hb0 : fm_isBk N b0) (hN : 193 ≤ N) (hb : fm_isBk N bk) (F : fm_F X (YC D dA N ad bk) cX1_measure 4 RX1 rmX1_measure) {M' : fm_M} (E : fm_E X (YC D dA N ad bk) none M' none) : ∀ (k : Nat) (M : fm_M) (l1 : Int32), fX1_measure_71 n bk b0 k M l1 = some M' → fm_G X (YC D dA N ad bk) (0, 0) 4 M 71 [(0, .ref (ad b0)), (1, .int l1)] [] := by
  intro k
  induction k with
  | zero =>
    intro M l1 hf
    rw [fX1_measure_71] at hf
    cases hf
  | succ k ih =>
    intro M l1 hf
    rw [fX1_measure_71] at hf
    refine fm_iload_n (pc := 71) F dX1_measure_71 1 rfl ?_
    refine fm_bipush (v := 6) (pc := 72) F dX1_measure_72 (by decide) ?_
    refine fm_icmp_ge (tgt := 147) (pc := 74) F dX1_measure_74 (by decide) (fun c1 => ?_) (fun c1 => ?_)
    · replace hf := fm_ip c1 hf
      exact fm_vret (pc := 147) F E hf dX1_measure_147
    · replace hf := fm_in c1 hf
      refine fm_iconst (v := 0) (pc := 77) F dX1_measure_77 (by decide) ?_
      refine fm_istore_n (lv' := [(2, .int 0), (0, .ref (ad b0)), (1, .int l1)]) (pc := 78) F dX1_measure_78 rfl (fm_lt rfl) rfl ?_
      refine fm_pick [1, 2, 0] rfl ?_
      exact wX1_measure_79 hb0 hN hb F E ih n _ _ _ hf
set_option maxHeartbeats 4000000 in
theorem wX1_measure_2 {X : fm_X} {D : va_G} {dA : Nat → ClassId} {ad : Nat → Nat} {N bk : Nat} {n : Nat} {b0 : Nat} (hb0 : fm_isBk N b0) (hN : 193 ≤ N) (hb : fm_isBk N bk) (F : fm_F X (YC D dA N ad bk) cX1_measure 4 RX1 rmX1_measure) {M' : fm_M} (E : fm_E X (YC D dA N ad bk) none M' none) : ∀ (k : Nat) (M : fm_M) (l1 : Int32), fX1_measure_2 n bk b0 k M l1 = some M' → fm_G X (YC D dA N ad bk) (0, 0) 4 M 2 [(0, .ref (ad b0)), (1, .int l1)] [] := by
  intro k
  induction k with
  | zero =>
    intro M l1 hf
    rw [fX1_measure_2] at hf
    cases hf
  | succ k ih =>
    intro M l1 hf
    rw [fX1_measure_2] at hf
    refine fm_iload_n (pc := 2) F dX1_measure_2 1 rfl ?_
    refine fm_bipush (v := 6) (pc := 3) F dX1_measure_3 (by decide) ?_
    refine fm_icmp_ge (tgt := 69) (pc := 5) F dX1_measure_5 (by decide) (fun c1 => ?_) (fun c1 => ?_)
    · replace hf := fm_ip c1 hf
      refine fm_iconst (v := 0) (pc := 69) F dX1_measure_69 (by decide) ?_
      refine fm_istore_n (lv' := [(1, .int 0), (0, .ref (ad b0))]) (pc := 70) F dX1_measure_70 rfl (fm_lt rfl) rfl ?_
      refine fm_pick [1, 0] rfl ?_
      exact wX1_measure_71 hb0 hN hb F E n _ _ hf
    · replace hf := fm_in c1 hf
      refine fm_iconst (v := 0) (pc := 8) F dX1_measure_8 (by decide) ?_
      refine fm_istore_n (lv' := [(2, .int 0), (0, .ref (ad b0)), (1, .int l1)]) (pc := 9) F dX1_measure_9 rfl (fm_lt rfl) rfl ?_
      refine fm_pick [1, 2, 0] rfl ?_
      exact wX1_measure_10 hb0 hN hb F E ih n _ _ _ hf
set_option maxHeartbeats 4000000 in
theorem mX1_measure {l : Launch} {D : va_G} {dA : Nat → ClassId} {ad : Nat → Nat} {N bk : Nat} {n : Nat} {b0 : Nat} (hb0 : fm_isBk N b0) (hN : 193 ≤ N) (hb : fm_isBk N bk) (inj : ∀ i j, i < N → j < N → ad i = ad j → i = j) {M M' : fm_M} (hf : fX1_measure n bk b0 M = some M') : fm_C l yX1_measure (ws_ yX1_measure cX1_measure 4 none) rmX1_measure (YC D dA N ad bk) [.ref (ad b0)] M none M' := by
  refine fm_enter (by decide) rfl (fm_le rfl) inj ?_
  intro X hXl F E
  subst hXl
  unfold fX1_measure at hf
  show fm_G X (YC D dA N ad bk) (0, 0) 4 M 0 [(0, .ref (ad b0))] []
  refine fm_iconst (v := 0) (pc := 0) F dX1_measure_0 (by decide) ?_
  refine fm_istore_n (lv' := [(1, .int 0), (0, .ref (ad b0))]) (pc := 1) F dX1_measure_1 rfl (fm_lt rfl) rfl ?_
  refine fm_pick [1, 0] rfl ?_
  exact wX1_measure_2 hb0 hN hb F E n _ _ hf
abbrev rmX1_roads : Room := { frames := 2, cells := 0, slots := 0, locals := 80 }
def fX1_roads_12 (n bk : Nat) (b0 : Nat) (k4 : fm_M → Int32 → Int32 → Option (Int32 × fm_M)) : Nat → fm_M → Int32 → Int32 → Int32 → Option (Int32 × fm_M)
  | 0, _, _, _, _ => none
  | k + 1, M, l1, l2, l3 =>
    if l2 ≤ l3 then
      k4 M l1 (l2 + 1)
    else
      fm_b l2 6 <|
      fm_b l3 6 <|
      if (M.1 (b0 + 5 + l2.toNatClampNeg) l3.toNatClampNeg) ≤ 0 then
        fX1_roads_12 n bk b0 k4 k M (l1 + 0) l2 (l3 + 1)
      else
        fX1_roads_12 n bk b0 k4 k M (l1 + 1) l2 (l3 + 1)
def fX1_roads_4 (n bk : Nat) (b0 : Nat) : Nat → fm_M → Int32 → Int32 → Option (Int32 × fm_M)
  | 0, _, _, _ => none
  | k + 1, M, l1, l2 =>
    if 6 ≤ l2 then
      some (l1, M)
    else
      fX1_roads_12 n bk b0 (fX1_roads_4 n bk b0 k) n M l1 l2 0
def fX1_roads (n bk : Nat) (b0 : Nat) (M : fm_M) : Option (Int32 × fm_M) :=
  fX1_roads_4 n bk b0 n M 0 0
theorem hdX1_roads : yX1_roads.cls = RX1 ∧ yX1_roads.cls ≠ "java/lang/invoke/MethodHandle" ∧ yX1_roads.cls ≠ "java/lang/invoke/VarHandle" ∧ (parseMethodDescriptor yX1_roads.desc).map (fun d => d.parameters.length) = some 0 := by decide +kernel
set_option maxHeartbeats 4000000 in
theorem wX1_roads_12 {X : fm_X} {D : va_G} {dA : Nat → ClassId} {ad : Nat → Nat} {N bk : Nat} {n : Nat} {b0 : Nat} (hb0 : fm_isBk N b0) (hN : 193 ≤ N) (hb : fm_isBk N bk) {r : Int32} (F : fm_F X (YC D dA N ad bk) cX1_roads 4 RX1 rmX1_roads) {M' : fm_M} (E : fm_E X (YC D dA N ad bk) (some (.int r)) M' (some .int)) {k4 : fm_M → Int32 → Int32 → Option (Int32 × fm_M)} (hk4 : ∀ (M : fm_M) (l1 : Int32) (l2 : Int32), k4 M l1 l2 = some (r, M') → fm_G X (YC D dA N ad bk) (0, 0) 4 M 4 [(0, .ref (ad b0)), (1, .int l1), (2, .int l2)] []) : ∀ (k : Nat) (M : fm_M) (l1 : Int32) (l2 : Int32) (l3 : Int32), fX1_roads_12 n bk b0 k4 k M l1 l2 l3 = some (r, M') → fm_G X (YC D dA N ad bk) (0, 0) 4 M 12 [(0, .ref (ad b0)), (1, .int l1), (2, .int l2), (3, .int l3)] [] := by
  intro k
  induction k with
  | zero =>
    intro M l1 l2 l3 hf
    rw [fX1_roads_12] at hf
    cases hf
  | succ k ih =>
    intro M l1 l2 l3 hf
    rw [fX1_roads_12] at hf
    refine fm_iload_n (pc := 12) F dX1_roads_12 3 rfl ?_
    refine fm_iload_n (pc := 13) F dX1_roads_13 2 rfl ?_
    refine fm_icmp_ge (tgt := 42) (pc := 14) F dX1_roads_14 (by decide) (fun c1 => ?_) (fun c1 => ?_)
    · replace hf := fm_ip c1 hf
      refine fm_iinc (v := (l2 + 1)) (lv' := [(2, .int (l2 + 1)), (0, .ref (ad b0)), (1, .int l1), (3, .int l3)]) (pc := 42) F dX1_roads_42 2 rfl rfl (fm_lt rfl) rfl ?_
      refine fm_goto (tgt := 4) (pc := 45) F dX1_roads_45 (by decide) ?_
      refine fm_pick [1, 2, 0] rfl ?_
      exact hk4 _ _ _ hf
    · replace hf := fm_in c1 hf
      refine fm_iload_n (pc := 17) F dX1_roads_17 1 rfl ?_
      refine fm_aload_n (pc := 18) F dX1_roads_18 0 rfl ?_
      refine fm_get (v := .ref (ad (b0 + 4))) (pc := 19) F (ci := 1) (T := TX1) (n := 11) rfl in_X1 3 (fm_lt rfl) dX1_roads_19 q91 b0 (hb0.lt 0 (fm_lt rfl)) (hb0.mk0 (ad := ad) (dA := dA) (bk := bk) _ M.2) rfl ?_
      refine fm_iload_n (pc := 22) F dX1_roads_22 2 rfl ?_
      obtain ⟨b2, hf⟩ := fm_b_inv hf
      refine fm_aald (pc := 23) F dX1_roads_23 (b0 + 4) (hb0.lt 4 (fm_lt rfl)) 5 (fun j => b0 + 5 + j) (hb0.mk4 (ad := ad) (dA := dA) (bk := bk) (M.1 (b0 + 4)) M.2) rfl rfl b2 ?_
      refine fm_iload_n (pc := 24) F dX1_roads_24 3 rfl ?_
      obtain ⟨b3, hf⟩ := fm_b_inv hf
      refine fm_iald (pc := 25) F dX1_roads_25 (b0 + 5 + l2.toNatClampNeg) (hb0.ltr 5 (fm_le rfl) (fm_vlt b2)) (hb0.mkr5 (ad := ad) (dA := dA) (bk := bk) (fm_vlt b2) _ M.2) b3 ?_
      refine fm_if_le (tgt := 33) (pc := 26) F dX1_roads_26 (by decide) (fun c4 => ?_) (fun c4 => ?_)
      · replace hf := fm_ip c4 hf
        refine fm_iconst (v := 0) (pc := 33) F dX1_roads_33 (by decide) ?_
        refine fm_iadd (pc := 34) F dX1_roads_34 ?_
        refine fm_istore_n (lv' := [(1, .int (l1 + 0)), (0, .ref (ad b0)), (2, .int l2), (3, .int l3)]) (pc := 35) F dX1_roads_35 rfl (fm_lt rfl) rfl ?_
        refine fm_iinc (v := (l3 + 1)) (lv' := [(3, .int (l3 + 1)), (1, .int (l1 + 0)), (0, .ref (ad b0)), (2, .int l2)]) (pc := 36) F dX1_roads_36 3 rfl rfl (fm_lt rfl) rfl ?_
        refine fm_goto (tgt := 12) (pc := 39) F dX1_roads_39 (by decide) ?_
        refine fm_pick [2, 1, 3, 0] rfl ?_
        exact ih _ _ _ _ hf
      · replace hf := fm_in c4 hf
        refine fm_iconst (v := 1) (pc := 29) F dX1_roads_29 (by decide) ?_
        refine fm_goto (tgt := 34) (pc := 30) F dX1_roads_30 (by decide) ?_
        refine fm_iadd (pc := 34) F dX1_roads_34 ?_
        refine fm_istore_n (lv' := [(1, .int (l1 + 1)), (0, .ref (ad b0)), (2, .int l2), (3, .int l3)]) (pc := 35) F dX1_roads_35 rfl (fm_lt rfl) rfl ?_
        refine fm_iinc (v := (l3 + 1)) (lv' := [(3, .int (l3 + 1)), (1, .int (l1 + 1)), (0, .ref (ad b0)), (2, .int l2)]) (pc := 36) F dX1_roads_36 3 rfl rfl (fm_lt rfl) rfl ?_
        refine fm_goto (tgt := 12) (pc := 39) F dX1_roads_39 (by decide) ?_
        refine fm_pick [2, 1, 3, 0] rfl ?_
        exact ih _ _ _ _ hf
set_option maxHeartbeats 4000000 in
theorem wX1_roads_4 {X : fm_X} {D : va_G} {dA : Nat → ClassId} {ad : Nat → Nat} {N bk : Nat} {n : Nat} {b0 : Nat} (hb0 : fm_isBk N b0) (hN : 193 ≤ N) (hb : fm_isBk N bk) {r : Int32} (F : fm_F X (YC D dA N ad bk) cX1_roads 4 RX1 rmX1_roads) {M' : fm_M} (E : fm_E X (YC D dA N ad bk) (some (.int r)) M' (some .int)) : ∀ (k : Nat) (M : fm_M) (l1 : Int32) (l2 : Int32), fX1_roads_4 n bk b0 k M l1 l2 = some (r, M') → fm_G X (YC D dA N ad bk) (0, 0) 4 M 4 [(0, .ref (ad b0)), (1, .int l1), (2, .int l2)] [] := by
  intro k
  induction k with
  | zero =>
    intro M l1 l2 hf
    rw [fX1_roads_4] at hf
    cases hf
  | succ k ih =>
    intro M l1 l2 hf
    rw [fX1_roads_4] at hf
    refine fm_iload_n (pc := 4) F dX1_roads_4 2 rfl ?_
    refine fm_bipush (v := 6) (pc := 5) F dX1_roads_5 (by decide) ?_
    refine fm_icmp_ge (tgt := 48) (pc := 7) F dX1_roads_7 (by decide) (fun c1 => ?_) (fun c1 => ?_)
    · replace hf := fm_ip c1 hf
      refine fm_iload_n (pc := 48) F dX1_roads_48 1 rfl ?_
      exact fm_iret (pc := 49) F E hf dX1_roads_49
    · replace hf := fm_in c1 hf
      refine fm_iconst (v := 0) (pc := 10) F dX1_roads_10 (by decide) ?_
      refine fm_istore_n (lv' := [(3, .int 0), (0, .ref (ad b0)), (1, .int l1), (2, .int l2)]) (pc := 11) F dX1_roads_11 rfl (fm_lt rfl) rfl ?_
      refine fm_pick [1, 2, 3, 0] rfl ?_
      exact wX1_roads_12 hb0 hN hb F E ih n _ _ _ _ hf
set_option maxHeartbeats 4000000 in
theorem mX1_roads {l : Launch} {D : va_G} {dA : Nat → ClassId} {ad : Nat → Nat} {N bk : Nat} {n : Nat} {b0 : Nat} (hb0 : fm_isBk N b0) (hN : 193 ≤ N) (hb : fm_isBk N bk) (inj : ∀ i j, i < N → j < N → ad i = ad j → i = j) {M M' : fm_M} {r : Int32} (hf : fX1_roads n bk b0 M = some (r, M')) : fm_C l yX1_roads (ws_ yX1_roads cX1_roads 4 (some .int)) rmX1_roads (YC D dA N ad bk) [.ref (ad b0)] M (some (.int r)) M' := by
  refine fm_enter (by decide) rfl (fm_le rfl) inj ?_
  intro X hXl F E
  subst hXl
  unfold fX1_roads at hf
  show fm_G X (YC D dA N ad bk) (0, 0) 4 M 0 [(0, .ref (ad b0))] []
  refine fm_iconst (v := 0) (pc := 0) F dX1_roads_0 (by decide) ?_
  refine fm_istore_n (lv' := [(1, .int 0), (0, .ref (ad b0))]) (pc := 1) F dX1_roads_1 rfl (fm_lt rfl) rfl ?_
  refine fm_iconst (v := 0) (pc := 2) F dX1_roads_2 (by decide) ?_
  refine fm_istore_n (lv' := [(2, .int 0), (1, .int 0), (0, .ref (ad b0))]) (pc := 3) F dX1_roads_3 rfl (fm_lt rfl) rfl ?_
  refine fm_pick [2, 1, 0] rfl ?_
  exact wX1_roads_4 hb0 hN hb F E n _ _ _ hf
abbrev rmX0_isTown : Room := { frames := 3, cells := 0, slots := 0, locals := 102 }
def fX0_isTown (n bk : Nat) (M : fm_M) (l1 : Int32) : Option (Int32 × fm_M) :=
  fm_bi (fX0_in n bk M l1 0 ((M.1 bk 8) - 1)) fun r1 M2 =>
  fm_bz r1 (some (r1, M2))
theorem hdX0_isTown : yX0_isTown.cls = RX0 ∧ yX0_isTown.cls ≠ "java/lang/invoke/MethodHandle" ∧ yX0_isTown.cls ≠ "java/lang/invoke/VarHandle" ∧ (parseMethodDescriptor yX0_isTown.desc).map (fun d => d.parameters.length) = some 1 := by decide +kernel
set_option maxHeartbeats 4000000 in
theorem mX0_isTown {l : Launch} {D : va_G} {dA : Nat → ClassId} {ad : Nat → Nat} {N bk : Nat} {n : Nat} (hN : 193 ≤ N) (hb : fm_isBk N bk) (inj : ∀ i j, i < N → j < N → ad i = ad j → i = j) {M M' : fm_M} {l1 : Int32} {r : Int32} (hf : fX0_isTown n bk M l1 = some (r, M')) : fm_C l yX0_isTown (ws_ yX0_isTown cX0_isTown 2 (some .boolean)) rmX0_isTown (YC D dA N ad bk) [.ref (ad 0), .int l1] M (some (.int r)) M' := by
  refine fm_enter (by decide) rfl (fm_le rfl) inj ?_
  intro X hXl F E
  subst hXl
  unfold fX0_isTown at hf
  show fm_G X (YC D dA N ad bk) (0, 0) 2 M 0 [(0, .ref (ad 0)), (1, .int l1)] []
  refine fm_iload_n (pc := 0) F dX0_isTown_0 1 rfl ?_
  refine fm_iconst (v := 0) (pc := 1) F dX0_isTown_1 (by decide) ?_
  refine fm_aload_n (pc := 2) F dX0_isTown_2 0 rfl ?_
  refine fm_get (v := .ref (ad bk)) (pc := 3) F (ci := 0) (T := TX0) (n := 19) rfl in_X0 0 (fm_lt rfl) dX0_isTown_3 q262 0 (fm_ltN hN rfl) rfl rfl ?_
  refine fm_getN (v := .int (M.1 bk 8)) (pc := 6) F (ci := 1) (T := TX1) (n := 11) rfl in_X1 8 (fm_lt rfl) dX0_isTown_6 q108 bk (hb.lt 0 (fm_lt rfl)) (hb.mk0 (ad := ad) (dA := dA) (bk := bk) _ M.2) rfl ?_
  refine fm_iconst (v := 1) (pc := 9) F dX0_isTown_9 (by decide) ?_
  refine fm_isub (pc := 10) F dX0_isTown_10 ?_
  obtain ⟨r1, M2, h3, hf⟩ := fm_bi_inv hf
  refine fm_callS (As := [.int l1, .int 0, .int ((M.1 bk 8) - 1)]) (rest := []) (pc := 11) F (mX0_in hN hb F.inj h3) q339 q340 q39 q341 ⟨rfl, rfl⟩ hdX0_in.2 ⟨fm_le rfl, fm_le rfl, Nat.zero_le _, Nat.zero_le _⟩ rfl rfl (fm_le rfl) dX0_isTown_11 ?_
  obtain ⟨b5, hf⟩ := fm_bz_inv hf
  exact fm_zret (pc := 14) F E b5 hf dX0_isTown_14
abbrev rmX2_where : Room := { frames := 2, cells := 0, slots := 0, locals := 80 }
def fX2_where_2 (n bk : Nat) (a0 : Nat) : Nat → fm_M → Int32 → Int32 → Option (Int32 × fm_M)
  | 0, _, _, _ => none
  | k + 1, M, l1, l2 =>
    fm_b l2 6 <|
    if (M.1 (a0 + 1) l2.toNatClampNeg) = l1 then
      some (l2, M)
    else
      fX2_where_2 n bk a0 k M l1 (l2 + 1)
def fX2_where (n bk : Nat) (a0 : Nat) (M : fm_M) (l1 : Int32) : Option (Int32 × fm_M) :=
  fX2_where_2 n bk a0 n M l1 0
theorem hdX2_where : yX2_where.cls = RX2 ∧ yX2_where.cls ≠ "java/lang/invoke/MethodHandle" ∧ yX2_where.cls ≠ "java/lang/invoke/VarHandle" ∧ (parseMethodDescriptor yX2_where.desc).map (fun d => d.parameters.length) = some 1 := by decide +kernel
set_option maxHeartbeats 4000000 in
theorem wX2_where_2 {X : fm_X} {D : va_G} {dA : Nat → ClassId} {ad : Nat → Nat} {N bk : Nat} {n : Nat} {a0 : Nat} (ha0 : fm_isPl a0) (hN : 193 ≤ N) (hb : fm_isBk N bk) {r : Int32} (F : fm_F X (YC D dA N ad bk) cX2_where 3 RX2 rmX2_where) {M' : fm_M} (E : fm_E X (YC D dA N ad bk) (some (.int r)) M' (some .int)) : ∀ (k : Nat) (M : fm_M) (l1 : Int32) (l2 : Int32), fX2_where_2 n bk a0 k M l1 l2 = some (r, M') → fm_G X (YC D dA N ad bk) (0, 0) 3 M 2 [(0, .ref (ad a0)), (1, .int l1), (2, .int l2)] [] := by
  intro k
  induction k with
  | zero =>
    intro M l1 l2 hf
    rw [fX2_where_2] at hf
    cases hf
  | succ k ih =>
    intro M l1 l2 hf
    rw [fX2_where_2] at hf
    refine fm_aload_n (pc := 2) F dX2_where_2 0 rfl ?_
    refine fm_get (v := .ref (ad (a0 + 1))) (pc := 3) F (ci := 2) (T := TX2) (n := 7) rfl in_X2 2 (fm_lt rfl) dX2_where_3 q152 a0 (ha0.lt hN 0 (fm_lt rfl)) (ha0.mk0 (ad := ad) (dA := dA) (bk := bk) _ M.2) rfl ?_
    refine fm_iload_n (pc := 6) F dX2_where_6 2 rfl ?_
    obtain ⟨b1, hf⟩ := fm_b_inv hf
    refine fm_iald (pc := 7) F dX2_where_7 (a0 + 1) (ha0.lt hN 1 (fm_lt rfl)) (ha0.mk1 (ad := ad) (dA := dA) (bk := bk) _ M.2) b1 ?_
    refine fm_iload_n (pc := 8) F dX2_where_8 1 rfl ?_
    refine fm_icmp_eq (tgt := 18) (pc := 9) F dX2_where_9 (by decide) (fun c2 => ?_) (fun c2 => ?_)
    · replace hf := fm_ip c2 hf
      refine fm_iload_n (pc := 18) F dX2_where_18 2 rfl ?_
      exact fm_iret (pc := 19) F E hf dX2_where_19
    · replace hf := fm_in c2 hf
      refine fm_iinc (v := (l2 + 1)) (lv' := [(2, .int (l2 + 1)), (0, .ref (ad a0)), (1, .int l1)]) (pc := 12) F dX2_where_12 2 rfl rfl (fm_lt rfl) rfl ?_
      refine fm_goto (tgt := 2) (pc := 15) F dX2_where_15 (by decide) ?_
      refine fm_pick [1, 2, 0] rfl ?_
      exact ih _ _ _ hf
set_option maxHeartbeats 4000000 in
theorem mX2_where {l : Launch} {D : va_G} {dA : Nat → ClassId} {ad : Nat → Nat} {N bk : Nat} {n : Nat} {a0 : Nat} (ha0 : fm_isPl a0) (hN : 193 ≤ N) (hb : fm_isBk N bk) (inj : ∀ i j, i < N → j < N → ad i = ad j → i = j) {M M' : fm_M} {l1 : Int32} {r : Int32} (hf : fX2_where n bk a0 M l1 = some (r, M')) : fm_C l yX2_where (ws_ yX2_where cX2_where 3 (some .int)) rmX2_where (YC D dA N ad bk) [.ref (ad a0), .int l1] M (some (.int r)) M' := by
  refine fm_enter (by decide) rfl (fm_le rfl) inj ?_
  intro X hXl F E
  subst hXl
  unfold fX2_where at hf
  show fm_G X (YC D dA N ad bk) (0, 0) 3 M 0 [(0, .ref (ad a0)), (1, .int l1)] []
  refine fm_iconst (v := 0) (pc := 0) F dX2_where_0 (by decide) ?_
  refine fm_istore_n (lv' := [(2, .int 0), (0, .ref (ad a0)), (1, .int l1)]) (pc := 1) F dX2_where_1 rfl (fm_lt rfl) rfl ?_
  refine fm_pick [1, 2, 0] rfl ?_
  exact wX2_where_2 ha0 hN hb F E n _ _ _ hf
abbrev rmX2_cutAll : Room := { frames := 2, cells := 0, slots := 0, locals := 80 }
def fX2_cutAll_52 (n bk : Nat) (a0 : Nat) (k4 : fm_M → Int32 → Int32 → Option (Int32 × fm_M)) (M : fm_M) (l2 : Int32) (l3 : Int32) (s0 : Int32) (s1 : Int32) : Option (Int32 × fm_M) :=
  fm_b l2 6 <|
  fm_let (if (M.1 (a0 + 2) l2.toNatClampNeg) < l3 then l3 else (M.1 (a0 + 2) l2.toNatClampNeg)) fun x2 =>
  fm_b l2 6 <|
  fm_let (fm_wr M (a0 + 2) l2.toNatClampNeg x2) fun M4 =>
  k4 M4 (s1 + s0) (l2 + 1)
def fX2_cutAll_4 (n bk : Nat) (a0 : Nat) : Nat → fm_M → Int32 → Int32 → Option (Int32 × fm_M)
  | 0, _, _, _ => none
  | k + 1, M, l1, l2 =>
    if (M.1 bk 8) ≤ l2 then
      fm_let (fm_wr M a0 1 ((M.1 a0 1) + l1)) fun M2 =>
      some (l1, M2)
    else
      fm_b l2 6 <|
      fm_b (M.1 (a0 + 1) l2.toNatClampNeg) 6 <|
      fm_let (M.1 (bk + 2) (M.1 (a0 + 1) l2.toNatClampNeg).toNatClampNeg) fun x5 =>
      fm_b l2 6 <|
      if x5 ≤ (M.1 (a0 + 2) l2.toNatClampNeg) then
        fX2_cutAll_52 n bk a0 (fX2_cutAll_4 n bk a0 k) M l2 x5 0 l1
      else
        fX2_cutAll_52 n bk a0 (fX2_cutAll_4 n bk a0 k) M l2 x5 1 l1
def fX2_cutAll (n bk : Nat) (a0 : Nat) (M : fm_M) : Option (Int32 × fm_M) :=
  fX2_cutAll_4 n bk a0 n M 0 0
theorem hdX2_cutAll : yX2_cutAll.cls = RX2 ∧ yX2_cutAll.cls ≠ "java/lang/invoke/MethodHandle" ∧ yX2_cutAll.cls ≠ "java/lang/invoke/VarHandle" ∧ (parseMethodDescriptor yX2_cutAll.desc).map (fun d => d.parameters.length) = some 0 := by decide +kernel
set_option maxHeartbeats 4000000 in
theorem wX2_cutAll_52 {X : fm_X} {D : va_G} {dA : Nat → ClassId} {ad : Nat → Nat} {N bk : Nat} {n : Nat} {a0 : Nat} (ha0 : fm_isPl a0) (hN : 193 ≤ N) (hb : fm_isBk N bk) {r : Int32} (F : fm_F X (YC D dA N ad bk) cX2_cutAll 4 RX2 rmX2_cutAll) {M' : fm_M} (E : fm_E X (YC D dA N ad bk) (some (.int r)) M' (some .int)) {k4 : fm_M → Int32 → Int32 → Option (Int32 × fm_M)} (hk4 : ∀ (M : fm_M) (l1 : Int32) (l2 : Int32), k4 M l1 l2 = some (r, M') → fm_G X (YC D dA N ad bk) (0, 0) 4 M 4 [(0, .ref (ad a0)), (1, .int l1), (2, .int l2)] []) : ∀ (M : fm_M) (l2 : Int32) (l3 : Int32) (s0 : Int32) (s1 : Int32), fX2_cutAll_52 n bk a0 k4 M l2 l3 s0 s1 = some (r, M') → fm_G X (YC D dA N ad bk) (0, 0) 4 M 52 [(0, .ref (ad a0)), (2, .int l2), (3, .int l3)] [.int s0, .int s1] := by
  intro M l2 l3 s0 s1 hf
  unfold fX2_cutAll_52 at hf
  refine fm_iadd (pc := 52) F dX2_cutAll_52 ?_
  refine fm_istore_n (lv' := [(1, .int (s1 + s0)), (0, .ref (ad a0)), (2, .int l2), (3, .int l3)]) (pc := 53) F dX2_cutAll_53 rfl (fm_lt rfl) rfl ?_
  refine fm_aload_n (pc := 54) F dX2_cutAll_54 1 rfl ?_
  refine fm_get (v := .ref (ad (a0 + 2))) (pc := 55) F (ci := 2) (T := TX2) (n := 7) rfl in_X2 3 (fm_lt rfl) dX2_cutAll_55 q154 a0 (ha0.lt hN 0 (fm_lt rfl)) (ha0.mk0 (ad := ad) (dA := dA) (bk := bk) _ M.2) rfl ?_
  refine fm_iload_n (pc := 58) F dX2_cutAll_58 2 rfl ?_
  refine fm_aload_n (pc := 59) F dX2_cutAll_59 1 rfl ?_
  refine fm_get (v := .ref (ad (a0 + 2))) (pc := 60) F (ci := 2) (T := TX2) (n := 7) rfl in_X2 3 (fm_lt rfl) dX2_cutAll_60 q154 a0 (ha0.lt hN 0 (fm_lt rfl)) (ha0.mk0 (ad := ad) (dA := dA) (bk := bk) _ M.2) rfl ?_
  refine fm_iload_n (pc := 63) F dX2_cutAll_63 2 rfl ?_
  obtain ⟨b1, hf⟩ := fm_b_inv hf
  refine fm_iald (pc := 64) F dX2_cutAll_64 (a0 + 2) (ha0.lt hN 2 (fm_lt rfl)) (ha0.mk2 (ad := ad) (dA := dA) (bk := bk) _ M.2) b1 ?_
  refine fm_iload_n (pc := 65) F dX2_cutAll_65 3 rfl ?_
  refine fm_mmax (pc := 66) F q256 q257 q48 q258 ⟨fm_le rfl, fm_le rfl, Nat.zero_le _, Nat.zero_le _⟩ dX2_cutAll_66 ?_
  refine fm_topi (fun x2 ex2 => ?_)
  replace hf := fm_let_inv ex2 hf
  obtain ⟨b3, hf⟩ := fm_b_inv hf
  refine fm_iast (pc := 69) F dX2_cutAll_69 (a0 + 2) (ha0.lt hN 2 (fm_lt rfl)) (fun _ => ha0.mk2 (ad := ad) (dA := dA) (bk := bk) _ M.2) b3 ?_
  refine fm_nameM (fun M4 eM4 => ?_)
  replace hf := fm_let_inv eM4 hf
  refine fm_iinc (v := (l2 + 1)) (lv' := [(2, .int (l2 + 1)), (1, .int (s1 + s0)), (0, .ref (ad a0)), (3, .int l3)]) (pc := 70) F dX2_cutAll_70 2 rfl rfl (fm_lt rfl) rfl ?_
  refine fm_goto (tgt := 4) (pc := 73) F dX2_cutAll_73 (by decide) ?_
  refine fm_pick [2, 1, 0] rfl ?_
  exact hk4 _ _ _ hf
set_option maxHeartbeats 4000000 in
theorem wX2_cutAll_4 {X : fm_X} {D : va_G} {dA : Nat → ClassId} {ad : Nat → Nat} {N bk : Nat} {n : Nat} {a0 : Nat} (ha0 : fm_isPl a0) (hN : 193 ≤ N) (hb : fm_isBk N bk) {r : Int32} (F : fm_F X (YC D dA N ad bk) cX2_cutAll 4 RX2 rmX2_cutAll) {M' : fm_M} (E : fm_E X (YC D dA N ad bk) (some (.int r)) M' (some .int)) : ∀ (k : Nat) (M : fm_M) (l1 : Int32) (l2 : Int32), fX2_cutAll_4 n bk a0 k M l1 l2 = some (r, M') → fm_G X (YC D dA N ad bk) (0, 0) 4 M 4 [(0, .ref (ad a0)), (1, .int l1), (2, .int l2)] [] := by
  intro k
  induction k with
  | zero =>
    intro M l1 l2 hf
    rw [fX2_cutAll_4] at hf
    cases hf
  | succ k ih =>
    intro M l1 l2 hf
    rw [fX2_cutAll_4] at hf
    refine fm_iload_n (pc := 4) F dX2_cutAll_4 2 rfl ?_
    refine fm_aload_n (pc := 5) F dX2_cutAll_5 0 rfl ?_
    refine fm_get (v := .ref (ad 0)) (pc := 6) F (ci := 2) (T := TX2) (n := 7) rfl in_X2 6 (fm_lt rfl) dX2_cutAll_6 q161 a0 (ha0.lt hN 0 (fm_lt rfl)) (ha0.mk0 (ad := ad) (dA := dA) (bk := bk) _ M.2) rfl ?_
    refine fm_getN (v := .ref (ad bk)) (pc := 9) F (ci := 0) (T := TX0) (n := 19) rfl in_X0 0 (fm_lt rfl) dX2_cutAll_9 q265 0 (fm_ltN hN rfl) rfl rfl ?_
    refine fm_getN (v := .int (M.1 bk 8)) (pc := 12) F (ci := 1) (T := TX1) (n := 11) rfl in_X1 8 (fm_lt rfl) dX2_cutAll_12 q109 bk (hb.lt 0 (fm_lt rfl)) (hb.mk0 (ad := ad) (dA := dA) (bk := bk) _ M.2) rfl ?_
    refine fm_icmp_ge (tgt := 76) (pc := 15) F dX2_cutAll_15 (by decide) (fun c1 => ?_) (fun c1 => ?_)
    · replace hf := fm_ip c1 hf
      refine fm_aload_n (pc := 76) F dX2_cutAll_76 0 rfl ?_
      refine fm_dup (pc := 77) F dX2_cutAll_77 rfl ?_
      refine fm_get (v := .int (M.1 a0 1)) (pc := 78) F (ci := 2) (T := TX2) (n := 7) rfl in_X2 1 (fm_lt rfl) dX2_cutAll_78 q150 a0 (ha0.lt hN 0 (fm_lt rfl)) (ha0.mk0 (ad := ad) (dA := dA) (bk := bk) _ M.2) rfl ?_
      refine fm_iload_n (pc := 81) F dX2_cutAll_81 1 rfl ?_
      refine fm_iadd (pc := 82) F dX2_cutAll_82 ?_
      refine fm_putI (v := ((M.1 a0 1) + l1)) (pc := 83) F clX2 1 (fm_lt rfl) dX2_cutAll_83 q150 rfl rfl a0 (ha0.lt hN 0 (fm_lt rfl)) (ha0.mk0 (ad := ad) (dA := dA) (bk := bk) _ M.2) (fm_lt rfl) (ha0.mk0 (ad := ad) (dA := dA) (bk := bk) _ M.2) ?_
      refine fm_nameM (fun M2 eM2 => ?_)
      replace hf := fm_let_inv eM2 hf
      refine fm_iload_n (pc := 86) F dX2_cutAll_86 1 rfl ?_
      exact fm_iret (pc := 87) F E hf dX2_cutAll_87
    · replace hf := fm_in c1 hf
      refine fm_aload_n (pc := 18) F dX2_cutAll_18 0 rfl ?_
      refine fm_get (v := .ref (ad 0)) (pc := 19) F (ci := 2) (T := TX2) (n := 7) rfl in_X2 6 (fm_lt rfl) dX2_cutAll_19 q161 a0 (ha0.lt hN 0 (fm_lt rfl)) (ha0.mk0 (ad := ad) (dA := dA) (bk := bk) _ M.2) rfl ?_
      refine fm_getN (v := .ref (ad bk)) (pc := 22) F (ci := 0) (T := TX0) (n := 19) rfl in_X0 0 (fm_lt rfl) dX2_cutAll_22 q265 0 (fm_ltN hN rfl) rfl rfl ?_
      refine fm_getN (v := .ref (ad (bk + 2))) (pc := 25) F (ci := 1) (T := TX1) (n := 11) rfl in_X1 1 (fm_lt rfl) dX2_cutAll_25 q83 bk (hb.lt 0 (fm_lt rfl)) (hb.mk0 (ad := ad) (dA := dA) (bk := bk) _ M.2) rfl ?_
      refine fm_aload_n (pc := 28) F dX2_cutAll_28 0 rfl ?_
      refine fm_get (v := .ref (ad (a0 + 1))) (pc := 29) F (ci := 2) (T := TX2) (n := 7) rfl in_X2 2 (fm_lt rfl) dX2_cutAll_29 q152 a0 (ha0.lt hN 0 (fm_lt rfl)) (ha0.mk0 (ad := ad) (dA := dA) (bk := bk) _ M.2) rfl ?_
      refine fm_iload_n (pc := 32) F dX2_cutAll_32 2 rfl ?_
      obtain ⟨b3, hf⟩ := fm_b_inv hf
      refine fm_iald (pc := 33) F dX2_cutAll_33 (a0 + 1) (ha0.lt hN 1 (fm_lt rfl)) (ha0.mk1 (ad := ad) (dA := dA) (bk := bk) _ M.2) b3 ?_
      obtain ⟨b4, hf⟩ := fm_b_inv hf
      refine fm_iald (pc := 34) F dX2_cutAll_34 (bk + 2) (hb.lt 2 (fm_lt rfl)) (hb.mk2 (ad := ad) (dA := dA) (bk := bk) _ M.2) b4 ?_
      refine fm_topi (fun x5 ex5 => ?_)
      replace hf := fm_let_inv ex5 hf
      refine fm_istore_n (lv' := [(3, .int x5), (0, .ref (ad a0)), (1, .int l1), (2, .int l2)]) (pc := 35) F dX2_cutAll_35 rfl (fm_lt rfl) rfl ?_
      refine fm_iload_n (pc := 36) F dX2_cutAll_36 2 rfl ?_
      refine fm_iload_n (pc := 37) F dX2_cutAll_37 0 rfl ?_
      refine fm_aload_n (pc := 38) F dX2_cutAll_38 1 rfl ?_
      refine fm_get (v := .ref (ad (a0 + 2))) (pc := 39) F (ci := 2) (T := TX2) (n := 7) rfl in_X2 3 (fm_lt rfl) dX2_cutAll_39 q154 a0 (ha0.lt hN 0 (fm_lt rfl)) (ha0.mk0 (ad := ad) (dA := dA) (bk := bk) _ M.2) rfl ?_
      refine fm_iload_n (pc := 42) F dX2_cutAll_42 3 rfl ?_
      obtain ⟨b6, hf⟩ := fm_b_inv hf
      refine fm_iald (pc := 43) F dX2_cutAll_43 (a0 + 2) (ha0.lt hN 2 (fm_lt rfl)) (ha0.mk2 (ad := ad) (dA := dA) (bk := bk) _ M.2) b6 ?_
      refine fm_icmp_le (tgt := 51) (pc := 44) F dX2_cutAll_44 (by decide) (fun c7 => ?_) (fun c7 => ?_)
      · replace hf := fm_ip c7 hf
        refine fm_iconst (v := 0) (pc := 51) F dX2_cutAll_51 (by decide) ?_
        refine fm_pick [1, 3, 0] rfl ?_
        exact wX2_cutAll_52 ha0 hN hb F E ih _ _ _ _ _ hf
      · replace hf := fm_in c7 hf
        refine fm_iconst (v := 1) (pc := 47) F dX2_cutAll_47 (by decide) ?_
        refine fm_goto (tgt := 52) (pc := 48) F dX2_cutAll_48 (by decide) ?_
        refine fm_pick [1, 3, 0] rfl ?_
        exact wX2_cutAll_52 ha0 hN hb F E ih _ _ _ _ _ hf
set_option maxHeartbeats 4000000 in
theorem mX2_cutAll {l : Launch} {D : va_G} {dA : Nat → ClassId} {ad : Nat → Nat} {N bk : Nat} {n : Nat} {a0 : Nat} (ha0 : fm_isPl a0) (hN : 193 ≤ N) (hb : fm_isBk N bk) (inj : ∀ i j, i < N → j < N → ad i = ad j → i = j) {M M' : fm_M} {r : Int32} (hf : fX2_cutAll n bk a0 M = some (r, M')) : fm_C l yX2_cutAll (ws_ yX2_cutAll cX2_cutAll 4 (some .int)) rmX2_cutAll (YC D dA N ad bk) [.ref (ad a0)] M (some (.int r)) M' := by
  refine fm_enter (by decide) rfl (fm_le rfl) inj ?_
  intro X hXl F E
  subst hXl
  unfold fX2_cutAll at hf
  show fm_G X (YC D dA N ad bk) (0, 0) 4 M 0 [(0, .ref (ad a0))] []
  refine fm_iconst (v := 0) (pc := 0) F dX2_cutAll_0 (by decide) ?_
  refine fm_istore_n (lv' := [(1, .int 0), (0, .ref (ad a0))]) (pc := 1) F dX2_cutAll_1 rfl (fm_lt rfl) rfl ?_
  refine fm_iconst (v := 0) (pc := 2) F dX2_cutAll_2 (by decide) ?_
  refine fm_istore_n (lv' := [(2, .int 0), (1, .int 0), (0, .ref (ad a0))]) (pc := 3) F dX2_cutAll_3 rfl (fm_lt rfl) rfl ?_
  refine fm_pick [2, 1, 0] rfl ?_
  exact wX2_cutAll_4 ha0 hN hb F E n _ _ _ hf
abbrev rmX2_over : Room := { frames := 2, cells := 0, slots := 0, locals := 80 }
def fX2_over_49 (n bk : Nat) (a0 : Nat) (k2 : fm_M → Int32 → Option (fm_M)) (M : fm_M) (l1 : Int32) (s0 : Int32) : Option (fm_M) :=
  if s0 = 0 then
    fm_b l1 6 <|
    fm_b l1 6 <|
    fm_let (fm_wr M (a0 + 3) l1.toNatClampNeg (M.1 (a0 + 3) l1.toNatClampNeg)) fun M12 =>
    k2 M12 (l1 + 1)
  else
    fm_b l1 6 <|
    fm_b (M.1 (bk + 19) l1.toNatClampNeg) 6 <|
    fm_b l1 6 <|
    if (M.1 (a0 + 1) (M.1 (bk + 19) l1.toNatClampNeg).toNatClampNeg) = (M.1 (bk + 18) l1.toNatClampNeg) then
      fm_b l1 6 <|
      fm_let (fm_wr M (a0 + 3) l1.toNatClampNeg 1) fun M9 =>
      k2 M9 (l1 + 1)
    else
      fm_b l1 6 <|
      fm_let (fm_wr M (a0 + 3) l1.toNatClampNeg 2) fun M7 =>
      k2 M7 (l1 + 1)
def fX2_over_48 (n bk : Nat) (a0 : Nat) (k2 : fm_M → Int32 → Option (fm_M)) (M : fm_M) (l1 : Int32) : Option (fm_M) :=
  fX2_over_49 n bk a0 k2 M l1 0
def fX2_over_114 (n bk : Nat) (a0 : Nat) : Nat → fm_M → Int32 → Option (fm_M)
  | 0, _, _ => none
  | k + 1, M, l1 =>
    if (M.1 bk 8) ≤ l1 then
      some M
    else
      fm_b l1 6 <|
      fm_b (M.1 (a0 + 1) l1.toNatClampNeg) 6 <|
      fm_b l1 6 <|
      fm_let (M.1 (a0 + 5 + (M.1 (a0 + 1) l1.toNatClampNeg).toNatClampNeg) l1.toNatClampNeg) fun x5 =>
      fm_b l1 6 <|
      fm_let (fm_wr M (a0 + 5 + (M.1 (a0 + 1) l1.toNatClampNeg).toNatClampNeg) l1.toNatClampNeg (x5 + 1)) fun M7 =>
      fX2_over_114 n bk a0 k M7 (l1 + 1)
def fX2_over_2 (n bk : Nat) (a0 : Nat) : Nat → fm_M → Int32 → Option (fm_M)
  | 0, _, _ => none
  | k + 1, M, l1 =>
    if (M.1 bk 9) ≤ l1 then
      fX2_over_114 n bk a0 n M 0
    else
      fm_b l1 6 <|
      if (M.1 (a0 + 3) l1.toNatClampNeg) = 0 then
        fm_b l1 6 <|
        if (M.1 (bk + 20) l1.toNatClampNeg) = (M.1 a0 0) then
          fX2_over_49 n bk a0 (fX2_over_2 n bk a0 k) M l1 1
        else
          fX2_over_48 n bk a0 (fX2_over_2 n bk a0 k) M l1
      else
        fX2_over_48 n bk a0 (fX2_over_2 n bk a0 k) M l1
def fX2_over (n bk : Nat) (a0 : Nat) (M : fm_M) : Option (fm_M) :=
  fX2_over_2 n bk a0 n M 0
theorem hdX2_over : yX2_over.cls = RX2 ∧ yX2_over.cls ≠ "java/lang/invoke/MethodHandle" ∧ yX2_over.cls ≠ "java/lang/invoke/VarHandle" ∧ (parseMethodDescriptor yX2_over.desc).map (fun d => d.parameters.length) = some 0 := by decide +kernel
set_option maxHeartbeats 4000000 in
theorem wX2_over_49 {X : fm_X} {D : va_G} {dA : Nat → ClassId} {ad : Nat → Nat} {N bk : Nat} {n : Nat} {a0 : Nat} (ha0 : fm_isPl a0) (hN : 193 ≤ N) (hb : fm_isBk N bk) (F : fm_F X (YC D dA N ad bk) cX2_over 3 RX2 rmX2_over) {M' : fm_M} (E : fm_E X (YC D dA N ad bk) none M' none) {k2 : fm_M → Int32 → Option (fm_M)} (hk2 : ∀ (M : fm_M) (l1 : Int32), k2 M l1 = some M' → fm_G X (YC D dA N ad bk) (0, 0) 3 M 2 [(0, .ref (ad a0)), (1, .int l1)] []) : ∀ (M : fm_M) (l1 : Int32) (s0 : Int32), fX2_over_49 n bk a0 k2 M l1 s0 = some M' → fm_G X (YC D dA N ad bk) (0, 0) 3 M 49 [(0, .ref (ad a0)), (1, .int l1)] [.int s0] := by
  intro M l1 s0 hf
  unfold fX2_over_49 at hf
  refine fm_istore_n (lv' := [(2, .int s0), (0, .ref (ad a0)), (1, .int l1)]) (pc := 49) F dX2_over_49 rfl (fm_lt rfl) rfl ?_
  refine fm_aload_n (pc := 50) F dX2_over_50 1 rfl ?_
  refine fm_get (v := .ref (ad (a0 + 3))) (pc := 51) F (ci := 2) (T := TX2) (n := 7) rfl in_X2 4 (fm_lt rfl) dX2_over_51 q157 a0 (ha0.lt hN 0 (fm_lt rfl)) (ha0.mk0 (ad := ad) (dA := dA) (bk := bk) _ M.2) rfl ?_
  refine fm_iload_n (pc := 54) F dX2_over_54 2 rfl ?_
  refine fm_iload_n (pc := 55) F dX2_over_55 0 rfl ?_
  refine fm_if_ne (tgt := 68) (pc := 56) F dX2_over_56 (by decide) (fun c1 => ?_) (fun c1 => ?_)
  · replace hf := fm_in c1 hf
    refine fm_aload_n (pc := 68) F dX2_over_68 1 rfl ?_
    refine fm_get (v := .ref (ad (a0 + 1))) (pc := 69) F (ci := 2) (T := TX2) (n := 7) rfl in_X2 2 (fm_lt rfl) dX2_over_69 q152 a0 (ha0.lt hN 0 (fm_lt rfl)) (ha0.mk0 (ad := ad) (dA := dA) (bk := bk) _ M.2) rfl ?_
    refine fm_aload_n (pc := 72) F dX2_over_72 1 rfl ?_
    refine fm_get (v := .ref (ad 0)) (pc := 73) F (ci := 2) (T := TX2) (n := 7) rfl in_X2 6 (fm_lt rfl) dX2_over_73 q161 a0 (ha0.lt hN 0 (fm_lt rfl)) (ha0.mk0 (ad := ad) (dA := dA) (bk := bk) _ M.2) rfl ?_
    refine fm_getN (v := .ref (ad bk)) (pc := 76) F (ci := 0) (T := TX0) (n := 19) rfl in_X0 0 (fm_lt rfl) dX2_over_76 q265 0 (fm_ltN hN rfl) rfl rfl ?_
    refine fm_getN (v := .ref (ad (bk + 19))) (pc := 79) F (ci := 1) (T := TX1) (n := 11) rfl in_X1 6 (fm_lt rfl) dX2_over_79 q101 bk (hb.lt 0 (fm_lt rfl)) (hb.mk0 (ad := ad) (dA := dA) (bk := bk) _ M.2) rfl ?_
    refine fm_iload_n (pc := 82) F dX2_over_82 2 rfl ?_
    obtain ⟨b2, hf⟩ := fm_b_inv hf
    refine fm_iald (pc := 83) F dX2_over_83 (bk + 19) (hb.lt 19 (fm_lt rfl)) (hb.mk19 (ad := ad) (dA := dA) (bk := bk) _ M.2) b2 ?_
    obtain ⟨b3, hf⟩ := fm_b_inv hf
    refine fm_iald (pc := 84) F dX2_over_84 (a0 + 1) (ha0.lt hN 1 (fm_lt rfl)) (ha0.mk1 (ad := ad) (dA := dA) (bk := bk) _ M.2) b3 ?_
    refine fm_aload_n (pc := 85) F dX2_over_85 1 rfl ?_
    refine fm_get (v := .ref (ad 0)) (pc := 86) F (ci := 2) (T := TX2) (n := 7) rfl in_X2 6 (fm_lt rfl) dX2_over_86 q161 a0 (ha0.lt hN 0 (fm_lt rfl)) (ha0.mk0 (ad := ad) (dA := dA) (bk := bk) _ M.2) rfl ?_
    refine fm_getN (v := .ref (ad bk)) (pc := 89) F (ci := 0) (T := TX0) (n := 19) rfl in_X0 0 (fm_lt rfl) dX2_over_89 q265 0 (fm_ltN hN rfl) rfl rfl ?_
    refine fm_getN (v := .ref (ad (bk + 18))) (pc := 92) F (ci := 1) (T := TX1) (n := 11) rfl in_X1 5 (fm_lt rfl) dX2_over_92 q97 bk (hb.lt 0 (fm_lt rfl)) (hb.mk0 (ad := ad) (dA := dA) (bk := bk) _ M.2) rfl ?_
    refine fm_iload_n (pc := 95) F dX2_over_95 2 rfl ?_
    obtain ⟨b4, hf⟩ := fm_b_inv hf
    refine fm_iald (pc := 96) F dX2_over_96 (bk + 18) (hb.lt 18 (fm_lt rfl)) (hb.mk18 (ad := ad) (dA := dA) (bk := bk) _ M.2) b4 ?_
    refine fm_icmp_ne (tgt := 104) (pc := 97) F dX2_over_97 (by decide) (fun c5 => ?_) (fun c5 => ?_)
    · replace hf := fm_in c5 hf
      refine fm_iconst (v := 2) (pc := 104) F dX2_over_104 (by decide) ?_
      obtain ⟨b6, hf⟩ := fm_b_inv hf
      refine fm_iast (pc := 105) F dX2_over_105 (a0 + 3) (ha0.lt hN 3 (fm_lt rfl)) (fun _ => ha0.mk3 (ad := ad) (dA := dA) (bk := bk) _ M.2) b6 ?_
      refine fm_nameM (fun M7 eM7 => ?_)
      replace hf := fm_let_inv eM7 hf
      refine fm_iinc (v := (l1 + 1)) (lv' := [(1, .int (l1 + 1)), (2, .int s0), (0, .ref (ad a0))]) (pc := 106) F dX2_over_106 2 rfl rfl (fm_lt rfl) rfl ?_
      refine fm_goto (tgt := 2) (pc := 109) F dX2_over_109 (by decide) ?_
      refine fm_pick [2, 0] rfl ?_
      exact hk2 _ _ hf
    · replace hf := fm_ip c5 hf
      refine fm_iconst (v := 1) (pc := 100) F dX2_over_100 (by decide) ?_
      refine fm_goto (tgt := 105) (pc := 101) F dX2_over_101 (by decide) ?_
      obtain ⟨b8, hf⟩ := fm_b_inv hf
      refine fm_iast (pc := 105) F dX2_over_105 (a0 + 3) (ha0.lt hN 3 (fm_lt rfl)) (fun _ => ha0.mk3 (ad := ad) (dA := dA) (bk := bk) _ M.2) b8 ?_
      refine fm_nameM (fun M9 eM9 => ?_)
      replace hf := fm_let_inv eM9 hf
      refine fm_iinc (v := (l1 + 1)) (lv' := [(1, .int (l1 + 1)), (2, .int s0), (0, .ref (ad a0))]) (pc := 106) F dX2_over_106 2 rfl rfl (fm_lt rfl) rfl ?_
      refine fm_goto (tgt := 2) (pc := 109) F dX2_over_109 (by decide) ?_
      refine fm_pick [2, 0] rfl ?_
      exact hk2 _ _ hf
  · replace hf := fm_ip c1 hf
    refine fm_aload_n (pc := 59) F dX2_over_59 1 rfl ?_
    refine fm_get (v := .ref (ad (a0 + 3))) (pc := 60) F (ci := 2) (T := TX2) (n := 7) rfl in_X2 4 (fm_lt rfl) dX2_over_60 q157 a0 (ha0.lt hN 0 (fm_lt rfl)) (ha0.mk0 (ad := ad) (dA := dA) (bk := bk) _ M.2) rfl ?_
    refine fm_iload_n (pc := 63) F dX2_over_63 2 rfl ?_
    obtain ⟨b10, hf⟩ := fm_b_inv hf
    refine fm_iald (pc := 64) F dX2_over_64 (a0 + 3) (ha0.lt hN 3 (fm_lt rfl)) (ha0.mk3 (ad := ad) (dA := dA) (bk := bk) _ M.2) b10 ?_
    refine fm_goto (tgt := 105) (pc := 65) F dX2_over_65 (by decide) ?_
    obtain ⟨b11, hf⟩ := fm_b_inv hf
    refine fm_iast (pc := 105) F dX2_over_105 (a0 + 3) (ha0.lt hN 3 (fm_lt rfl)) (fun _ => ha0.mk3 (ad := ad) (dA := dA) (bk := bk) _ M.2) b11 ?_
    refine fm_nameM (fun M12 eM12 => ?_)
    replace hf := fm_let_inv eM12 hf
    refine fm_iinc (v := (l1 + 1)) (lv' := [(1, .int (l1 + 1)), (2, .int s0), (0, .ref (ad a0))]) (pc := 106) F dX2_over_106 2 rfl rfl (fm_lt rfl) rfl ?_
    refine fm_goto (tgt := 2) (pc := 109) F dX2_over_109 (by decide) ?_
    refine fm_pick [2, 0] rfl ?_
    exact hk2 _ _ hf
set_option maxHeartbeats 4000000 in
theorem wX2_over_48 {X : fm_X} {D : va_G} {dA : Nat → ClassId} {ad : Nat → Nat} {N bk : Nat} {n : Nat} {a0 : Nat} (ha0 : fm_isPl a0) (hN : 193 ≤ N) (hb : fm_isBk N bk) (F : fm_F X (YC D dA N ad bk) cX2_over 3 RX2 rmX2_over) {M' : fm_M} (E : fm_E X (YC D dA N ad bk) none M' none) {k2 : fm_M → Int32 → Option (fm_M)} (hk2 : ∀ (M : fm_M) (l1 : Int32), k2 M l1 = some M' → fm_G X (YC D dA N ad bk) (0, 0) 3 M 2 [(0, .ref (ad a0)), (1, .int l1)] []) : ∀ (M : fm_M) (l1 : Int32), fX2_over_48 n bk a0 k2 M l1 = some M' → fm_G X (YC D dA N ad bk) (0, 0) 3 M 48 [(0, .ref (ad a0)), (1, .int l1)] [] := by
  intro M l1 hf
  unfold fX2_over_48 at hf
  refine fm_iconst (v := 0) (pc := 48) F dX2_over_48 (by decide) ?_
  exact wX2_over_49 ha0 hN hb F E hk2 _ _ _ hf
set_option maxHeartbeats 4000000 in
theorem wX2_over_114 {X : fm_X} {D : va_G} {dA : Nat → ClassId} {ad : Nat → Nat} {N bk : Nat} {n : Nat} {a0 : Nat} (ha0 : fm_isPl a0) (hN : 193 ≤ N) (hb : fm_isBk N bk) (F : fm_F X (YC D dA N ad bk) cX2_over 3 RX2 rmX2_over) {M' : fm_M} (E : fm_E X (YC D dA N ad bk) none M' none) : ∀ (k : Nat) (M : fm_M) (l1 : Int32), fX2_over_114 n bk a0 k M l1 = some M' → fm_G X (YC D dA N ad bk) (0, 0) 3 M 114 [(0, .ref (ad a0)), (1, .int l1)] [] := by
  intro k
  induction k with
  | zero =>
    intro M l1 hf
    rw [fX2_over_114] at hf
    cases hf
  | succ k ih =>
    intro M l1 hf
    rw [fX2_over_114] at hf
    refine fm_iload_n (pc := 114) F dX2_over_114 1 rfl ?_
    refine fm_aload_n (pc := 115) F dX2_over_115 0 rfl ?_
    refine fm_get (v := .ref (ad 0)) (pc := 116) F (ci := 2) (T := TX2) (n := 7) rfl in_X2 6 (fm_lt rfl) dX2_over_116 q161 a0 (ha0.lt hN 0 (fm_lt rfl)) (ha0.mk0 (ad := ad) (dA := dA) (bk := bk) _ M.2) rfl ?_
    refine fm_getN (v := .ref (ad bk)) (pc := 119) F (ci := 0) (T := TX0) (n := 19) rfl in_X0 0 (fm_lt rfl) dX2_over_119 q265 0 (fm_ltN hN rfl) rfl rfl ?_
    refine fm_getN (v := .int (M.1 bk 8)) (pc := 122) F (ci := 1) (T := TX1) (n := 11) rfl in_X1 8 (fm_lt rfl) dX2_over_122 q109 bk (hb.lt 0 (fm_lt rfl)) (hb.mk0 (ad := ad) (dA := dA) (bk := bk) _ M.2) rfl ?_
    refine fm_icmp_ge (tgt := 151) (pc := 125) F dX2_over_125 (by decide) (fun c1 => ?_) (fun c1 => ?_)
    · replace hf := fm_ip c1 hf
      exact fm_vret (pc := 151) F E hf dX2_over_151
    · replace hf := fm_in c1 hf
      refine fm_aload_n (pc := 128) F dX2_over_128 0 rfl ?_
      refine fm_get (v := .ref (ad (a0 + 4))) (pc := 129) F (ci := 2) (T := TX2) (n := 7) rfl in_X2 5 (fm_lt rfl) dX2_over_129 q159 a0 (ha0.lt hN 0 (fm_lt rfl)) (ha0.mk0 (ad := ad) (dA := dA) (bk := bk) _ M.2) rfl ?_
      refine fm_aload_n (pc := 132) F dX2_over_132 0 rfl ?_
      refine fm_get (v := .ref (ad (a0 + 1))) (pc := 133) F (ci := 2) (T := TX2) (n := 7) rfl in_X2 2 (fm_lt rfl) dX2_over_133 q152 a0 (ha0.lt hN 0 (fm_lt rfl)) (ha0.mk0 (ad := ad) (dA := dA) (bk := bk) _ M.2) rfl ?_
      refine fm_iload_n (pc := 136) F dX2_over_136 1 rfl ?_
      obtain ⟨b2, hf⟩ := fm_b_inv hf
      refine fm_iald (pc := 137) F dX2_over_137 (a0 + 1) (ha0.lt hN 1 (fm_lt rfl)) (ha0.mk1 (ad := ad) (dA := dA) (bk := bk) _ M.2) b2 ?_
      obtain ⟨b3, hf⟩ := fm_b_inv hf
      refine fm_aald (pc := 138) F dX2_over_138 (a0 + 4) (ha0.lt hN 4 (fm_lt rfl)) 5 (fun j => a0 + 5 + j) (ha0.mk4 (ad := ad) (dA := dA) (bk := bk) (M.1 (a0 + 4)) M.2) rfl rfl b3 ?_
      refine fm_iload_n (pc := 139) F dX2_over_139 1 rfl ?_
      refine fm_dup2_11 (pc := 140) F dX2_over_140 rfl rfl ?_
      obtain ⟨b4, hf⟩ := fm_b_inv hf
      refine fm_iald (pc := 141) F dX2_over_141 (a0 + 5 + (M.1 (a0 + 1) l1.toNatClampNeg).toNatClampNeg) (ha0.ltr hN (fm_vlt b3)) (ha0.mkr (ad := ad) (dA := dA) (bk := bk) (fm_vlt b3) _ M.2) b4 ?_
      refine fm_topi (fun x5 ex5 => ?_)
      replace hf := fm_let_inv ex5 hf
      refine fm_iconst (v := 1) (pc := 142) F dX2_over_142 (by decide) ?_
      refine fm_iadd (pc := 143) F dX2_over_143 ?_
      obtain ⟨b6, hf⟩ := fm_b_inv hf
      refine fm_iast (pc := 144) F dX2_over_144 (a0 + 5 + (M.1 (a0 + 1) l1.toNatClampNeg).toNatClampNeg) (ha0.ltr hN (fm_vlt b3)) (fun _ => ha0.mkr (ad := ad) (dA := dA) (bk := bk) (fm_vlt b3) _ M.2) b6 ?_
      refine fm_nameM (fun M7 eM7 => ?_)
      replace hf := fm_let_inv eM7 hf
      refine fm_iinc (v := (l1 + 1)) (lv' := [(1, .int (l1 + 1)), (0, .ref (ad a0))]) (pc := 145) F dX2_over_145 1 rfl rfl (fm_lt rfl) rfl ?_
      refine fm_goto (tgt := 114) (pc := 148) F dX2_over_148 (by decide) ?_
      refine fm_pick [1, 0] rfl ?_
      exact ih _ _ hf
set_option maxHeartbeats 4000000 in
theorem wX2_over_2 {X : fm_X} {D : va_G} {dA : Nat → ClassId} {ad : Nat → Nat} {N bk : Nat} {n : Nat} {a0 : Nat} (ha0 : fm_isPl a0) (hN : 193 ≤ N) (hb : fm_isBk N bk) (F : fm_F X (YC D dA N ad bk) cX2_over 3 RX2 rmX2_over) {M' : fm_M} (E : fm_E X (YC D dA N ad bk) none M' none) : ∀ (k : Nat) (M : fm_M) (l1 : Int32), fX2_over_2 n bk a0 k M l1 = some M' → fm_G X (YC D dA N ad bk) (0, 0) 3 M 2 [(0, .ref (ad a0)), (1, .int l1)] [] := by
  intro k
  induction k with
  | zero =>
    intro M l1 hf
    rw [fX2_over_2] at hf
    cases hf
  | succ k ih =>
    intro M l1 hf
    rw [fX2_over_2] at hf
    refine fm_iload_n (pc := 2) F dX2_over_2 1 rfl ?_
    refine fm_aload_n (pc := 3) F dX2_over_3 0 rfl ?_
    refine fm_get (v := .ref (ad 0)) (pc := 4) F (ci := 2) (T := TX2) (n := 7) rfl in_X2 6 (fm_lt rfl) dX2_over_4 q161 a0 (ha0.lt hN 0 (fm_lt rfl)) (ha0.mk0 (ad := ad) (dA := dA) (bk := bk) _ M.2) rfl ?_
    refine fm_getN (v := .ref (ad bk)) (pc := 7) F (ci := 0) (T := TX0) (n := 19) rfl in_X0 0 (fm_lt rfl) dX2_over_7 q265 0 (fm_ltN hN rfl) rfl rfl ?_
    refine fm_getN (v := .int (M.1 bk 9)) (pc := 10) F (ci := 1) (T := TX1) (n := 11) rfl in_X1 9 (fm_lt rfl) dX2_over_10 q111 bk (hb.lt 0 (fm_lt rfl)) (hb.mk0 (ad := ad) (dA := dA) (bk := bk) _ M.2) rfl ?_
    refine fm_icmp_ge (tgt := 112) (pc := 13) F dX2_over_13 (by decide) (fun c1 => ?_) (fun c1 => ?_)
    · replace hf := fm_ip c1 hf
      refine fm_iconst (v := 0) (pc := 112) F dX2_over_112 (by decide) ?_
      refine fm_istore_n (lv' := [(1, .int 0), (0, .ref (ad a0))]) (pc := 113) F dX2_over_113 rfl (fm_lt rfl) rfl ?_
      refine fm_pick [1, 0] rfl ?_
      exact wX2_over_114 ha0 hN hb F E n _ _ hf
    · replace hf := fm_in c1 hf
      refine fm_aload_n (pc := 16) F dX2_over_16 0 rfl ?_
      refine fm_get (v := .ref (ad (a0 + 3))) (pc := 17) F (ci := 2) (T := TX2) (n := 7) rfl in_X2 4 (fm_lt rfl) dX2_over_17 q157 a0 (ha0.lt hN 0 (fm_lt rfl)) (ha0.mk0 (ad := ad) (dA := dA) (bk := bk) _ M.2) rfl ?_
      refine fm_iload_n (pc := 20) F dX2_over_20 1 rfl ?_
      obtain ⟨b2, hf⟩ := fm_b_inv hf
      refine fm_iald (pc := 21) F dX2_over_21 (a0 + 3) (ha0.lt hN 3 (fm_lt rfl)) (ha0.mk3 (ad := ad) (dA := dA) (bk := bk) _ M.2) b2 ?_
      refine fm_if_ne (tgt := 48) (pc := 22) F dX2_over_22 (by decide) (fun c3 => ?_) (fun c3 => ?_)
      · replace hf := fm_in c3 hf
        exact wX2_over_48 ha0 hN hb F E ih _ _ hf
      · replace hf := fm_ip c3 hf
        refine fm_aload_n (pc := 25) F dX2_over_25 0 rfl ?_
        refine fm_get (v := .ref (ad 0)) (pc := 26) F (ci := 2) (T := TX2) (n := 7) rfl in_X2 6 (fm_lt rfl) dX2_over_26 q161 a0 (ha0.lt hN 0 (fm_lt rfl)) (ha0.mk0 (ad := ad) (dA := dA) (bk := bk) _ M.2) rfl ?_
        refine fm_getN (v := .ref (ad bk)) (pc := 29) F (ci := 0) (T := TX0) (n := 19) rfl in_X0 0 (fm_lt rfl) dX2_over_29 q265 0 (fm_ltN hN rfl) rfl rfl ?_
        refine fm_getN (v := .ref (ad (bk + 20))) (pc := 32) F (ci := 1) (T := TX1) (n := 11) rfl in_X1 7 (fm_lt rfl) dX2_over_32 q105 bk (hb.lt 0 (fm_lt rfl)) (hb.mk0 (ad := ad) (dA := dA) (bk := bk) _ M.2) rfl ?_
        refine fm_iload_n (pc := 35) F dX2_over_35 1 rfl ?_
        obtain ⟨b4, hf⟩ := fm_b_inv hf
        refine fm_iald (pc := 36) F dX2_over_36 (bk + 20) (hb.lt 20 (fm_lt rfl)) (hb.mk20 (ad := ad) (dA := dA) (bk := bk) _ M.2) b4 ?_
        refine fm_aload_n (pc := 37) F dX2_over_37 0 rfl ?_
        refine fm_get (v := .int (M.1 a0 0)) (pc := 38) F (ci := 2) (T := TX2) (n := 7) rfl in_X2 0 (fm_lt rfl) dX2_over_38 q147 a0 (ha0.lt hN 0 (fm_lt rfl)) (ha0.mk0 (ad := ad) (dA := dA) (bk := bk) _ M.2) rfl ?_
        refine fm_icmp_ne (tgt := 48) (pc := 41) F dX2_over_41 (by decide) (fun c5 => ?_) (fun c5 => ?_)
        · replace hf := fm_in c5 hf
          exact wX2_over_48 ha0 hN hb F E ih _ _ hf
        · replace hf := fm_ip c5 hf
          refine fm_iconst (v := 1) (pc := 44) F dX2_over_44 (by decide) ?_
          refine fm_goto (tgt := 49) (pc := 45) F dX2_over_45 (by decide) ?_
          exact wX2_over_49 ha0 hN hb F E ih _ _ _ hf
set_option maxHeartbeats 4000000 in
theorem mX2_over {l : Launch} {D : va_G} {dA : Nat → ClassId} {ad : Nat → Nat} {N bk : Nat} {n : Nat} {a0 : Nat} (ha0 : fm_isPl a0) (hN : 193 ≤ N) (hb : fm_isBk N bk) (inj : ∀ i j, i < N → j < N → ad i = ad j → i = j) {M M' : fm_M} (hf : fX2_over n bk a0 M = some M') : fm_C l yX2_over (ws_ yX2_over cX2_over 3 none) rmX2_over (YC D dA N ad bk) [.ref (ad a0)] M none M' := by
  refine fm_enter (by decide) rfl (fm_le rfl) inj ?_
  intro X hXl F E
  subst hXl
  unfold fX2_over at hf
  show fm_G X (YC D dA N ad bk) (0, 0) 3 M 0 [(0, .ref (ad a0))] []
  refine fm_iconst (v := 0) (pc := 0) F dX2_over_0 (by decide) ?_
  refine fm_istore_n (lv' := [(1, .int 0), (0, .ref (ad a0))]) (pc := 1) F dX2_over_1 rfl (fm_lt rfl) rfl ?_
  refine fm_pick [1, 0] rfl ?_
  exact wX2_over_2 ha0 hN hb F E n _ _ hf
abbrev rmX0_lotOf : Room := { frames := 2, cells := 0, slots := 0, locals := 80 }
def fX0_lotOf_75 (n bk : Nat) (k4 : fm_M → Int32 → Int32 → Int32 → Option (fm_M)) (k60 : fm_M → Int32 → Int32 → Int32 → Int32 → Int32 → Option (fm_M)) (M : fm_M) (l1 : Int32) (l2 : Int32) (l3 : Int32) (l6 : Int32) (l7 : Int32) : Option (fm_M) :=
  if ((l2 >>> (l7 &&& 31)) &&& 1) = 1 then
    k60 M l1 l2 l3 (l6 - 0) (l7 + 1)
  else
    k60 M l1 l2 l3 (l6 - 1) (l7 + 1)
def fX0_lotOf_60 (n bk : Nat) (k4 : fm_M → Int32 → Int32 → Int32 → Option (fm_M)) : Nat → fm_M → Int32 → Int32 → Int32 → Int32 → Int32 → Option (fm_M)
  | 0, _, _, _, _, _, _ => none
  | k + 1, M, l1, l2, l3, l6, l7 =>
    if ((l2 >>> (l7 &&& 31)) &&& 1) = 1 then
      fX0_lotOf_75 n bk k4 (fX0_lotOf_60 n bk k4 k) M l1 l2 l3 l6 l7
    else
      if l6 ≤ 0 then
        fm_b l3 6 <|
        fm_let (fm_wr M 2 l3.toNatClampNeg l7) fun M4 =>
        fm_let (l2 ||| (1 <<< (l7 &&& 31))) fun x5 =>
        k4 M4 l1 x5 (l3 + 1)
      else
        fX0_lotOf_75 n bk k4 (fX0_lotOf_60 n bk k4 k) M l1 l2 l3 l6 l7
def fX0_lotOf_4 (n bk : Nat) : Nat → fm_M → Int32 → Int32 → Int32 → Option (fm_M)
  | 0, _, _, _, _ => none
  | k + 1, M, l1, l2, l3 =>
    if (M.1 bk 8) ≤ l3 then
      some M
    else
      fm_let (((7919 * l1.toInt64) + (6151 * l3.toInt64)) + 1) fun x2 =>
      fm_let ((x2 * x2) - (x2 * x2) / 65521 * 65521) fun x3 =>
      fm_let (x3.toInt32 / 16) fun x4 =>
      fm_nz ((M.1 bk 8) - l3) <|
      fm_let (x4 - x4 / ((M.1 bk 8) - l3) * ((M.1 bk 8) - l3)) fun x6 =>
      fX0_lotOf_60 n bk (fX0_lotOf_4 n bk k) n M l1 l2 l3 x6 0
def fX0_lotOf (n bk : Nat) (M : fm_M) (l1 : Int32) : Option (fm_M) :=
  fX0_lotOf_4 n bk n M l1 0 0
theorem hdX0_lotOf : yX0_lotOf.cls = RX0 ∧ yX0_lotOf.cls ≠ "java/lang/invoke/MethodHandle" ∧ yX0_lotOf.cls ≠ "java/lang/invoke/VarHandle" ∧ (parseMethodDescriptor yX0_lotOf.desc).map (fun d => d.parameters.length) = some 1 := by decide +kernel
set_option maxHeartbeats 4000000 in
theorem wX0_lotOf_75 {X : fm_X} {D : va_G} {dA : Nat → ClassId} {ad : Nat → Nat} {N bk : Nat} {n : Nat} (hN : 193 ≤ N) (hb : fm_isBk N bk) (F : fm_F X (YC D dA N ad bk) cX0_lotOf 8 RX0 rmX0_lotOf) {M' : fm_M} (E : fm_E X (YC D dA N ad bk) none M' none) {k4 : fm_M → Int32 → Int32 → Int32 → Option (fm_M)} (hk4 : ∀ (M : fm_M) (l1 : Int32) (l2 : Int32) (l3 : Int32), k4 M l1 l2 l3 = some M' → fm_G X (YC D dA N ad bk) (0, 0) 8 M 4 [(0, .ref (ad 0)), (1, .int l1), (2, .int l2), (3, .int l3)] []) {k60 : fm_M → Int32 → Int32 → Int32 → Int32 → Int32 → Option (fm_M)} (hk60 : ∀ (M : fm_M) (l1 : Int32) (l2 : Int32) (l3 : Int32) (l6 : Int32) (l7 : Int32), k60 M l1 l2 l3 l6 l7 = some M' → fm_G X (YC D dA N ad bk) (0, 0) 8 M 60 [(0, .ref (ad 0)), (1, .int l1), (2, .int l2), (3, .int l3), (6, .int l6), (7, .int l7)] []) : ∀ (M : fm_M) (l1 : Int32) (l2 : Int32) (l3 : Int32) (l6 : Int32) (l7 : Int32), fX0_lotOf_75 n bk k4 k60 M l1 l2 l3 l6 l7 = some M' → fm_G X (YC D dA N ad bk) (0, 0) 8 M 75 [(0, .ref (ad 0)), (1, .int l1), (2, .int l2), (3, .int l3), (6, .int l6), (7, .int l7)] [] := by
  intro M l1 l2 l3 l6 l7 hf
  unfold fX0_lotOf_75 at hf
  refine fm_iload (pc := 75) F dX0_lotOf_75 4 rfl ?_
  refine fm_iload_n (pc := 77) F dX0_lotOf_77 2 rfl ?_
  refine fm_iload (pc := 78) F dX0_lotOf_78 5 rfl ?_
  refine fm_ishr (pc := 80) F dX0_lotOf_80 ?_
  refine fm_iconst (v := 1) (pc := 81) F dX0_lotOf_81 (by decide) ?_
  refine fm_iand (pc := 82) F dX0_lotOf_82 ?_
  refine fm_iconst (v := 1) (pc := 83) F dX0_lotOf_83 (by decide) ?_
  refine fm_icmp_ne (tgt := 91) (pc := 84) F dX0_lotOf_84 (by decide) (fun c1 => ?_) (fun c1 => ?_)
  · replace hf := fm_in c1 hf
    refine fm_iconst (v := 1) (pc := 91) F dX0_lotOf_91 (by decide) ?_
    refine fm_isub (pc := 92) F dX0_lotOf_92 ?_
    refine fm_istore (lv' := [(6, .int (l6 - 1)), (0, .ref (ad 0)), (1, .int l1), (2, .int l2), (3, .int l3), (7, .int l7)]) (pc := 93) F dX0_lotOf_93 (fm_lt rfl) rfl ?_
    refine fm_iinc (v := (l7 + 1)) (lv' := [(7, .int (l7 + 1)), (6, .int (l6 - 1)), (0, .ref (ad 0)), (1, .int l1), (2, .int l2), (3, .int l3)]) (pc := 95) F dX0_lotOf_95 5 rfl rfl (fm_lt rfl) rfl ?_
    refine fm_goto (tgt := 60) (pc := 98) F dX0_lotOf_98 (by decide) ?_
    refine fm_pick [2, 3, 4, 5, 1, 0] rfl ?_
    exact hk60 _ _ _ _ _ _ hf
  · replace hf := fm_ip c1 hf
    refine fm_iconst (v := 0) (pc := 87) F dX0_lotOf_87 (by decide) ?_
    refine fm_goto (tgt := 92) (pc := 88) F dX0_lotOf_88 (by decide) ?_
    refine fm_isub (pc := 92) F dX0_lotOf_92 ?_
    refine fm_istore (lv' := [(6, .int (l6 - 0)), (0, .ref (ad 0)), (1, .int l1), (2, .int l2), (3, .int l3), (7, .int l7)]) (pc := 93) F dX0_lotOf_93 (fm_lt rfl) rfl ?_
    refine fm_iinc (v := (l7 + 1)) (lv' := [(7, .int (l7 + 1)), (6, .int (l6 - 0)), (0, .ref (ad 0)), (1, .int l1), (2, .int l2), (3, .int l3)]) (pc := 95) F dX0_lotOf_95 5 rfl rfl (fm_lt rfl) rfl ?_
    refine fm_goto (tgt := 60) (pc := 98) F dX0_lotOf_98 (by decide) ?_
    refine fm_pick [2, 3, 4, 5, 1, 0] rfl ?_
    exact hk60 _ _ _ _ _ _ hf
set_option maxHeartbeats 4000000 in
theorem wX0_lotOf_60 {X : fm_X} {D : va_G} {dA : Nat → ClassId} {ad : Nat → Nat} {N bk : Nat} {n : Nat} (hN : 193 ≤ N) (hb : fm_isBk N bk) (F : fm_F X (YC D dA N ad bk) cX0_lotOf 8 RX0 rmX0_lotOf) {M' : fm_M} (E : fm_E X (YC D dA N ad bk) none M' none) {k4 : fm_M → Int32 → Int32 → Int32 → Option (fm_M)} (hk4 : ∀ (M : fm_M) (l1 : Int32) (l2 : Int32) (l3 : Int32), k4 M l1 l2 l3 = some M' → fm_G X (YC D dA N ad bk) (0, 0) 8 M 4 [(0, .ref (ad 0)), (1, .int l1), (2, .int l2), (3, .int l3)] []) : ∀ (k : Nat) (M : fm_M) (l1 : Int32) (l2 : Int32) (l3 : Int32) (l6 : Int32) (l7 : Int32), fX0_lotOf_60 n bk k4 k M l1 l2 l3 l6 l7 = some M' → fm_G X (YC D dA N ad bk) (0, 0) 8 M 60 [(0, .ref (ad 0)), (1, .int l1), (2, .int l2), (3, .int l3), (6, .int l6), (7, .int l7)] [] := by
  intro k
  induction k with
  | zero =>
    intro M l1 l2 l3 l6 l7 hf
    rw [fX0_lotOf_60] at hf
    cases hf
  | succ k ih =>
    intro M l1 l2 l3 l6 l7 hf
    rw [fX0_lotOf_60] at hf
    refine fm_iload_n (pc := 60) F dX0_lotOf_60 2 rfl ?_
    refine fm_iload (pc := 61) F dX0_lotOf_61 5 rfl ?_
    refine fm_ishr (pc := 63) F dX0_lotOf_63 ?_
    refine fm_iconst (v := 1) (pc := 64) F dX0_lotOf_64 (by decide) ?_
    refine fm_iand (pc := 65) F dX0_lotOf_65 ?_
    refine fm_iconst (v := 1) (pc := 66) F dX0_lotOf_66 (by decide) ?_
    refine fm_icmp_eq (tgt := 75) (pc := 67) F dX0_lotOf_67 (by decide) (fun c1 => ?_) (fun c1 => ?_)
    · replace hf := fm_ip c1 hf
      exact wX0_lotOf_75 hN hb F E hk4 ih _ _ _ _ _ _ hf
    · replace hf := fm_in c1 hf
      refine fm_iload (pc := 70) F dX0_lotOf_70 4 rfl ?_
      refine fm_if_le (tgt := 101) (pc := 72) F dX0_lotOf_72 (by decide) (fun c2 => ?_) (fun c2 => ?_)
      · replace hf := fm_ip c2 hf
        refine fm_aload_n (pc := 101) F dX0_lotOf_101 0 rfl ?_
        refine fm_get (v := .ref (ad 2)) (pc := 102) F (ci := 0) (T := TX0) (n := 19) rfl in_X0 2 (fm_lt rfl) dX0_lotOf_102 q268 0 (fm_ltN hN rfl) rfl rfl ?_
        refine fm_iload_n (pc := 105) F dX0_lotOf_105 3 rfl ?_
        refine fm_iload (pc := 106) F dX0_lotOf_106 5 rfl ?_
        obtain ⟨b3, hf⟩ := fm_b_inv hf
        refine fm_iast (pc := 108) F dX0_lotOf_108 2 (fm_ltN hN rfl) (fun _ => rfl) b3 ?_
        refine fm_nameM (fun M4 eM4 => ?_)
        replace hf := fm_let_inv eM4 hf
        refine fm_iload_n (pc := 109) F dX0_lotOf_109 2 rfl ?_
        refine fm_iconst (v := 1) (pc := 110) F dX0_lotOf_110 (by decide) ?_
        refine fm_iload (pc := 111) F dX0_lotOf_111 5 rfl ?_
        refine fm_ishl (pc := 113) F dX0_lotOf_113 ?_
        refine fm_ior (pc := 114) F dX0_lotOf_114 ?_
        refine fm_topi (fun x5 ex5 => ?_)
        replace hf := fm_let_inv ex5 hf
        refine fm_istore_n (lv' := [(2, .int x5), (0, .ref (ad 0)), (1, .int l1), (3, .int l3), (6, .int l6), (7, .int l7)]) (pc := 115) F dX0_lotOf_115 rfl (fm_lt rfl) rfl ?_
        refine fm_iinc (v := (l3 + 1)) (lv' := [(3, .int (l3 + 1)), (2, .int x5), (0, .ref (ad 0)), (1, .int l1), (6, .int l6), (7, .int l7)]) (pc := 116) F dX0_lotOf_116 3 rfl rfl (fm_lt rfl) rfl ?_
        refine fm_goto (tgt := 4) (pc := 119) F dX0_lotOf_119 (by decide) ?_
        refine fm_pick [2, 3, 1, 0] rfl ?_
        exact hk4 _ _ _ _ hf
      · replace hf := fm_in c2 hf
        exact wX0_lotOf_75 hN hb F E hk4 ih _ _ _ _ _ _ hf
set_option maxHeartbeats 4000000 in
theorem wX0_lotOf_4 {X : fm_X} {D : va_G} {dA : Nat → ClassId} {ad : Nat → Nat} {N bk : Nat} {n : Nat} (hN : 193 ≤ N) (hb : fm_isBk N bk) (F : fm_F X (YC D dA N ad bk) cX0_lotOf 8 RX0 rmX0_lotOf) {M' : fm_M} (E : fm_E X (YC D dA N ad bk) none M' none) : ∀ (k : Nat) (M : fm_M) (l1 : Int32) (l2 : Int32) (l3 : Int32), fX0_lotOf_4 n bk k M l1 l2 l3 = some M' → fm_G X (YC D dA N ad bk) (0, 0) 8 M 4 [(0, .ref (ad 0)), (1, .int l1), (2, .int l2), (3, .int l3)] [] := by
  intro k
  induction k with
  | zero =>
    intro M l1 l2 l3 hf
    rw [fX0_lotOf_4] at hf
    cases hf
  | succ k ih =>
    intro M l1 l2 l3 hf
    rw [fX0_lotOf_4] at hf
    refine fm_iload_n (pc := 4) F dX0_lotOf_4 3 rfl ?_
    refine fm_aload_n (pc := 5) F dX0_lotOf_5 0 rfl ?_
    refine fm_get (v := .ref (ad bk)) (pc := 6) F (ci := 0) (T := TX0) (n := 19) rfl in_X0 0 (fm_lt rfl) dX0_lotOf_6 q262 0 (fm_ltN hN rfl) rfl rfl ?_
    refine fm_getN (v := .int (M.1 bk 8)) (pc := 9) F (ci := 1) (T := TX1) (n := 11) rfl in_X1 8 (fm_lt rfl) dX0_lotOf_9 q108 bk (hb.lt 0 (fm_lt rfl)) (hb.mk0 (ad := ad) (dA := dA) (bk := bk) _ M.2) rfl ?_
    refine fm_icmp_ge (tgt := 122) (pc := 12) F dX0_lotOf_12 (by decide) (fun c1 => ?_) (fun c1 => ?_)
    · replace hf := fm_ip c1 hf
      exact fm_vret (pc := 122) F E hf dX0_lotOf_122
    · replace hf := fm_in c1 hf
      refine fm_ldc2 (pc := 15) F dX0_lotOf_15 q646 ?_
      refine fm_iload_n (pc := 18) F dX0_lotOf_18 1 rfl ?_
      refine fm_i2l (pc := 19) F dX0_lotOf_19 ?_
      refine fm_lmul (pc := 20) F dX0_lotOf_20 ?_
      refine fm_ldc2 (pc := 21) F dX0_lotOf_21 q647 ?_
      refine fm_iload_n (pc := 24) F dX0_lotOf_24 3 rfl ?_
      refine fm_i2l (pc := 25) F dX0_lotOf_25 ?_
      refine fm_lmul (pc := 26) F dX0_lotOf_26 ?_
      refine fm_ladd (pc := 27) F dX0_lotOf_27 ?_
      refine fm_lconst (v := 1) (pc := 28) F dX0_lotOf_28 (by decide) ?_
      refine fm_ladd (pc := 29) F dX0_lotOf_29 ?_
      refine fm_topl (fun x2 ex2 => ?_)
      replace hf := fm_let_inv ex2 hf
      refine fm_lstore (lv' := [(4, .long x2), (0, .ref (ad 0)), (1, .int l1), (2, .int l2), (3, .int l3)]) (pc := 30) F dX0_lotOf_30 (fm_lt rfl) rfl ?_
      refine fm_lload (pc := 32) F dX0_lotOf_32 0 rfl ?_
      refine fm_lload (pc := 34) F dX0_lotOf_34 0 rfl ?_
      refine fm_lmul (pc := 36) F dX0_lotOf_36 ?_
      refine fm_ldc2 (pc := 37) F dX0_lotOf_37 q648 ?_
      refine fm_lrem (pc := 40) F dX0_lotOf_40 (by decide) ?_
      refine fm_topl (fun x3 ex3 => ?_)
      replace hf := fm_let_inv ex3 hf
      refine fm_l2i (pc := 41) F dX0_lotOf_41 ?_
      refine fm_bipush (v := 16) (pc := 42) F dX0_lotOf_42 (by decide) ?_
      refine fm_idiv (pc := 44) F dX0_lotOf_44 (by decide) ?_
      refine fm_topi (fun x4 ex4 => ?_)
      replace hf := fm_let_inv ex4 hf
      refine fm_aload_n (pc := 45) F dX0_lotOf_45 1 rfl ?_
      refine fm_get (v := .ref (ad bk)) (pc := 46) F (ci := 0) (T := TX0) (n := 19) rfl in_X0 0 (fm_lt rfl) dX0_lotOf_46 q262 0 (fm_ltN hN rfl) rfl rfl ?_
      refine fm_getN (v := .int (M.1 bk 8)) (pc := 49) F (ci := 1) (T := TX1) (n := 11) rfl in_X1 8 (fm_lt rfl) dX0_lotOf_49 q108 bk (hb.lt 0 (fm_lt rfl)) (hb.mk0 (ad := ad) (dA := dA) (bk := bk) _ M.2) rfl ?_
      refine fm_iload_n (pc := 52) F dX0_lotOf_52 4 rfl ?_
      refine fm_isub (pc := 53) F dX0_lotOf_53 ?_
      obtain ⟨b5, hf⟩ := fm_nz_inv hf
      refine fm_irem (pc := 54) F dX0_lotOf_54 b5 ?_
      refine fm_topi (fun x6 ex6 => ?_)
      replace hf := fm_let_inv ex6 hf
      refine fm_istore (lv' := [(6, .int x6), (4, .long x2), (0, .ref (ad 0)), (1, .int l1), (2, .int l2), (3, .int l3)]) (pc := 55) F dX0_lotOf_55 (fm_lt rfl) rfl ?_
      refine fm_iconst (v := 0) (pc := 57) F dX0_lotOf_57 (by decide) ?_
      refine fm_istore (lv' := [(7, .int 0), (6, .int x6), (4, .long x2), (0, .ref (ad 0)), (1, .int l1), (2, .int l2), (3, .int l3)]) (pc := 58) F dX0_lotOf_58 (fm_lt rfl) rfl ?_
      refine fm_pick [3, 4, 5, 6, 1, 0] rfl ?_
      exact wX0_lotOf_60 hN hb F E ih n _ _ _ _ _ _ hf
set_option maxHeartbeats 4000000 in
theorem mX0_lotOf {l : Launch} {D : va_G} {dA : Nat → ClassId} {ad : Nat → Nat} {N bk : Nat} {n : Nat} (hN : 193 ≤ N) (hb : fm_isBk N bk) (inj : ∀ i j, i < N → j < N → ad i = ad j → i = j) {M M' : fm_M} {l1 : Int32} (hf : fX0_lotOf n bk M l1 = some M') : fm_C l yX0_lotOf (ws_ yX0_lotOf cX0_lotOf 8 none) rmX0_lotOf (YC D dA N ad bk) [.ref (ad 0), .int l1] M none M' := by
  refine fm_enter (by decide) rfl (fm_le rfl) inj ?_
  intro X hXl F E
  subst hXl
  unfold fX0_lotOf at hf
  show fm_G X (YC D dA N ad bk) (0, 0) 8 M 0 [(0, .ref (ad 0)), (1, .int l1)] []
  refine fm_iconst (v := 0) (pc := 0) F dX0_lotOf_0 (by decide) ?_
  refine fm_istore_n (lv' := [(2, .int 0), (0, .ref (ad 0)), (1, .int l1)]) (pc := 1) F dX0_lotOf_1 rfl (fm_lt rfl) rfl ?_
  refine fm_iconst (v := 0) (pc := 2) F dX0_lotOf_2 (by decide) ?_
  refine fm_istore_n (lv' := [(3, .int 0), (2, .int 0), (0, .ref (ad 0)), (1, .int l1)]) (pc := 3) F dX0_lotOf_3 rfl (fm_lt rfl) rfl ?_
  refine fm_pick [2, 3, 1, 0] rfl ?_
  exact wX0_lotOf_4 hN hb F E n _ _ _ _ hf
abbrev rmX2_draw : Room := { frames := 3, cells := 0, slots := 0, locals := 107 }
def fX2_draw_14 (n bk : Nat) (a0 : Nat) : Nat → fm_M → Int32 → Option (Int32 × fm_M)
  | 0, _, _ => none
  | k + 1, M, l2 =>
    if (M.1 bk 8) ≤ l2 then
      fm_gd (fm_cpok 0 0 (M.1 bk 8) 6 6) <|
      fm_let (fm_row M (a0 + 1) (va_cpy (M.1 1) (M.1 (a0 + 1)) 0 0 (M.1 bk 8).toNatClampNeg)) fun M3 =>
      fm_let (fm_wr M3 a0 0 ((M3.1 a0 0) + 1)) fun M4 =>
      fm_bi (fX2_cutAll n bk a0 M4) fun r5 M6 =>
      some (r5, M6)
    else
      fm_b l2 6 <|
      fm_b (M.1 2 l2.toNatClampNeg) 6 <|
      fm_b l2 6 <|
      fm_let (fm_wr M 1 l2.toNatClampNeg (M.1 (a0 + 1) (M.1 2 l2.toNatClampNeg).toNatClampNeg)) fun M12 =>
      fX2_draw_14 n bk a0 k M12 (l2 + 1)
def fX2_draw (n bk : Nat) (a0 : Nat) (M : fm_M) (l1 : Int32) : Option (Int32 × fm_M) :=
  fm_bv (fX2_over n bk a0 M) fun M2 =>
  fm_bv (fX0_lotOf n bk M2 l1) fun M6 =>
  fX2_draw_14 n bk a0 n M6 0
theorem hdX2_draw : yX2_draw.cls = RX2 ∧ yX2_draw.cls ≠ "java/lang/invoke/MethodHandle" ∧ yX2_draw.cls ≠ "java/lang/invoke/VarHandle" ∧ (parseMethodDescriptor yX2_draw.desc).map (fun d => d.parameters.length) = some 1 := by decide +kernel
set_option maxHeartbeats 4000000 in
theorem wX2_draw_14 {X : fm_X} {D : va_G} {dA : Nat → ClassId} {ad : Nat → Nat} {N bk : Nat} {n : Nat} {a0 : Nat} (ha0 : fm_isPl a0) (hN : 193 ≤ N) (hb : fm_isBk N bk) {r : Int32} (F : fm_F X (YC D dA N ad bk) cX2_draw 3 RX2 rmX2_draw) {M' : fm_M} (E : fm_E X (YC D dA N ad bk) (some (.int r)) M' (some .int)) : ∀ (k : Nat) (M : fm_M) (l2 : Int32), fX2_draw_14 n bk a0 k M l2 = some (r, M') → fm_G X (YC D dA N ad bk) (0, 0) 3 M 14 [(0, .ref (ad a0)), (2, .int l2)] [] := by
  intro k
  induction k with
  | zero =>
    intro M l2 hf
    rw [fX2_draw_14] at hf
    cases hf
  | succ k ih =>
    intro M l2 hf
    rw [fX2_draw_14] at hf
    refine fm_iload_n (pc := 14) F dX2_draw_14 1 rfl ?_
    refine fm_aload_n (pc := 15) F dX2_draw_15 0 rfl ?_
    refine fm_get (v := .ref (ad 0)) (pc := 16) F (ci := 2) (T := TX2) (n := 7) rfl in_X2 6 (fm_lt rfl) dX2_draw_16 q161 a0 (ha0.lt hN 0 (fm_lt rfl)) (ha0.mk0 (ad := ad) (dA := dA) (bk := bk) _ M.2) rfl ?_
    refine fm_getN (v := .ref (ad bk)) (pc := 19) F (ci := 0) (T := TX0) (n := 19) rfl in_X0 0 (fm_lt rfl) dX2_draw_19 q265 0 (fm_ltN hN rfl) rfl rfl ?_
    refine fm_getN (v := .int (M.1 bk 8)) (pc := 22) F (ci := 1) (T := TX1) (n := 11) rfl in_X1 8 (fm_lt rfl) dX2_draw_22 q109 bk (hb.lt 0 (fm_lt rfl)) (hb.mk0 (ad := ad) (dA := dA) (bk := bk) _ M.2) rfl ?_
    refine fm_icmp_ge (tgt := 57) (pc := 25) F dX2_draw_25 (by decide) (fun c1 => ?_) (fun c1 => ?_)
    · replace hf := fm_ip c1 hf
      refine fm_aload_n (pc := 57) F dX2_draw_57 0 rfl ?_
      refine fm_get (v := .ref (ad 0)) (pc := 58) F (ci := 2) (T := TX2) (n := 7) rfl in_X2 6 (fm_lt rfl) dX2_draw_58 q161 a0 (ha0.lt hN 0 (fm_lt rfl)) (ha0.mk0 (ad := ad) (dA := dA) (bk := bk) _ M.2) rfl ?_
      refine fm_getN (v := .ref (ad 1)) (pc := 61) F (ci := 0) (T := TX0) (n := 19) rfl in_X0 1 (fm_lt rfl) dX2_draw_61 q267 0 (fm_ltN hN rfl) rfl rfl ?_
      refine fm_iconst (v := 0) (pc := 64) F dX2_draw_64 (by decide) ?_
      refine fm_aload_n (pc := 65) F dX2_draw_65 0 rfl ?_
      refine fm_get (v := .ref (ad (a0 + 1))) (pc := 66) F (ci := 2) (T := TX2) (n := 7) rfl in_X2 2 (fm_lt rfl) dX2_draw_66 q152 a0 (ha0.lt hN 0 (fm_lt rfl)) (ha0.mk0 (ad := ad) (dA := dA) (bk := bk) _ M.2) rfl ?_
      refine fm_iconst (v := 0) (pc := 69) F dX2_draw_69 (by decide) ?_
      refine fm_aload_n (pc := 70) F dX2_draw_70 0 rfl ?_
      refine fm_get (v := .ref (ad 0)) (pc := 71) F (ci := 2) (T := TX2) (n := 7) rfl in_X2 6 (fm_lt rfl) dX2_draw_71 q161 a0 (ha0.lt hN 0 (fm_lt rfl)) (ha0.mk0 (ad := ad) (dA := dA) (bk := bk) _ M.2) rfl ?_
      refine fm_getN (v := .ref (ad bk)) (pc := 74) F (ci := 0) (T := TX0) (n := 19) rfl in_X0 0 (fm_lt rfl) dX2_draw_74 q265 0 (fm_ltN hN rfl) rfl rfl ?_
      refine fm_getN (v := .int (M.1 bk 8)) (pc := 77) F (ci := 1) (T := TX1) (n := 11) rfl in_X1 8 (fm_lt rfl) dX2_draw_77 q109 bk (hb.lt 0 (fm_lt rfl)) (hb.mk0 (ad := ad) (dA := dA) (bk := bk) _ M.2) rfl ?_
      obtain ⟨g2, hf⟩ := fm_gd_inv hf
      refine fm_copyiK (pc := 80) F dX2_draw_80 q633 q628 q627 q61 1 (a0 + 1) (fm_ltN hN rfl) (ha0.lt hN 1 (fm_lt rfl)) rfl (fun _ => ha0.mk1 (ad := ad) (dA := dA) (bk := bk) _ M.2) (fm_cpok_inv g2) ⟨fm_le rfl, fm_le rfl⟩ 0 0 ((M.1 bk 8).toNatClampNeg) rfl rfl rfl ?_
      refine fm_nameM (fun M3 eM3 => ?_)
      replace hf := fm_let_inv eM3 hf
      refine fm_aload_n (pc := 83) F dX2_draw_83 0 rfl ?_
      refine fm_dup (pc := 84) F dX2_draw_84 rfl ?_
      refine fm_get (v := .int (M3.1 a0 0)) (pc := 85) F (ci := 2) (T := TX2) (n := 7) rfl in_X2 0 (fm_lt rfl) dX2_draw_85 q147 a0 (ha0.lt hN 0 (fm_lt rfl)) (ha0.mk0 (ad := ad) (dA := dA) (bk := bk) _ M3.2) rfl ?_
      refine fm_iconst (v := 1) (pc := 88) F dX2_draw_88 (by decide) ?_
      refine fm_iadd (pc := 89) F dX2_draw_89 ?_
      refine fm_putI (v := ((M3.1 a0 0) + 1)) (pc := 90) F clX2 0 (fm_lt rfl) dX2_draw_90 q147 rfl rfl a0 (ha0.lt hN 0 (fm_lt rfl)) (ha0.mk0 (ad := ad) (dA := dA) (bk := bk) _ M3.2) (fm_lt rfl) (ha0.mk0 (ad := ad) (dA := dA) (bk := bk) _ M3.2) ?_
      refine fm_nameM (fun M4 eM4 => ?_)
      replace hf := fm_let_inv eM4 hf
      refine fm_aload_n (pc := 93) F dX2_draw_93 0 rfl ?_
      obtain ⟨r5, M6, h7, hf⟩ := fm_bi_inv hf
      refine fm_callV (As := []) (rest := []) (pc := 94) F (ci := 2) a0 (ha0.lt hN 0 (fm_lt rfl)) (ha0.mk0 (ad := ad) (dA := dA) (bk := bk) _ M4.2) rfl (mX2_cutAll ha0 hN hb F.inj h7) q649 q651 qs14 q41 q652 ⟨rfl, rfl⟩ hdX2_cutAll ⟨fm_le rfl, fm_le rfl, Nat.zero_le _, Nat.zero_le _⟩ rfl rfl (fm_le rfl) dX2_draw_94 ?_
      exact fm_iret (pc := 97) F E hf dX2_draw_97
    · replace hf := fm_in c1 hf
      refine fm_aload_n (pc := 28) F dX2_draw_28 0 rfl ?_
      refine fm_get (v := .ref (ad 0)) (pc := 29) F (ci := 2) (T := TX2) (n := 7) rfl in_X2 6 (fm_lt rfl) dX2_draw_29 q161 a0 (ha0.lt hN 0 (fm_lt rfl)) (ha0.mk0 (ad := ad) (dA := dA) (bk := bk) _ M.2) rfl ?_
      refine fm_getN (v := .ref (ad 1)) (pc := 32) F (ci := 0) (T := TX0) (n := 19) rfl in_X0 1 (fm_lt rfl) dX2_draw_32 q267 0 (fm_ltN hN rfl) rfl rfl ?_
      refine fm_iload_n (pc := 35) F dX2_draw_35 1 rfl ?_
      refine fm_aload_n (pc := 36) F dX2_draw_36 0 rfl ?_
      refine fm_get (v := .ref (ad (a0 + 1))) (pc := 37) F (ci := 2) (T := TX2) (n := 7) rfl in_X2 2 (fm_lt rfl) dX2_draw_37 q152 a0 (ha0.lt hN 0 (fm_lt rfl)) (ha0.mk0 (ad := ad) (dA := dA) (bk := bk) _ M.2) rfl ?_
      refine fm_aload_n (pc := 40) F dX2_draw_40 0 rfl ?_
      refine fm_get (v := .ref (ad 0)) (pc := 41) F (ci := 2) (T := TX2) (n := 7) rfl in_X2 6 (fm_lt rfl) dX2_draw_41 q161 a0 (ha0.lt hN 0 (fm_lt rfl)) (ha0.mk0 (ad := ad) (dA := dA) (bk := bk) _ M.2) rfl ?_
      refine fm_getN (v := .ref (ad 2)) (pc := 44) F (ci := 0) (T := TX0) (n := 19) rfl in_X0 2 (fm_lt rfl) dX2_draw_44 q269 0 (fm_ltN hN rfl) rfl rfl ?_
      refine fm_iload_n (pc := 47) F dX2_draw_47 1 rfl ?_
      obtain ⟨b9, hf⟩ := fm_b_inv hf
      refine fm_iald (pc := 48) F dX2_draw_48 2 (fm_ltN hN rfl) rfl b9 ?_
      obtain ⟨b10, hf⟩ := fm_b_inv hf
      refine fm_iald (pc := 49) F dX2_draw_49 (a0 + 1) (ha0.lt hN 1 (fm_lt rfl)) (ha0.mk1 (ad := ad) (dA := dA) (bk := bk) _ M.2) b10 ?_
      obtain ⟨b11, hf⟩ := fm_b_inv hf
      refine fm_iast (pc := 50) F dX2_draw_50 1 (fm_ltN hN rfl) (fun _ => rfl) b11 ?_
      refine fm_nameM (fun M12 eM12 => ?_)
      replace hf := fm_let_inv eM12 hf
      refine fm_iinc (v := (l2 + 1)) (lv' := [(2, .int (l2 + 1)), (0, .ref (ad a0))]) (pc := 51) F dX2_draw_51 1 rfl rfl (fm_lt rfl) rfl ?_
      refine fm_goto (tgt := 14) (pc := 54) F dX2_draw_54 (by decide) ?_
      refine fm_pick [1, 0] rfl ?_
      exact ih _ _ hf
set_option maxHeartbeats 4000000 in
theorem mX2_draw {l : Launch} {D : va_G} {dA : Nat → ClassId} {ad : Nat → Nat} {N bk : Nat} {n : Nat} {a0 : Nat} (ha0 : fm_isPl a0) (hN : 193 ≤ N) (hb : fm_isBk N bk) (inj : ∀ i j, i < N → j < N → ad i = ad j → i = j) {M M' : fm_M} {l1 : Int32} {r : Int32} (hf : fX2_draw n bk a0 M l1 = some (r, M')) : fm_C l yX2_draw (ws_ yX2_draw cX2_draw 3 (some .int)) rmX2_draw (YC D dA N ad bk) [.ref (ad a0), .int l1] M (some (.int r)) M' := by
  refine fm_enter (by decide) rfl (fm_le rfl) inj ?_
  intro X hXl F E
  subst hXl
  unfold fX2_draw at hf
  show fm_G X (YC D dA N ad bk) (0, 0) 3 M 0 [(0, .ref (ad a0)), (1, .int l1)] []
  refine fm_aload_n (pc := 0) F dX2_draw_0 0 rfl ?_
  obtain ⟨M2, h3, hf⟩ := fm_bv_inv hf
  refine fm_callV (As := []) (rest := []) (pc := 1) F (ci := 2) a0 (ha0.lt hN 0 (fm_lt rfl)) (ha0.mk0 (ad := ad) (dA := dA) (bk := bk) _ M.2) rfl (mX2_over ha0 hN hb F.inj h3) q638 q640 qs12 q41 q641 ⟨rfl, rfl⟩ hdX2_over ⟨fm_le rfl, fm_le rfl, Nat.zero_le _, Nat.zero_le _⟩ rfl rfl (fm_le rfl) dX2_draw_1 ?_
  refine fm_aload_n (pc := 4) F dX2_draw_4 0 rfl ?_
  refine fm_get (v := .ref (ad 0)) (pc := 5) F (ci := 2) (T := TX2) (n := 7) rfl in_X2 6 (fm_lt rfl) dX2_draw_5 q161 a0 (ha0.lt hN 0 (fm_lt rfl)) (ha0.mk0 (ad := ad) (dA := dA) (bk := bk) _ M2.2) rfl ?_
  refine fm_iload_n (pc := 8) F dX2_draw_8 1 rfl ?_
  obtain ⟨M6, h7, hf⟩ := fm_bv_inv hf
  refine fm_callVN (As := [.int l1]) (rest := []) (pc := 9) F (ci := 0) 0 (fm_ltN hN rfl) rfl rfl (mX0_lotOf hN hb F.inj h7) q642 q644 qs13 q39 q645 ⟨rfl, rfl⟩ hdX0_lotOf.2 ⟨fm_le rfl, fm_le rfl, Nat.zero_le _, Nat.zero_le _⟩ rfl rfl (fm_le rfl) dX2_draw_9 ?_
  refine fm_iconst (v := 0) (pc := 12) F dX2_draw_12 (by decide) ?_
  refine fm_istore_n (lv' := [(2, .int 0), (0, .ref (ad a0)), (1, .int l1)]) (pc := 13) F dX2_draw_13 rfl (fm_lt rfl) rfl ?_
  refine fm_pick [1, 0] rfl ?_
  exact wX2_draw_14 ha0 hN hb F E n _ _ hf
abbrev rmX2_trade : Room := { frames := 3, cells := 0, slots := 0, locals := 103 }
def fX2_trade (n bk : Nat) (a0 : Nat) (M : fm_M) (l1 : Int32) (l2 : Int32) : Option (Int32 × fm_M) :=
  fm_b l1 6 <|
  fm_let (M.1 (a0 + 1) l1.toNatClampNeg) fun x2 =>
  fm_b l2 6 <|
  fm_b l1 6 <|
  fm_let (fm_wr M (a0 + 1) l1.toNatClampNeg (M.1 (a0 + 1) l2.toNatClampNeg)) fun M5 =>
  fm_b l2 6 <|
  fm_let (fm_wr M5 (a0 + 1) l2.toNatClampNeg x2) fun M7 =>
  fm_bi (fX2_cutAll n bk a0 M7) fun r8 M9 =>
  some (r8, M9)
theorem hdX2_trade : yX2_trade.cls = RX2 ∧ yX2_trade.cls ≠ "java/lang/invoke/MethodHandle" ∧ yX2_trade.cls ≠ "java/lang/invoke/VarHandle" ∧ (parseMethodDescriptor yX2_trade.desc).map (fun d => d.parameters.length) = some 2 := by decide +kernel
set_option maxHeartbeats 4000000 in
theorem mX2_trade {l : Launch} {D : va_G} {dA : Nat → ClassId} {ad : Nat → Nat} {N bk : Nat} {n : Nat} {a0 : Nat} (ha0 : fm_isPl a0) (hN : 193 ≤ N) (hb : fm_isBk N bk) (inj : ∀ i j, i < N → j < N → ad i = ad j → i = j) {M M' : fm_M} {l1 : Int32} {l2 : Int32} {r : Int32} (hf : fX2_trade n bk a0 M l1 l2 = some (r, M')) : fm_C l yX2_trade (ws_ yX2_trade cX2_trade 4 (some .int)) rmX2_trade (YC D dA N ad bk) [.ref (ad a0), .int l1, .int l2] M (some (.int r)) M' := by
  refine fm_enter (by decide) rfl (fm_le rfl) inj ?_
  intro X hXl F E
  subst hXl
  unfold fX2_trade at hf
  show fm_G X (YC D dA N ad bk) (0, 0) 4 M 0 [(0, .ref (ad a0)), (1, .int l1), (2, .int l2)] []
  refine fm_aload_n (pc := 0) F dX2_trade_0 0 rfl ?_
  refine fm_get (v := .ref (ad (a0 + 1))) (pc := 1) F (ci := 2) (T := TX2) (n := 7) rfl in_X2 2 (fm_lt rfl) dX2_trade_1 q152 a0 (ha0.lt hN 0 (fm_lt rfl)) (ha0.mk0 (ad := ad) (dA := dA) (bk := bk) _ M.2) rfl ?_
  refine fm_iload_n (pc := 4) F dX2_trade_4 1 rfl ?_
  obtain ⟨b1, hf⟩ := fm_b_inv hf
  refine fm_iald (pc := 5) F dX2_trade_5 (a0 + 1) (ha0.lt hN 1 (fm_lt rfl)) (ha0.mk1 (ad := ad) (dA := dA) (bk := bk) _ M.2) b1 ?_
  refine fm_topi (fun x2 ex2 => ?_)
  replace hf := fm_let_inv ex2 hf
  refine fm_istore_n (lv' := [(3, .int x2), (0, .ref (ad a0)), (1, .int l1), (2, .int l2)]) (pc := 6) F dX2_trade_6 rfl (fm_lt rfl) rfl ?_
  refine fm_aload_n (pc := 7) F dX2_trade_7 1 rfl ?_
  refine fm_get (v := .ref (ad (a0 + 1))) (pc := 8) F (ci := 2) (T := TX2) (n := 7) rfl in_X2 2 (fm_lt rfl) dX2_trade_8 q152 a0 (ha0.lt hN 0 (fm_lt rfl)) (ha0.mk0 (ad := ad) (dA := dA) (bk := bk) _ M.2) rfl ?_
  refine fm_iload_n (pc := 11) F dX2_trade_11 2 rfl ?_
  refine fm_aload_n (pc := 12) F dX2_trade_12 1 rfl ?_
  refine fm_get (v := .ref (ad (a0 + 1))) (pc := 13) F (ci := 2) (T := TX2) (n := 7) rfl in_X2 2 (fm_lt rfl) dX2_trade_13 q152 a0 (ha0.lt hN 0 (fm_lt rfl)) (ha0.mk0 (ad := ad) (dA := dA) (bk := bk) _ M.2) rfl ?_
  refine fm_iload_n (pc := 16) F dX2_trade_16 3 rfl ?_
  obtain ⟨b3, hf⟩ := fm_b_inv hf
  refine fm_iald (pc := 17) F dX2_trade_17 (a0 + 1) (ha0.lt hN 1 (fm_lt rfl)) (ha0.mk1 (ad := ad) (dA := dA) (bk := bk) _ M.2) b3 ?_
  obtain ⟨b4, hf⟩ := fm_b_inv hf
  refine fm_iast (pc := 18) F dX2_trade_18 (a0 + 1) (ha0.lt hN 1 (fm_lt rfl)) (fun _ => ha0.mk1 (ad := ad) (dA := dA) (bk := bk) _ M.2) b4 ?_
  refine fm_nameM (fun M5 eM5 => ?_)
  replace hf := fm_let_inv eM5 hf
  refine fm_aload_n (pc := 19) F dX2_trade_19 1 rfl ?_
  refine fm_get (v := .ref (ad (a0 + 1))) (pc := 20) F (ci := 2) (T := TX2) (n := 7) rfl in_X2 2 (fm_lt rfl) dX2_trade_20 q152 a0 (ha0.lt hN 0 (fm_lt rfl)) (ha0.mk0 (ad := ad) (dA := dA) (bk := bk) _ M5.2) rfl ?_
  refine fm_iload_n (pc := 23) F dX2_trade_23 3 rfl ?_
  refine fm_iload_n (pc := 24) F dX2_trade_24 0 rfl ?_
  obtain ⟨b6, hf⟩ := fm_b_inv hf
  refine fm_iast (pc := 25) F dX2_trade_25 (a0 + 1) (ha0.lt hN 1 (fm_lt rfl)) (fun _ => ha0.mk1 (ad := ad) (dA := dA) (bk := bk) _ M5.2) b6 ?_
  refine fm_nameM (fun M7 eM7 => ?_)
  replace hf := fm_let_inv eM7 hf
  refine fm_aload_n (pc := 26) F dX2_trade_26 1 rfl ?_
  obtain ⟨r8, M9, h10, hf⟩ := fm_bi_inv hf
  refine fm_callV (As := []) (rest := []) (pc := 27) F (ci := 2) a0 (ha0.lt hN 0 (fm_lt rfl)) (ha0.mk0 (ad := ad) (dA := dA) (bk := bk) _ M7.2) rfl (mX2_cutAll ha0 hN hb F.inj h10) q649 q651 qs14 q41 q652 ⟨rfl, rfl⟩ hdX2_cutAll ⟨fm_le rfl, fm_le rfl, Nat.zero_le _, Nat.zero_le _⟩ rfl rfl (fm_le rfl) dX2_trade_27 ?_
  exact fm_iret (pc := 30) F E hf dX2_trade_30
abbrev rmX2_homes : Room := { frames := 2, cells := 0, slots := 0, locals := 80 }
def fX2_homes_4 (n bk : Nat) (a0 : Nat) : Nat → fm_M → Int32 → Int32 → Option (Int32 × fm_M)
  | 0, _, _, _ => none
  | k + 1, M, l1, l2 =>
    if (M.1 bk 8) ≤ l2 then
      some (l1, M)
    else
      fm_b l2 6 <|
      if (M.1 (a0 + 1) l2.toNatClampNeg) = l2 then
        fm_let (l1 ||| (1 <<< (l2 &&& 31))) fun x4 =>
        fX2_homes_4 n bk a0 k M x4 (l2 + 1)
      else
        fX2_homes_4 n bk a0 k M (l1 ||| 0) (l2 + 1)
def fX2_homes (n bk : Nat) (a0 : Nat) (M : fm_M) : Option (Int32 × fm_M) :=
  fX2_homes_4 n bk a0 n M 0 0
theorem hdX2_homes : yX2_homes.cls = RX2 ∧ yX2_homes.cls ≠ "java/lang/invoke/MethodHandle" ∧ yX2_homes.cls ≠ "java/lang/invoke/VarHandle" ∧ (parseMethodDescriptor yX2_homes.desc).map (fun d => d.parameters.length) = some 0 := by decide +kernel
set_option maxHeartbeats 4000000 in
theorem wX2_homes_4 {X : fm_X} {D : va_G} {dA : Nat → ClassId} {ad : Nat → Nat} {N bk : Nat} {n : Nat} {a0 : Nat} (ha0 : fm_isPl a0) (hN : 193 ≤ N) (hb : fm_isBk N bk) {r : Int32} (F : fm_F X (YC D dA N ad bk) cX2_homes 3 RX2 rmX2_homes) {M' : fm_M} (E : fm_E X (YC D dA N ad bk) (some (.int r)) M' (some .int)) : ∀ (k : Nat) (M : fm_M) (l1 : Int32) (l2 : Int32), fX2_homes_4 n bk a0 k M l1 l2 = some (r, M') → fm_G X (YC D dA N ad bk) (0, 0) 3 M 4 [(0, .ref (ad a0)), (1, .int l1), (2, .int l2)] [] := by
  intro k
  induction k with
  | zero =>
    intro M l1 l2 hf
    rw [fX2_homes_4] at hf
    cases hf
  | succ k ih =>
    intro M l1 l2 hf
    rw [fX2_homes_4] at hf
    refine fm_iload_n (pc := 4) F dX2_homes_4 2 rfl ?_
    refine fm_aload_n (pc := 5) F dX2_homes_5 0 rfl ?_
    refine fm_get (v := .ref (ad 0)) (pc := 6) F (ci := 2) (T := TX2) (n := 7) rfl in_X2 6 (fm_lt rfl) dX2_homes_6 q161 a0 (ha0.lt hN 0 (fm_lt rfl)) (ha0.mk0 (ad := ad) (dA := dA) (bk := bk) _ M.2) rfl ?_
    refine fm_getN (v := .ref (ad bk)) (pc := 9) F (ci := 0) (T := TX0) (n := 19) rfl in_X0 0 (fm_lt rfl) dX2_homes_9 q265 0 (fm_ltN hN rfl) rfl rfl ?_
    refine fm_getN (v := .int (M.1 bk 8)) (pc := 12) F (ci := 1) (T := TX1) (n := 11) rfl in_X1 8 (fm_lt rfl) dX2_homes_12 q109 bk (hb.lt 0 (fm_lt rfl)) (hb.mk0 (ad := ad) (dA := dA) (bk := bk) _ M.2) rfl ?_
    refine fm_icmp_ge (tgt := 44) (pc := 15) F dX2_homes_15 (by decide) (fun c1 => ?_) (fun c1 => ?_)
    · replace hf := fm_ip c1 hf
      refine fm_iload_n (pc := 44) F dX2_homes_44 1 rfl ?_
      exact fm_iret (pc := 45) F E hf dX2_homes_45
    · replace hf := fm_in c1 hf
      refine fm_iload_n (pc := 18) F dX2_homes_18 1 rfl ?_
      refine fm_aload_n (pc := 19) F dX2_homes_19 0 rfl ?_
      refine fm_get (v := .ref (ad (a0 + 1))) (pc := 20) F (ci := 2) (T := TX2) (n := 7) rfl in_X2 2 (fm_lt rfl) dX2_homes_20 q152 a0 (ha0.lt hN 0 (fm_lt rfl)) (ha0.mk0 (ad := ad) (dA := dA) (bk := bk) _ M.2) rfl ?_
      refine fm_iload_n (pc := 23) F dX2_homes_23 2 rfl ?_
      obtain ⟨b2, hf⟩ := fm_b_inv hf
      refine fm_iald (pc := 24) F dX2_homes_24 (a0 + 1) (ha0.lt hN 1 (fm_lt rfl)) (ha0.mk1 (ad := ad) (dA := dA) (bk := bk) _ M.2) b2 ?_
      refine fm_iload_n (pc := 25) F dX2_homes_25 2 rfl ?_
      refine fm_icmp_ne (tgt := 35) (pc := 26) F dX2_homes_26 (by decide) (fun c3 => ?_) (fun c3 => ?_)
      · replace hf := fm_in c3 hf
        refine fm_iconst (v := 0) (pc := 35) F dX2_homes_35 (by decide) ?_
        refine fm_ior (pc := 36) F dX2_homes_36 ?_
        refine fm_istore_n (lv' := [(1, .int (l1 ||| 0)), (0, .ref (ad a0)), (2, .int l2)]) (pc := 37) F dX2_homes_37 rfl (fm_lt rfl) rfl ?_
        refine fm_iinc (v := (l2 + 1)) (lv' := [(2, .int (l2 + 1)), (1, .int (l1 ||| 0)), (0, .ref (ad a0))]) (pc := 38) F dX2_homes_38 2 rfl rfl (fm_lt rfl) rfl ?_
        refine fm_goto (tgt := 4) (pc := 41) F dX2_homes_41 (by decide) ?_
        refine fm_pick [2, 1, 0] rfl ?_
        exact ih _ _ _ hf
      · replace hf := fm_ip c3 hf
        refine fm_iconst (v := 1) (pc := 29) F dX2_homes_29 (by decide) ?_
        refine fm_iload_n (pc := 30) F dX2_homes_30 2 rfl ?_
        refine fm_ishl (pc := 31) F dX2_homes_31 ?_
        refine fm_goto (tgt := 36) (pc := 32) F dX2_homes_32 (by decide) ?_
        refine fm_ior (pc := 36) F dX2_homes_36 ?_
        refine fm_topi (fun x4 ex4 => ?_)
        replace hf := fm_let_inv ex4 hf
        refine fm_istore_n (lv' := [(1, .int x4), (0, .ref (ad a0)), (2, .int l2)]) (pc := 37) F dX2_homes_37 rfl (fm_lt rfl) rfl ?_
        refine fm_iinc (v := (l2 + 1)) (lv' := [(2, .int (l2 + 1)), (1, .int x4), (0, .ref (ad a0))]) (pc := 38) F dX2_homes_38 2 rfl rfl (fm_lt rfl) rfl ?_
        refine fm_goto (tgt := 4) (pc := 41) F dX2_homes_41 (by decide) ?_
        refine fm_pick [2, 1, 0] rfl ?_
        exact ih _ _ _ hf
set_option maxHeartbeats 4000000 in
theorem mX2_homes {l : Launch} {D : va_G} {dA : Nat → ClassId} {ad : Nat → Nat} {N bk : Nat} {n : Nat} {a0 : Nat} (ha0 : fm_isPl a0) (hN : 193 ≤ N) (hb : fm_isBk N bk) (inj : ∀ i j, i < N → j < N → ad i = ad j → i = j) {M M' : fm_M} {r : Int32} (hf : fX2_homes n bk a0 M = some (r, M')) : fm_C l yX2_homes (ws_ yX2_homes cX2_homes 3 (some .int)) rmX2_homes (YC D dA N ad bk) [.ref (ad a0)] M (some (.int r)) M' := by
  refine fm_enter (by decide) rfl (fm_le rfl) inj ?_
  intro X hXl F E
  subst hXl
  unfold fX2_homes at hf
  show fm_G X (YC D dA N ad bk) (0, 0) 3 M 0 [(0, .ref (ad a0))] []
  refine fm_iconst (v := 0) (pc := 0) F dX2_homes_0 (by decide) ?_
  refine fm_istore_n (lv' := [(1, .int 0), (0, .ref (ad a0))]) (pc := 1) F dX2_homes_1 rfl (fm_lt rfl) rfl ?_
  refine fm_iconst (v := 0) (pc := 2) F dX2_homes_2 (by decide) ?_
  refine fm_istore_n (lv' := [(2, .int 0), (1, .int 0), (0, .ref (ad a0))]) (pc := 3) F dX2_homes_3 rfl (fm_lt rfl) rfl ?_
  refine fm_pick [2, 1, 0] rfl ?_
  exact wX2_homes_4 ha0 hN hb F E n _ _ _ hf
abbrev rmX2_dumb : Room := { frames := 2, cells := 0, slots := 0, locals := 80 }
def fX2_dumb_20 (n bk : Nat) (a0 : Nat) (k4 : fm_M → Int32 → Int32 → Option (Int32 × fm_M)) : Nat → fm_M → Int32 → Int32 → Int32 → Option (Int32 × fm_M)
  | 0, _, _, _, _ => none
  | k + 1, M, l1, l2, l3 =>
    if (M.1 bk 8) ≤ l3 then
      k4 M l1 (l2 + 1)
    else
      fm_b l2 6 <|
      fm_b l3 6 <|
      if (M.1 (bk + 5 + l2.toNatClampNeg) l3.toNatClampNeg) ≤ 0 then
        fX2_dumb_20 n bk a0 k4 k M (l1 ||| 0) l2 (l3 + 1)
      else
        fm_b l2 6 <|
        fm_b (M.1 (a0 + 1) l2.toNatClampNeg) 6 <|
        fm_b l3 6 <|
        fm_b (M.1 (a0 + 1) l3.toNatClampNeg) 6 <|
        if (M.1 (bk + 3) (M.1 (a0 + 1) l2.toNatClampNeg).toNatClampNeg) = (M.1 (bk + 3) (M.1 (a0 + 1) l3.toNatClampNeg).toNatClampNeg) then
          fm_let (l1 ||| (1 <<< (l2 &&& 31))) fun x10 =>
          fX2_dumb_20 n bk a0 k4 k M x10 l2 (l3 + 1)
        else
          fX2_dumb_20 n bk a0 k4 k M (l1 ||| 0) l2 (l3 + 1)
def fX2_dumb_4 (n bk : Nat) (a0 : Nat) : Nat → fm_M → Int32 → Int32 → Option (Int32 × fm_M)
  | 0, _, _, _ => none
  | k + 1, M, l1, l2 =>
    if (M.1 bk 8) ≤ l2 then
      some (l1, M)
    else
      fX2_dumb_20 n bk a0 (fX2_dumb_4 n bk a0 k) n M l1 l2 0
def fX2_dumb (n bk : Nat) (a0 : Nat) (M : fm_M) : Option (Int32 × fm_M) :=
  fX2_dumb_4 n bk a0 n M 0 0
theorem hdX2_dumb : yX2_dumb.cls = RX2 ∧ yX2_dumb.cls ≠ "java/lang/invoke/MethodHandle" ∧ yX2_dumb.cls ≠ "java/lang/invoke/VarHandle" ∧ (parseMethodDescriptor yX2_dumb.desc).map (fun d => d.parameters.length) = some 0 := by decide +kernel
set_option maxHeartbeats 4000000 in
theorem wX2_dumb_20 {X : fm_X} {D : va_G} {dA : Nat → ClassId} {ad : Nat → Nat} {N bk : Nat} {n : Nat} {a0 : Nat} (ha0 : fm_isPl a0) (hN : 193 ≤ N) (hb : fm_isBk N bk) {r : Int32} (F : fm_F X (YC D dA N ad bk) cX2_dumb 4 RX2 rmX2_dumb) {M' : fm_M} (E : fm_E X (YC D dA N ad bk) (some (.int r)) M' (some .int)) {k4 : fm_M → Int32 → Int32 → Option (Int32 × fm_M)} (hk4 : ∀ (M : fm_M) (l1 : Int32) (l2 : Int32), k4 M l1 l2 = some (r, M') → fm_G X (YC D dA N ad bk) (0, 0) 4 M 4 [(0, .ref (ad a0)), (1, .int l1), (2, .int l2)] []) : ∀ (k : Nat) (M : fm_M) (l1 : Int32) (l2 : Int32) (l3 : Int32), fX2_dumb_20 n bk a0 k4 k M l1 l2 l3 = some (r, M') → fm_G X (YC D dA N ad bk) (0, 0) 4 M 20 [(0, .ref (ad a0)), (1, .int l1), (2, .int l2), (3, .int l3)] [] := by
  intro k
  induction k with
  | zero =>
    intro M l1 l2 l3 hf
    rw [fX2_dumb_20] at hf
    cases hf
  | succ k ih =>
    intro M l1 l2 l3 hf
    rw [fX2_dumb_20] at hf
    refine fm_iload_n (pc := 20) F dX2_dumb_20 3 rfl ?_
    refine fm_aload_n (pc := 21) F dX2_dumb_21 0 rfl ?_
    refine fm_get (v := .ref (ad 0)) (pc := 22) F (ci := 2) (T := TX2) (n := 7) rfl in_X2 6 (fm_lt rfl) dX2_dumb_22 q161 a0 (ha0.lt hN 0 (fm_lt rfl)) (ha0.mk0 (ad := ad) (dA := dA) (bk := bk) _ M.2) rfl ?_
    refine fm_getN (v := .ref (ad bk)) (pc := 25) F (ci := 0) (T := TX0) (n := 19) rfl in_X0 0 (fm_lt rfl) dX2_dumb_25 q265 0 (fm_ltN hN rfl) rfl rfl ?_
    refine fm_getN (v := .int (M.1 bk 8)) (pc := 28) F (ci := 1) (T := TX1) (n := 11) rfl in_X1 8 (fm_lt rfl) dX2_dumb_28 q109 bk (hb.lt 0 (fm_lt rfl)) (hb.mk0 (ad := ad) (dA := dA) (bk := bk) _ M.2) rfl ?_
    refine fm_icmp_ge (tgt := 104) (pc := 31) F dX2_dumb_31 (by decide) (fun c1 => ?_) (fun c1 => ?_)
    · replace hf := fm_ip c1 hf
      refine fm_iinc (v := (l2 + 1)) (lv' := [(2, .int (l2 + 1)), (0, .ref (ad a0)), (1, .int l1), (3, .int l3)]) (pc := 104) F dX2_dumb_104 2 rfl rfl (fm_lt rfl) rfl ?_
      refine fm_goto (tgt := 4) (pc := 107) F dX2_dumb_107 (by decide) ?_
      refine fm_pick [1, 2, 0] rfl ?_
      exact hk4 _ _ _ hf
    · replace hf := fm_in c1 hf
      refine fm_iload_n (pc := 34) F dX2_dumb_34 1 rfl ?_
      refine fm_aload_n (pc := 35) F dX2_dumb_35 0 rfl ?_
      refine fm_get (v := .ref (ad 0)) (pc := 36) F (ci := 2) (T := TX2) (n := 7) rfl in_X2 6 (fm_lt rfl) dX2_dumb_36 q161 a0 (ha0.lt hN 0 (fm_lt rfl)) (ha0.mk0 (ad := ad) (dA := dA) (bk := bk) _ M.2) rfl ?_
      refine fm_getN (v := .ref (ad bk)) (pc := 39) F (ci := 0) (T := TX0) (n := 19) rfl in_X0 0 (fm_lt rfl) dX2_dumb_39 q265 0 (fm_ltN hN rfl) rfl rfl ?_
      refine fm_getN (v := .ref (ad (bk + 4))) (pc := 42) F (ci := 1) (T := TX1) (n := 11) rfl in_X1 3 (fm_lt rfl) dX2_dumb_42 q93 bk (hb.lt 0 (fm_lt rfl)) (hb.mk0 (ad := ad) (dA := dA) (bk := bk) _ M.2) rfl ?_
      refine fm_iload_n (pc := 45) F dX2_dumb_45 2 rfl ?_
      obtain ⟨b2, hf⟩ := fm_b_inv hf
      refine fm_aald (pc := 46) F dX2_dumb_46 (bk + 4) (hb.lt 4 (fm_lt rfl)) 5 (fun j => bk + 5 + j) (hb.mk4 (ad := ad) (dA := dA) (bk := bk) (M.1 (bk + 4)) M.2) rfl rfl b2 ?_
      refine fm_iload_n (pc := 47) F dX2_dumb_47 3 rfl ?_
      obtain ⟨b3, hf⟩ := fm_b_inv hf
      refine fm_iald (pc := 48) F dX2_dumb_48 (bk + 5 + l2.toNatClampNeg) (hb.ltr 5 (fm_le rfl) (fm_vlt b2)) (hb.mkr5 (ad := ad) (dA := dA) (bk := bk) (fm_vlt b2) _ M.2) b3 ?_
      refine fm_if_le (tgt := 95) (pc := 49) F dX2_dumb_49 (by decide) (fun c4 => ?_) (fun c4 => ?_)
      · replace hf := fm_ip c4 hf
        refine fm_iconst (v := 0) (pc := 95) F dX2_dumb_95 (by decide) ?_
        refine fm_ior (pc := 96) F dX2_dumb_96 ?_
        refine fm_istore_n (lv' := [(1, .int (l1 ||| 0)), (0, .ref (ad a0)), (2, .int l2), (3, .int l3)]) (pc := 97) F dX2_dumb_97 rfl (fm_lt rfl) rfl ?_
        refine fm_iinc (v := (l3 + 1)) (lv' := [(3, .int (l3 + 1)), (1, .int (l1 ||| 0)), (0, .ref (ad a0)), (2, .int l2)]) (pc := 98) F dX2_dumb_98 3 rfl rfl (fm_lt rfl) rfl ?_
        refine fm_goto (tgt := 20) (pc := 101) F dX2_dumb_101 (by decide) ?_
        refine fm_pick [2, 1, 3, 0] rfl ?_
        exact ih _ _ _ _ hf
      · replace hf := fm_in c4 hf
        refine fm_aload_n (pc := 52) F dX2_dumb_52 0 rfl ?_
        refine fm_get (v := .ref (ad 0)) (pc := 53) F (ci := 2) (T := TX2) (n := 7) rfl in_X2 6 (fm_lt rfl) dX2_dumb_53 q161 a0 (ha0.lt hN 0 (fm_lt rfl)) (ha0.mk0 (ad := ad) (dA := dA) (bk := bk) _ M.2) rfl ?_
        refine fm_getN (v := .ref (ad bk)) (pc := 56) F (ci := 0) (T := TX0) (n := 19) rfl in_X0 0 (fm_lt rfl) dX2_dumb_56 q265 0 (fm_ltN hN rfl) rfl rfl ?_
        refine fm_getN (v := .ref (ad (bk + 3))) (pc := 59) F (ci := 1) (T := TX1) (n := 11) rfl in_X1 2 (fm_lt rfl) dX2_dumb_59 q89 bk (hb.lt 0 (fm_lt rfl)) (hb.mk0 (ad := ad) (dA := dA) (bk := bk) _ M.2) rfl ?_
        refine fm_aload_n (pc := 62) F dX2_dumb_62 0 rfl ?_
        refine fm_get (v := .ref (ad (a0 + 1))) (pc := 63) F (ci := 2) (T := TX2) (n := 7) rfl in_X2 2 (fm_lt rfl) dX2_dumb_63 q152 a0 (ha0.lt hN 0 (fm_lt rfl)) (ha0.mk0 (ad := ad) (dA := dA) (bk := bk) _ M.2) rfl ?_
        refine fm_iload_n (pc := 66) F dX2_dumb_66 2 rfl ?_
        obtain ⟨b5, hf⟩ := fm_b_inv hf
        refine fm_iald (pc := 67) F dX2_dumb_67 (a0 + 1) (ha0.lt hN 1 (fm_lt rfl)) (ha0.mk1 (ad := ad) (dA := dA) (bk := bk) _ M.2) b5 ?_
        obtain ⟨b6, hf⟩ := fm_b_inv hf
        refine fm_iald (pc := 68) F dX2_dumb_68 (bk + 3) (hb.lt 3 (fm_lt rfl)) (hb.mk3 (ad := ad) (dA := dA) (bk := bk) _ M.2) b6 ?_
        refine fm_aload_n (pc := 69) F dX2_dumb_69 0 rfl ?_
        refine fm_get (v := .ref (ad 0)) (pc := 70) F (ci := 2) (T := TX2) (n := 7) rfl in_X2 6 (fm_lt rfl) dX2_dumb_70 q161 a0 (ha0.lt hN 0 (fm_lt rfl)) (ha0.mk0 (ad := ad) (dA := dA) (bk := bk) _ M.2) rfl ?_
        refine fm_getN (v := .ref (ad bk)) (pc := 73) F (ci := 0) (T := TX0) (n := 19) rfl in_X0 0 (fm_lt rfl) dX2_dumb_73 q265 0 (fm_ltN hN rfl) rfl rfl ?_
        refine fm_getN (v := .ref (ad (bk + 3))) (pc := 76) F (ci := 1) (T := TX1) (n := 11) rfl in_X1 2 (fm_lt rfl) dX2_dumb_76 q89 bk (hb.lt 0 (fm_lt rfl)) (hb.mk0 (ad := ad) (dA := dA) (bk := bk) _ M.2) rfl ?_
        refine fm_aload_n (pc := 79) F dX2_dumb_79 0 rfl ?_
        refine fm_get (v := .ref (ad (a0 + 1))) (pc := 80) F (ci := 2) (T := TX2) (n := 7) rfl in_X2 2 (fm_lt rfl) dX2_dumb_80 q152 a0 (ha0.lt hN 0 (fm_lt rfl)) (ha0.mk0 (ad := ad) (dA := dA) (bk := bk) _ M.2) rfl ?_
        refine fm_iload_n (pc := 83) F dX2_dumb_83 3 rfl ?_
        obtain ⟨b7, hf⟩ := fm_b_inv hf
        refine fm_iald (pc := 84) F dX2_dumb_84 (a0 + 1) (ha0.lt hN 1 (fm_lt rfl)) (ha0.mk1 (ad := ad) (dA := dA) (bk := bk) _ M.2) b7 ?_
        obtain ⟨b8, hf⟩ := fm_b_inv hf
        refine fm_iald (pc := 85) F dX2_dumb_85 (bk + 3) (hb.lt 3 (fm_lt rfl)) (hb.mk3 (ad := ad) (dA := dA) (bk := bk) _ M.2) b8 ?_
        refine fm_icmp_ne (tgt := 95) (pc := 86) F dX2_dumb_86 (by decide) (fun c9 => ?_) (fun c9 => ?_)
        · replace hf := fm_in c9 hf
          refine fm_iconst (v := 0) (pc := 95) F dX2_dumb_95 (by decide) ?_
          refine fm_ior (pc := 96) F dX2_dumb_96 ?_
          refine fm_istore_n (lv' := [(1, .int (l1 ||| 0)), (0, .ref (ad a0)), (2, .int l2), (3, .int l3)]) (pc := 97) F dX2_dumb_97 rfl (fm_lt rfl) rfl ?_
          refine fm_iinc (v := (l3 + 1)) (lv' := [(3, .int (l3 + 1)), (1, .int (l1 ||| 0)), (0, .ref (ad a0)), (2, .int l2)]) (pc := 98) F dX2_dumb_98 3 rfl rfl (fm_lt rfl) rfl ?_
          refine fm_goto (tgt := 20) (pc := 101) F dX2_dumb_101 (by decide) ?_
          refine fm_pick [2, 1, 3, 0] rfl ?_
          exact ih _ _ _ _ hf
        · replace hf := fm_ip c9 hf
          refine fm_iconst (v := 1) (pc := 89) F dX2_dumb_89 (by decide) ?_
          refine fm_iload_n (pc := 90) F dX2_dumb_90 2 rfl ?_
          refine fm_ishl (pc := 91) F dX2_dumb_91 ?_
          refine fm_goto (tgt := 96) (pc := 92) F dX2_dumb_92 (by decide) ?_
          refine fm_ior (pc := 96) F dX2_dumb_96 ?_
          refine fm_topi (fun x10 ex10 => ?_)
          replace hf := fm_let_inv ex10 hf
          refine fm_istore_n (lv' := [(1, .int x10), (0, .ref (ad a0)), (2, .int l2), (3, .int l3)]) (pc := 97) F dX2_dumb_97 rfl (fm_lt rfl) rfl ?_
          refine fm_iinc (v := (l3 + 1)) (lv' := [(3, .int (l3 + 1)), (1, .int x10), (0, .ref (ad a0)), (2, .int l2)]) (pc := 98) F dX2_dumb_98 3 rfl rfl (fm_lt rfl) rfl ?_
          refine fm_goto (tgt := 20) (pc := 101) F dX2_dumb_101 (by decide) ?_
          refine fm_pick [2, 1, 3, 0] rfl ?_
          exact ih _ _ _ _ hf
set_option maxHeartbeats 4000000 in
theorem wX2_dumb_4 {X : fm_X} {D : va_G} {dA : Nat → ClassId} {ad : Nat → Nat} {N bk : Nat} {n : Nat} {a0 : Nat} (ha0 : fm_isPl a0) (hN : 193 ≤ N) (hb : fm_isBk N bk) {r : Int32} (F : fm_F X (YC D dA N ad bk) cX2_dumb 4 RX2 rmX2_dumb) {M' : fm_M} (E : fm_E X (YC D dA N ad bk) (some (.int r)) M' (some .int)) : ∀ (k : Nat) (M : fm_M) (l1 : Int32) (l2 : Int32), fX2_dumb_4 n bk a0 k M l1 l2 = some (r, M') → fm_G X (YC D dA N ad bk) (0, 0) 4 M 4 [(0, .ref (ad a0)), (1, .int l1), (2, .int l2)] [] := by
  intro k
  induction k with
  | zero =>
    intro M l1 l2 hf
    rw [fX2_dumb_4] at hf
    cases hf
  | succ k ih =>
    intro M l1 l2 hf
    rw [fX2_dumb_4] at hf
    refine fm_iload_n (pc := 4) F dX2_dumb_4 2 rfl ?_
    refine fm_aload_n (pc := 5) F dX2_dumb_5 0 rfl ?_
    refine fm_get (v := .ref (ad 0)) (pc := 6) F (ci := 2) (T := TX2) (n := 7) rfl in_X2 6 (fm_lt rfl) dX2_dumb_6 q161 a0 (ha0.lt hN 0 (fm_lt rfl)) (ha0.mk0 (ad := ad) (dA := dA) (bk := bk) _ M.2) rfl ?_
    refine fm_getN (v := .ref (ad bk)) (pc := 9) F (ci := 0) (T := TX0) (n := 19) rfl in_X0 0 (fm_lt rfl) dX2_dumb_9 q265 0 (fm_ltN hN rfl) rfl rfl ?_
    refine fm_getN (v := .int (M.1 bk 8)) (pc := 12) F (ci := 1) (T := TX1) (n := 11) rfl in_X1 8 (fm_lt rfl) dX2_dumb_12 q109 bk (hb.lt 0 (fm_lt rfl)) (hb.mk0 (ad := ad) (dA := dA) (bk := bk) _ M.2) rfl ?_
    refine fm_icmp_ge (tgt := 110) (pc := 15) F dX2_dumb_15 (by decide) (fun c1 => ?_) (fun c1 => ?_)
    · replace hf := fm_ip c1 hf
      refine fm_iload_n (pc := 110) F dX2_dumb_110 1 rfl ?_
      exact fm_iret (pc := 111) F E hf dX2_dumb_111
    · replace hf := fm_in c1 hf
      refine fm_iconst (v := 0) (pc := 18) F dX2_dumb_18 (by decide) ?_
      refine fm_istore_n (lv' := [(3, .int 0), (0, .ref (ad a0)), (1, .int l1), (2, .int l2)]) (pc := 19) F dX2_dumb_19 rfl (fm_lt rfl) rfl ?_
      refine fm_pick [1, 2, 3, 0] rfl ?_
      exact wX2_dumb_20 ha0 hN hb F E ih n _ _ _ _ hf
set_option maxHeartbeats 4000000 in
theorem mX2_dumb {l : Launch} {D : va_G} {dA : Nat → ClassId} {ad : Nat → Nat} {N bk : Nat} {n : Nat} {a0 : Nat} (ha0 : fm_isPl a0) (hN : 193 ≤ N) (hb : fm_isBk N bk) (inj : ∀ i j, i < N → j < N → ad i = ad j → i = j) {M M' : fm_M} {r : Int32} (hf : fX2_dumb n bk a0 M = some (r, M')) : fm_C l yX2_dumb (ws_ yX2_dumb cX2_dumb 4 (some .int)) rmX2_dumb (YC D dA N ad bk) [.ref (ad a0)] M (some (.int r)) M' := by
  refine fm_enter (by decide) rfl (fm_le rfl) inj ?_
  intro X hXl F E
  subst hXl
  unfold fX2_dumb at hf
  show fm_G X (YC D dA N ad bk) (0, 0) 4 M 0 [(0, .ref (ad a0))] []
  refine fm_iconst (v := 0) (pc := 0) F dX2_dumb_0 (by decide) ?_
  refine fm_istore_n (lv' := [(1, .int 0), (0, .ref (ad a0))]) (pc := 1) F dX2_dumb_1 rfl (fm_lt rfl) rfl ?_
  refine fm_iconst (v := 0) (pc := 2) F dX2_dumb_2 (by decide) ?_
  refine fm_istore_n (lv' := [(2, .int 0), (1, .int 0), (0, .ref (ad a0))]) (pc := 3) F dX2_dumb_3 rfl (fm_lt rfl) rfl ?_
  refine fm_pick [2, 1, 0] rfl ?_
  exact wX2_dumb_4 ha0 hN hb F E n _ _ _ hf
abbrev rmX2_begin : Room := { frames := 3, cells := 0, slots := 0, locals := 103 }
def fX2_begin_12 (n bk : Nat) (a0 : Nat) : Nat → fm_M → Int32 → Option (fm_M)
  | 0, _, _ => none
  | k + 1, M, l1 =>
    if 6 ≤ l1 then
      fm_bv (fJ1_fill n bk (a0 + 3) M 0) fun M3 =>
      some M3
    else
      fm_b l1 6 <|
      fm_let (fm_wr M (a0 + 1) l1.toNatClampNeg l1) fun M7 =>
      fm_b l1 6 <|
      fm_b l1 6 <|
      fm_let (if (M7.1 (bk + 1) l1.toNatClampNeg) < (M7.1 (bk + 2) l1.toNatClampNeg) then (M7.1 (bk + 2) l1.toNatClampNeg) else (M7.1 (bk + 1) l1.toNatClampNeg)) fun x10 =>
      fm_b l1 6 <|
      fm_let (fm_wr M7 (a0 + 2) l1.toNatClampNeg x10) fun M12 =>
      fm_b l1 6 <|
      fm_bv (fJ1_fill n bk (a0 + 5 + l1.toNatClampNeg) M12 0) fun M15 =>
      fX2_begin_12 n bk a0 k M15 (l1 + 1)
def fX2_begin (n bk : Nat) (a0 : Nat) (M : fm_M) : Option (fm_M) :=
  fm_let (fm_wr M a0 0 0) fun M1 =>
  fm_let (fm_wr M1 a0 1 0) fun M2 =>
  fX2_begin_12 n bk a0 n M2 0
theorem hdX2_begin : yX2_begin.cls = RX2 ∧ yX2_begin.cls ≠ "java/lang/invoke/MethodHandle" ∧ yX2_begin.cls ≠ "java/lang/invoke/VarHandle" ∧ (parseMethodDescriptor yX2_begin.desc).map (fun d => d.parameters.length) = some 0 := by decide +kernel
set_option maxHeartbeats 4000000 in
theorem wX2_begin_12 {X : fm_X} {D : va_G} {dA : Nat → ClassId} {ad : Nat → Nat} {N bk : Nat} {n : Nat} {a0 : Nat} (ha0 : fm_isPl a0) (hN : 193 ≤ N) (hb : fm_isBk N bk) (F : fm_F X (YC D dA N ad bk) cX2_begin 2 RX2 rmX2_begin) {M' : fm_M} (E : fm_E X (YC D dA N ad bk) none M' none) : ∀ (k : Nat) (M : fm_M) (l1 : Int32), fX2_begin_12 n bk a0 k M l1 = some M' → fm_G X (YC D dA N ad bk) (0, 0) 2 M 12 [(0, .ref (ad a0)), (1, .int l1)] [] := by
  intro k
  induction k with
  | zero =>
    intro M l1 hf
    rw [fX2_begin_12] at hf
    cases hf
  | succ k ih =>
    intro M l1 hf
    rw [fX2_begin_12] at hf
    refine fm_iload_n (pc := 12) F dX2_begin_12 1 rfl ?_
    refine fm_bipush (v := 6) (pc := 13) F dX2_begin_13 (by decide) ?_
    refine fm_icmp_ge (tgt := 74) (pc := 15) F dX2_begin_15 (by decide) (fun c1 => ?_) (fun c1 => ?_)
    · replace hf := fm_ip c1 hf
      refine fm_aload_n (pc := 74) F dX2_begin_74 0 rfl ?_
      refine fm_get (v := .ref (ad (a0 + 3))) (pc := 75) F (ci := 2) (T := TX2) (n := 7) rfl in_X2 4 (fm_lt rfl) dX2_begin_75 q157 a0 (ha0.lt hN 0 (fm_lt rfl)) (ha0.mk0 (ad := ad) (dA := dA) (bk := bk) _ M.2) rfl ?_
      refine fm_iconst (v := 0) (pc := 78) F dX2_begin_78 (by decide) ?_
      obtain ⟨M3, h4, hf⟩ := fm_bv_inv hf
      refine fm_callS (As := [.ref (ad (a0 + 3)), .int 0]) (rest := []) (pc := 79) F (mJ1_fill (ha0.i6 hN 3 (fm_lt rfl) rfl) hN hb F.inj h4) q259 q260 q49 q261 ⟨rfl, rfl⟩ hdJ1_fill.2 ⟨fm_le rfl, fm_le rfl, Nat.zero_le _, Nat.zero_le _⟩ rfl rfl (fm_le rfl) dX2_begin_79 ?_
      exact fm_vret (pc := 82) F E hf dX2_begin_82
    · replace hf := fm_in c1 hf
      refine fm_aload_n (pc := 18) F dX2_begin_18 0 rfl ?_
      refine fm_get (v := .ref (ad (a0 + 1))) (pc := 19) F (ci := 2) (T := TX2) (n := 7) rfl in_X2 2 (fm_lt rfl) dX2_begin_19 q152 a0 (ha0.lt hN 0 (fm_lt rfl)) (ha0.mk0 (ad := ad) (dA := dA) (bk := bk) _ M.2) rfl ?_
      refine fm_iload_n (pc := 22) F dX2_begin_22 1 rfl ?_
      refine fm_iload_n (pc := 23) F dX2_begin_23 1 rfl ?_
      obtain ⟨b6, hf⟩ := fm_b_inv hf
      refine fm_iast (pc := 24) F dX2_begin_24 (a0 + 1) (ha0.lt hN 1 (fm_lt rfl)) (fun _ => ha0.mk1 (ad := ad) (dA := dA) (bk := bk) _ M.2) b6 ?_
      refine fm_nameM (fun M7 eM7 => ?_)
      replace hf := fm_let_inv eM7 hf
      refine fm_aload_n (pc := 25) F dX2_begin_25 0 rfl ?_
      refine fm_get (v := .ref (ad (a0 + 2))) (pc := 26) F (ci := 2) (T := TX2) (n := 7) rfl in_X2 3 (fm_lt rfl) dX2_begin_26 q154 a0 (ha0.lt hN 0 (fm_lt rfl)) (ha0.mk0 (ad := ad) (dA := dA) (bk := bk) _ M7.2) rfl ?_
      refine fm_iload_n (pc := 29) F dX2_begin_29 1 rfl ?_
      refine fm_aload_n (pc := 30) F dX2_begin_30 0 rfl ?_
      refine fm_get (v := .ref (ad 0)) (pc := 31) F (ci := 2) (T := TX2) (n := 7) rfl in_X2 6 (fm_lt rfl) dX2_begin_31 q161 a0 (ha0.lt hN 0 (fm_lt rfl)) (ha0.mk0 (ad := ad) (dA := dA) (bk := bk) _ M7.2) rfl ?_
      refine fm_getN (v := .ref (ad bk)) (pc := 34) F (ci := 0) (T := TX0) (n := 19) rfl in_X0 0 (fm_lt rfl) dX2_begin_34 q265 0 (fm_ltN hN rfl) rfl rfl ?_
      refine fm_getN (v := .ref (ad (bk + 1))) (pc := 37) F (ci := 1) (T := TX1) (n := 11) rfl in_X1 0 (fm_lt rfl) dX2_begin_37 q79 bk (hb.lt 0 (fm_lt rfl)) (hb.mk0 (ad := ad) (dA := dA) (bk := bk) _ M7.2) rfl ?_
      refine fm_iload_n (pc := 40) F dX2_begin_40 1 rfl ?_
      obtain ⟨b8, hf⟩ := fm_b_inv hf
      refine fm_iald (pc := 41) F dX2_begin_41 (bk + 1) (hb.lt 1 (fm_lt rfl)) (hb.mk1 (ad := ad) (dA := dA) (bk := bk) _ M7.2) b8 ?_
      refine fm_aload_n (pc := 42) F dX2_begin_42 0 rfl ?_
      refine fm_get (v := .ref (ad 0)) (pc := 43) F (ci := 2) (T := TX2) (n := 7) rfl in_X2 6 (fm_lt rfl) dX2_begin_43 q161 a0 (ha0.lt hN 0 (fm_lt rfl)) (ha0.mk0 (ad := ad) (dA := dA) (bk := bk) _ M7.2) rfl ?_
      refine fm_getN (v := .ref (ad bk)) (pc := 46) F (ci := 0) (T := TX0) (n := 19) rfl in_X0 0 (fm_lt rfl) dX2_begin_46 q265 0 (fm_ltN hN rfl) rfl rfl ?_
      refine fm_getN (v := .ref (ad (bk + 2))) (pc := 49) F (ci := 1) (T := TX1) (n := 11) rfl in_X1 1 (fm_lt rfl) dX2_begin_49 q83 bk (hb.lt 0 (fm_lt rfl)) (hb.mk0 (ad := ad) (dA := dA) (bk := bk) _ M7.2) rfl ?_
      refine fm_iload_n (pc := 52) F dX2_begin_52 1 rfl ?_
      obtain ⟨b9, hf⟩ := fm_b_inv hf
      refine fm_iald (pc := 53) F dX2_begin_53 (bk + 2) (hb.lt 2 (fm_lt rfl)) (hb.mk2 (ad := ad) (dA := dA) (bk := bk) _ M7.2) b9 ?_
      refine fm_mmax (pc := 54) F q256 q257 q48 q258 ⟨fm_le rfl, fm_le rfl, Nat.zero_le _, Nat.zero_le _⟩ dX2_begin_54 ?_
      refine fm_topi (fun x10 ex10 => ?_)
      replace hf := fm_let_inv ex10 hf
      obtain ⟨b11, hf⟩ := fm_b_inv hf
      refine fm_iast (pc := 57) F dX2_begin_57 (a0 + 2) (ha0.lt hN 2 (fm_lt rfl)) (fun _ => ha0.mk2 (ad := ad) (dA := dA) (bk := bk) _ M7.2) b11 ?_
      refine fm_nameM (fun M12 eM12 => ?_)
      replace hf := fm_let_inv eM12 hf
      refine fm_aload_n (pc := 58) F dX2_begin_58 0 rfl ?_
      refine fm_get (v := .ref (ad (a0 + 4))) (pc := 59) F (ci := 2) (T := TX2) (n := 7) rfl in_X2 5 (fm_lt rfl) dX2_begin_59 q159 a0 (ha0.lt hN 0 (fm_lt rfl)) (ha0.mk0 (ad := ad) (dA := dA) (bk := bk) _ M12.2) rfl ?_
      refine fm_iload_n (pc := 62) F dX2_begin_62 1 rfl ?_
      obtain ⟨b13, hf⟩ := fm_b_inv hf
      refine fm_aald (pc := 63) F dX2_begin_63 (a0 + 4) (ha0.lt hN 4 (fm_lt rfl)) 5 (fun j => a0 + 5 + j) (ha0.mk4 (ad := ad) (dA := dA) (bk := bk) (M12.1 (a0 + 4)) M12.2) rfl rfl b13 ?_
      refine fm_iconst (v := 0) (pc := 64) F dX2_begin_64 (by decide) ?_
      obtain ⟨M15, h16, hf⟩ := fm_bv_inv hf
      refine fm_callS (As := [.ref (ad (a0 + 5 + l1.toNatClampNeg)), .int 0]) (rest := []) (pc := 65) F (mJ1_fill (ha0.i6r hN (fm_vlt b13)) hN hb F.inj h16) q259 q260 q49 q261 ⟨rfl, rfl⟩ hdJ1_fill.2 ⟨fm_le rfl, fm_le rfl, Nat.zero_le _, Nat.zero_le _⟩ rfl rfl (fm_le rfl) dX2_begin_65 ?_
      refine fm_iinc (v := (l1 + 1)) (lv' := [(1, .int (l1 + 1)), (0, .ref (ad a0))]) (pc := 68) F dX2_begin_68 1 rfl rfl (fm_lt rfl) rfl ?_
      refine fm_goto (tgt := 12) (pc := 71) F dX2_begin_71 (by decide) ?_
      refine fm_pick [1, 0] rfl ?_
      exact ih _ _ hf
set_option maxHeartbeats 4000000 in
theorem mX2_begin {l : Launch} {D : va_G} {dA : Nat → ClassId} {ad : Nat → Nat} {N bk : Nat} {n : Nat} {a0 : Nat} (ha0 : fm_isPl a0) (hN : 193 ≤ N) (hb : fm_isBk N bk) (inj : ∀ i j, i < N → j < N → ad i = ad j → i = j) {M M' : fm_M} (hf : fX2_begin n bk a0 M = some M') : fm_C l yX2_begin (ws_ yX2_begin cX2_begin 2 none) rmX2_begin (YC D dA N ad bk) [.ref (ad a0)] M none M' := by
  refine fm_enter (by decide) rfl (fm_le rfl) inj ?_
  intro X hXl F E
  subst hXl
  unfold fX2_begin at hf
  show fm_G X (YC D dA N ad bk) (0, 0) 2 M 0 [(0, .ref (ad a0))] []
  refine fm_aload_n (pc := 0) F dX2_begin_0 0 rfl ?_
  refine fm_iconst (v := 0) (pc := 1) F dX2_begin_1 (by decide) ?_
  refine fm_putI (v := 0) (pc := 2) F clX2 0 (fm_lt rfl) dX2_begin_2 q147 rfl rfl a0 (ha0.lt hN 0 (fm_lt rfl)) (ha0.mk0 (ad := ad) (dA := dA) (bk := bk) _ M.2) (fm_lt rfl) (ha0.mk0 (ad := ad) (dA := dA) (bk := bk) _ M.2) ?_
  refine fm_nameM (fun M1 eM1 => ?_)
  replace hf := fm_let_inv eM1 hf
  refine fm_aload_n (pc := 5) F dX2_begin_5 0 rfl ?_
  refine fm_iconst (v := 0) (pc := 6) F dX2_begin_6 (by decide) ?_
  refine fm_putI (v := 0) (pc := 7) F clX2 1 (fm_lt rfl) dX2_begin_7 q150 rfl rfl a0 (ha0.lt hN 0 (fm_lt rfl)) (ha0.mk0 (ad := ad) (dA := dA) (bk := bk) _ M1.2) (fm_lt rfl) (ha0.mk0 (ad := ad) (dA := dA) (bk := bk) _ M1.2) ?_
  refine fm_nameM (fun M2 eM2 => ?_)
  replace hf := fm_let_inv eM2 hf
  refine fm_iconst (v := 0) (pc := 10) F dX2_begin_10 (by decide) ?_
  refine fm_istore_n (lv' := [(1, .int 0), (0, .ref (ad a0))]) (pc := 11) F dX2_begin_11 rfl (fm_lt rfl) rfl ?_
  refine fm_pick [1, 0] rfl ?_
  exact wX2_begin_12 ha0 hN hb F E n _ _ hf
abbrev rmX2_copyOf : Room := { frames := 2, cells := 0, slots := 0, locals := 80 }
def fX2_copyOf_63 (n bk : Nat) (a0 : Nat) (a1 : Nat) : Nat → fm_M → Int32 → Option (fm_M)
  | 0, _, _ => none
  | k + 1, M, l2 =>
    if 6 ≤ l2 then
      some M
    else
      fm_b l2 6 <|
      fm_b l2 6 <|
      fm_let (fm_row M (a0 + 5 + l2.toNatClampNeg) (va_cpy (M.1 (a1 + 5 + l2.toNatClampNeg)) (M.1 (a0 + 5 + l2.toNatClampNeg)) 0 0 6)) fun M4 =>
      fX2_copyOf_63 n bk a0 a1 k M4 (l2 + 1)
def fX2_copyOf (n bk : Nat) (a0 : Nat) (a1 : Nat) (M : fm_M) : Option (fm_M) :=
  fm_let (fm_wr M a0 0 (M.1 a1 0)) fun M1 =>
  fm_let (fm_wr M1 a0 1 (M1.1 a1 1)) fun M2 =>
  fm_let (fm_row M2 (a0 + 1) (va_cpy (M2.1 (a1 + 1)) (M2.1 (a0 + 1)) 0 0 6)) fun M3 =>
  fm_let (fm_row M3 (a0 + 2) (va_cpy (M3.1 (a1 + 2)) (M3.1 (a0 + 2)) 0 0 6)) fun M4 =>
  fm_let (fm_row M4 (a0 + 3) (va_cpy (M4.1 (a1 + 3)) (M4.1 (a0 + 3)) 0 0 6)) fun M5 =>
  fX2_copyOf_63 n bk a0 a1 n M5 0
theorem hdX2_copyOf : yX2_copyOf.cls = RX2 ∧ yX2_copyOf.cls ≠ "java/lang/invoke/MethodHandle" ∧ yX2_copyOf.cls ≠ "java/lang/invoke/VarHandle" ∧ (parseMethodDescriptor yX2_copyOf.desc).map (fun d => d.parameters.length) = some 1 := by decide +kernel
set_option maxHeartbeats 4000000 in
theorem wX2_copyOf_63 {X : fm_X} {D : va_G} {dA : Nat → ClassId} {ad : Nat → Nat} {N bk : Nat} {n : Nat} {a0 : Nat} (ha0 : fm_isPl a0) {a1 : Nat} (ha1 : fm_isPl a1) (hN : 193 ≤ N) (hb : fm_isBk N bk) (F : fm_F X (YC D dA N ad bk) cX2_copyOf 3 RX2 rmX2_copyOf) {M' : fm_M} (E : fm_E X (YC D dA N ad bk) none M' none) : ∀ (k : Nat) (M : fm_M) (l2 : Int32), fX2_copyOf_63 n bk a0 a1 k M l2 = some M' → fm_G X (YC D dA N ad bk) (0, 0) 3 M 63 [(0, .ref (ad a0)), (1, .ref (ad a1)), (2, .int l2)] [] := by
  intro k
  induction k with
  | zero =>
    intro M l2 hf
    rw [fX2_copyOf_63] at hf
    cases hf
  | succ k ih =>
    intro M l2 hf
    rw [fX2_copyOf_63] at hf
    refine fm_iload_n (pc := 63) F dX2_copyOf_63 2 rfl ?_
    refine fm_bipush (v := 6) (pc := 64) F dX2_copyOf_64 (by decide) ?_
    refine fm_icmp_ge (tgt := 94) (pc := 66) F dX2_copyOf_66 (by decide) (fun c1 => ?_) (fun c1 => ?_)
    · replace hf := fm_ip c1 hf
      exact fm_vret (pc := 94) F E hf dX2_copyOf_94
    · replace hf := fm_in c1 hf
      refine fm_aload_n (pc := 69) F dX2_copyOf_69 1 rfl ?_
      refine fm_get (v := .ref (ad (a1 + 4))) (pc := 70) F (ci := 2) (T := TX2) (n := 7) rfl in_X2 5 (fm_lt rfl) dX2_copyOf_70 q159 a1 (ha1.lt hN 0 (fm_lt rfl)) (ha1.mk0 (ad := ad) (dA := dA) (bk := bk) _ M.2) rfl ?_
      refine fm_iload_n (pc := 73) F dX2_copyOf_73 2 rfl ?_
      obtain ⟨b2, hf⟩ := fm_b_inv hf
      refine fm_aald (pc := 74) F dX2_copyOf_74 (a1 + 4) (ha1.lt hN 4 (fm_lt rfl)) 5 (fun j => a1 + 5 + j) (ha1.mk4 (ad := ad) (dA := dA) (bk := bk) (M.1 (a1 + 4)) M.2) rfl rfl b2 ?_
      refine fm_iconst (v := 0) (pc := 75) F dX2_copyOf_75 (by decide) ?_
      refine fm_aload_n (pc := 76) F dX2_copyOf_76 0 rfl ?_
      refine fm_get (v := .ref (ad (a0 + 4))) (pc := 77) F (ci := 2) (T := TX2) (n := 7) rfl in_X2 5 (fm_lt rfl) dX2_copyOf_77 q159 a0 (ha0.lt hN 0 (fm_lt rfl)) (ha0.mk0 (ad := ad) (dA := dA) (bk := bk) _ M.2) rfl ?_
      refine fm_iload_n (pc := 80) F dX2_copyOf_80 2 rfl ?_
      obtain ⟨b3, hf⟩ := fm_b_inv hf
      refine fm_aald (pc := 81) F dX2_copyOf_81 (a0 + 4) (ha0.lt hN 4 (fm_lt rfl)) 5 (fun j => a0 + 5 + j) (ha0.mk4 (ad := ad) (dA := dA) (bk := bk) (M.1 (a0 + 4)) M.2) rfl rfl b3 ?_
      refine fm_iconst (v := 0) (pc := 82) F dX2_copyOf_82 (by decide) ?_
      refine fm_bipush (v := 6) (pc := 83) F dX2_copyOf_83 (by decide) ?_
      refine fm_copyiK (pc := 85) F dX2_copyOf_85 q633 q628 q627 q61 (a1 + 5 + l2.toNatClampNeg) (a0 + 5 + l2.toNatClampNeg) (ha1.ltr hN (fm_vlt b2)) (ha0.ltr hN (fm_vlt b3)) (ha1.mkr (ad := ad) (dA := dA) (bk := bk) (fm_vlt b2) _ M.2) (fun _ => ha0.mkr (ad := ad) (dA := dA) (bk := bk) (fm_vlt b3) _ M.2) ⟨by decide, by decide, by decide, by decide, by decide⟩ ⟨fm_le rfl, fm_le rfl⟩ 0 0 6 rfl rfl rfl ?_
      refine fm_nameM (fun M4 eM4 => ?_)
      replace hf := fm_let_inv eM4 hf
      refine fm_iinc (v := (l2 + 1)) (lv' := [(2, .int (l2 + 1)), (0, .ref (ad a0)), (1, .ref (ad a1))]) (pc := 88) F dX2_copyOf_88 2 rfl rfl (fm_lt rfl) rfl ?_
      refine fm_goto (tgt := 63) (pc := 91) F dX2_copyOf_91 (by decide) ?_
      refine fm_pick [1, 2, 0] rfl ?_
      exact ih _ _ hf
set_option maxHeartbeats 4000000 in
theorem mX2_copyOf {l : Launch} {D : va_G} {dA : Nat → ClassId} {ad : Nat → Nat} {N bk : Nat} {n : Nat} {a0 : Nat} (ha0 : fm_isPl a0) {a1 : Nat} (ha1 : fm_isPl a1) (hN : 193 ≤ N) (hb : fm_isBk N bk) (inj : ∀ i j, i < N → j < N → ad i = ad j → i = j) {M M' : fm_M} (hf : fX2_copyOf n bk a0 a1 M = some M') : fm_C l yX2_copyOf (ws_ yX2_copyOf cX2_copyOf 3 none) rmX2_copyOf (YC D dA N ad bk) [.ref (ad a0), .ref (ad a1)] M none M' := by
  refine fm_enter (by decide) rfl (fm_le rfl) inj ?_
  intro X hXl F E
  subst hXl
  unfold fX2_copyOf at hf
  show fm_G X (YC D dA N ad bk) (0, 0) 3 M 0 [(0, .ref (ad a0)), (1, .ref (ad a1))] []
  refine fm_aload_n (pc := 0) F dX2_copyOf_0 0 rfl ?_
  refine fm_aload_n (pc := 1) F dX2_copyOf_1 1 rfl ?_
  refine fm_get (v := .int (M.1 a1 0)) (pc := 2) F (ci := 2) (T := TX2) (n := 7) rfl in_X2 0 (fm_lt rfl) dX2_copyOf_2 q147 a1 (ha1.lt hN 0 (fm_lt rfl)) (ha1.mk0 (ad := ad) (dA := dA) (bk := bk) _ M.2) rfl ?_
  refine fm_putI (v := (M.1 a1 0)) (pc := 5) F clX2 0 (fm_lt rfl) dX2_copyOf_5 q147 rfl rfl a0 (ha0.lt hN 0 (fm_lt rfl)) (ha0.mk0 (ad := ad) (dA := dA) (bk := bk) _ M.2) (fm_lt rfl) (ha0.mk0 (ad := ad) (dA := dA) (bk := bk) _ M.2) ?_
  refine fm_nameM (fun M1 eM1 => ?_)
  replace hf := fm_let_inv eM1 hf
  refine fm_aload_n (pc := 8) F dX2_copyOf_8 0 rfl ?_
  refine fm_aload_n (pc := 9) F dX2_copyOf_9 1 rfl ?_
  refine fm_get (v := .int (M1.1 a1 1)) (pc := 10) F (ci := 2) (T := TX2) (n := 7) rfl in_X2 1 (fm_lt rfl) dX2_copyOf_10 q150 a1 (ha1.lt hN 0 (fm_lt rfl)) (ha1.mk0 (ad := ad) (dA := dA) (bk := bk) _ M1.2) rfl ?_
  refine fm_putI (v := (M1.1 a1 1)) (pc := 13) F clX2 1 (fm_lt rfl) dX2_copyOf_13 q150 rfl rfl a0 (ha0.lt hN 0 (fm_lt rfl)) (ha0.mk0 (ad := ad) (dA := dA) (bk := bk) _ M1.2) (fm_lt rfl) (ha0.mk0 (ad := ad) (dA := dA) (bk := bk) _ M1.2) ?_
  refine fm_nameM (fun M2 eM2 => ?_)
  replace hf := fm_let_inv eM2 hf
  refine fm_aload_n (pc := 16) F dX2_copyOf_16 1 rfl ?_
  refine fm_get (v := .ref (ad (a1 + 1))) (pc := 17) F (ci := 2) (T := TX2) (n := 7) rfl in_X2 2 (fm_lt rfl) dX2_copyOf_17 q152 a1 (ha1.lt hN 0 (fm_lt rfl)) (ha1.mk0 (ad := ad) (dA := dA) (bk := bk) _ M2.2) rfl ?_
  refine fm_iconst (v := 0) (pc := 20) F dX2_copyOf_20 (by decide) ?_
  refine fm_aload_n (pc := 21) F dX2_copyOf_21 0 rfl ?_
  refine fm_get (v := .ref (ad (a0 + 1))) (pc := 22) F (ci := 2) (T := TX2) (n := 7) rfl in_X2 2 (fm_lt rfl) dX2_copyOf_22 q152 a0 (ha0.lt hN 0 (fm_lt rfl)) (ha0.mk0 (ad := ad) (dA := dA) (bk := bk) _ M2.2) rfl ?_
  refine fm_iconst (v := 0) (pc := 25) F dX2_copyOf_25 (by decide) ?_
  refine fm_bipush (v := 6) (pc := 26) F dX2_copyOf_26 (by decide) ?_
  refine fm_copyiK (pc := 28) F dX2_copyOf_28 q633 q628 q627 q61 (a1 + 1) (a0 + 1) (ha1.lt hN 1 (fm_lt rfl)) (ha0.lt hN 1 (fm_lt rfl)) (ha1.mk1 (ad := ad) (dA := dA) (bk := bk) _ M2.2) (fun _ => ha0.mk1 (ad := ad) (dA := dA) (bk := bk) _ M2.2) ⟨by decide, by decide, by decide, by decide, by decide⟩ ⟨fm_le rfl, fm_le rfl⟩ 0 0 6 rfl rfl rfl ?_
  refine fm_nameM (fun M3 eM3 => ?_)
  replace hf := fm_let_inv eM3 hf
  refine fm_aload_n (pc := 31) F dX2_copyOf_31 1 rfl ?_
  refine fm_get (v := .ref (ad (a1 + 2))) (pc := 32) F (ci := 2) (T := TX2) (n := 7) rfl in_X2 3 (fm_lt rfl) dX2_copyOf_32 q154 a1 (ha1.lt hN 0 (fm_lt rfl)) (ha1.mk0 (ad := ad) (dA := dA) (bk := bk) _ M3.2) rfl ?_
  refine fm_iconst (v := 0) (pc := 35) F dX2_copyOf_35 (by decide) ?_
  refine fm_aload_n (pc := 36) F dX2_copyOf_36 0 rfl ?_
  refine fm_get (v := .ref (ad (a0 + 2))) (pc := 37) F (ci := 2) (T := TX2) (n := 7) rfl in_X2 3 (fm_lt rfl) dX2_copyOf_37 q154 a0 (ha0.lt hN 0 (fm_lt rfl)) (ha0.mk0 (ad := ad) (dA := dA) (bk := bk) _ M3.2) rfl ?_
  refine fm_iconst (v := 0) (pc := 40) F dX2_copyOf_40 (by decide) ?_
  refine fm_bipush (v := 6) (pc := 41) F dX2_copyOf_41 (by decide) ?_
  refine fm_copyiK (pc := 43) F dX2_copyOf_43 q633 q628 q627 q61 (a1 + 2) (a0 + 2) (ha1.lt hN 2 (fm_lt rfl)) (ha0.lt hN 2 (fm_lt rfl)) (ha1.mk2 (ad := ad) (dA := dA) (bk := bk) _ M3.2) (fun _ => ha0.mk2 (ad := ad) (dA := dA) (bk := bk) _ M3.2) ⟨by decide, by decide, by decide, by decide, by decide⟩ ⟨fm_le rfl, fm_le rfl⟩ 0 0 6 rfl rfl rfl ?_
  refine fm_nameM (fun M4 eM4 => ?_)
  replace hf := fm_let_inv eM4 hf
  refine fm_aload_n (pc := 46) F dX2_copyOf_46 1 rfl ?_
  refine fm_get (v := .ref (ad (a1 + 3))) (pc := 47) F (ci := 2) (T := TX2) (n := 7) rfl in_X2 4 (fm_lt rfl) dX2_copyOf_47 q157 a1 (ha1.lt hN 0 (fm_lt rfl)) (ha1.mk0 (ad := ad) (dA := dA) (bk := bk) _ M4.2) rfl ?_
  refine fm_iconst (v := 0) (pc := 50) F dX2_copyOf_50 (by decide) ?_
  refine fm_aload_n (pc := 51) F dX2_copyOf_51 0 rfl ?_
  refine fm_get (v := .ref (ad (a0 + 3))) (pc := 52) F (ci := 2) (T := TX2) (n := 7) rfl in_X2 4 (fm_lt rfl) dX2_copyOf_52 q157 a0 (ha0.lt hN 0 (fm_lt rfl)) (ha0.mk0 (ad := ad) (dA := dA) (bk := bk) _ M4.2) rfl ?_
  refine fm_iconst (v := 0) (pc := 55) F dX2_copyOf_55 (by decide) ?_
  refine fm_bipush (v := 6) (pc := 56) F dX2_copyOf_56 (by decide) ?_
  refine fm_copyiK (pc := 58) F dX2_copyOf_58 q633 q628 q627 q61 (a1 + 3) (a0 + 3) (ha1.lt hN 3 (fm_lt rfl)) (ha0.lt hN 3 (fm_lt rfl)) (ha1.mk3 (ad := ad) (dA := dA) (bk := bk) _ M4.2) (fun _ => ha0.mk3 (ad := ad) (dA := dA) (bk := bk) _ M4.2) ⟨by decide, by decide, by decide, by decide, by decide⟩ ⟨fm_le rfl, fm_le rfl⟩ 0 0 6 rfl rfl rfl ?_
  refine fm_nameM (fun M5 eM5 => ?_)
  replace hf := fm_let_inv eM5 hf
  refine fm_iconst (v := 0) (pc := 61) F dX2_copyOf_61 (by decide) ?_
  refine fm_istore_n (lv' := [(2, .int 0), (0, .ref (ad a0)), (1, .ref (ad a1))]) (pc := 62) F dX2_copyOf_62 rfl (fm_lt rfl) rfl ?_
  refine fm_pick [1, 2, 0] rfl ?_
  exact wX2_copyOf_63 ha0 ha1 hN hb F E n _ _ hf
