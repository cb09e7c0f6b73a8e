/-! the component: its methods as functions, and their walks (printed by gen/genC.py) -/
set_option maxRecDepth 100000
abbrev rmX0_hangFrom (d : Nat) : Room := { frames := d + 3, cells := 0, slots := 0, locals := 80 * d + 102 }
def fX0_hangFrom_43 (n bk : Nat) (rc : fm_M → Int32 → Int32 → Int32 → Option (fm_M)) : Nat → fm_M → Int32 → Int32 → Int32 → Int32 → Option (fm_M)
  | 0, _, _, _, _, _ => none
  | k + 1, M, l1, l2, l3, l4 =>
    if (M.1 bk 8) ≤ l4 then
      some M
    else
      fm_bi (fX2_where n bk 39 M l4) fun r2 M3 =>
      fm_b r2 6 <|
      fm_b l1 6 <|
      fm_let (M3.1 (bk + 12 + r2.toNatClampNeg) l1.toNatClampNeg) fun x8 =>
      if ((l2 >>> (l4 &&& 31)) &&& 1) = 0 then
        if 100000 ≤ x8 then
          fX0_hangFrom_43 n bk rc k M3 l1 l2 l3 (l4 + 1)
        else
          fm_b l1 6 <|
          fm_b l4 6 <|
          if (M3.1 41 l1.toNatClampNeg) < (M3.1 (bk + 2) l4.toNatClampNeg) then
            fX0_hangFrom_43 n bk rc k M3 l1 l2 l3 (l4 + 1)
          else
            fm_b l1 6 <|
            fm_let (fm_wr M3 7 l1.toNatClampNeg l4) fun M15 =>
            fm_b l4 6 <|
            fm_bv (rc M15 (l1 + 1) (l2 ||| (1 <<< (l4 &&& 31))) (l3 + (x8 * (M15.1 (bk + 2) l4.toNatClampNeg)))) fun M18 =>
            fX0_hangFrom_43 n bk rc k M18 l1 l2 l3 (l4 + 1)
      else
        fX0_hangFrom_43 n bk rc k M3 l1 l2 l3 (l4 + 1)
def fX0_hangFrom (n bk : Nat) : Nat → fm_M → Int32 → Int32 → Int32 → Option (fm_M)
  | 0, _, _, _, _ => none
  | d + 1, M, l1, l2, l3 =>
    if l1 = (M.1 bk 8) then
      if (M.1 0 11) ≤ l3 then
        some M
      else
        fm_let (fm_wr M 0 11 l3) fun M3 =>
        fm_let (fm_row M3 8 (va_cpy (M3.1 7) (M3.1 8) 0 0 6)) fun M4 =>
        some M4
    else
      fX0_hangFrom_43 n bk (fX0_hangFrom n bk d) n M l1 l2 l3 0
theorem hdX0_hangFrom : yX0_hangFrom.cls = RX0 ∧ yX0_hangFrom.cls ≠ "java/lang/invoke/MethodHandle" ∧ yX0_hangFrom.cls ≠ "java/lang/invoke/VarHandle" ∧ (parseMethodDescriptor yX0_hangFrom.desc).map (fun d => d.parameters.length) = some 3 := by decide +kernel
set_option maxHeartbeats 4000000 in
theorem wX0_hangFrom_43 {X : fm_X} {D : va_G} {dA : Nat → ClassId} {ad : Nat → Nat} {N bk : Nat} {n : Nat} (hN : 193 ≤ N) (hb : fm_isBk N bk) {rc : fm_M → Int32 → Int32 → Int32 → Option (fm_M)} {dd : Nat} (hrc : ∀ (M : fm_M) (l1 : Int32) (l2 : Int32) (l3 : Int32) (M' : fm_M), rc M l1 l2 l3 = some M' → fm_C (xl X) yX0_hangFrom (ws_ yX0_hangFrom cX0_hangFrom 6 none) (rmX0_hangFrom dd) (YC D dA N ad bk) [.ref (ad 0), .int l1, .int l2, .int l3] M none M') (F : fm_F X (YC D dA N ad bk) cX0_hangFrom 6 RX0 (rmX0_hangFrom (dd + 1))) {M' : fm_M} (E : fm_E X (YC D dA N ad bk) none M' none) : ∀ (k : Nat) (M : fm_M) (l1 : Int32) (l2 : Int32) (l3 : Int32) (l4 : Int32), fX0_hangFrom_43 n bk rc k M l1 l2 l3 l4 = some M' → fm_G X (YC D dA N ad bk) (0, 0) 6 M 43 [(0, .ref (ad 0)), (1, .int l1), (2, .int l2), (3, .int l3), (4, .int l4)] [] := by
  intro k
  induction k with
  | zero =>
    intro M l1 l2 l3 l4 hf
    rw [fX0_hangFrom_43] at hf
    cases hf
  | succ k ih =>
    intro M l1 l2 l3 l4 hf
    rw [fX0_hangFrom_43] at hf
    refine fm_iload (pc := 43) F dX0_hangFrom_43 4 rfl ?_
    refine fm_aload_n (pc := 45) F dX0_hangFrom_45 0 rfl ?_
    refine fm_get (v := .ref (ad bk)) (pc := 46) F (ci := 0) (T := TX0) (n := 19) rfl in_X0 0 (fm_lt rfl) dX0_hangFrom_46 q262 0 (fm_ltN hN rfl) rfl rfl ?_
    refine fm_getN (v := .int (M.1 bk 8)) (pc := 49) F (ci := 1) (T := TX1) (n := 11) rfl in_X1 8 (fm_lt rfl) dX0_hangFrom_49 q108 bk (hb.lt 0 (fm_lt rfl)) (hb.mk0 (ad := ad) (dA := dA) (bk := bk) _ M.2) rfl ?_
    refine fm_icmp_ge (tgt := 156) (pc := 52) F dX0_hangFrom_52 (by decide) (fun c1 => ?_) (fun c1 => ?_)
    · replace hf := fm_ip c1 hf
      exact fm_vret (pc := 156) F E hf dX0_hangFrom_156
    · replace hf := fm_in c1 hf
      refine fm_aload_n (pc := 55) F dX0_hangFrom_55 0 rfl ?_
      refine fm_get (v := .ref (ad bk)) (pc := 56) F (ci := 0) (T := TX0) (n := 19) rfl in_X0 0 (fm_lt rfl) dX0_hangFrom_56 q262 0 (fm_ltN hN rfl) rfl rfl ?_
      refine fm_getN (v := .ref (ad (bk + 11))) (pc := 59) F (ci := 1) (T := TX1) (n := 11) rfl in_X1 4 (fm_lt rfl) dX0_hangFrom_59 q95 bk (hb.lt 0 (fm_lt rfl)) (hb.mk0 (ad := ad) (dA := dA) (bk := bk) _ M.2) rfl ?_
      refine fm_aload_n (pc := 62) F dX0_hangFrom_62 0 rfl ?_
      refine fm_get (v := .ref (ad 39)) (pc := 63) F (ci := 0) (T := TX0) (n := 19) rfl in_X0 3 (fm_lt rfl) dX0_hangFrom_63 q272 0 (fm_ltN hN rfl) rfl rfl ?_
      refine fm_iload (pc := 66) F dX0_hangFrom_66 4 rfl ?_
      obtain ⟨r2, M3, h4, hf⟩ := fm_bi_inv hf
      refine fm_callV (As := [.int l4]) (rest := [.ref (ad (bk + 11))]) (pc := 68) F (ci := 2) 39 (fm_isPl.now.lt hN 0 (fm_lt rfl)) (fm_isPl.now.mk0 (ad := ad) (dA := dA) (bk := bk) _ M.2) rfl (mX2_where fm_isPl.now hN hb F.inj h4) q582 q583 q584 q41 q585 ⟨rfl, rfl⟩ hdX2_where (by unfold rmX0_hangFrom; refine ⟨?_, ?_, ?_, ?_⟩ <;> simp <;> omega) rfl rfl (fm_le rfl) dX0_hangFrom_68 ?_
      obtain ⟨b6, hf⟩ := fm_b_inv hf
      refine fm_aald (pc := 71) F dX0_hangFrom_71 (bk + 11) (hb.lt 11 (fm_lt rfl)) 5 (fun j => bk + 12 + j) (hb.mk11 (ad := ad) (dA := dA) (bk := bk) (M3.1 (bk + 11)) M3.2) rfl rfl b6 ?_
      refine fm_iload_n (pc := 72) F dX0_hangFrom_72 1 rfl ?_
      obtain ⟨b7, hf⟩ := fm_b_inv hf
      refine fm_iald (pc := 73) F dX0_hangFrom_73 (bk + 12 + r2.toNatClampNeg) (hb.ltr 12 (fm_le rfl) (fm_vlt b6)) (hb.mkr12 (ad := ad) (dA := dA) (bk := bk) (fm_vlt b6) _ M3.2) b7 ?_
      refine fm_topi (fun x8 ex8 => ?_)
      replace hf := fm_let_inv ex8 hf
      refine fm_istore (lv' := [(5, .int x8), (0, .ref (ad 0)), (1, .int l1), (2, .int l2), (3, .int l3), (4, .int l4)]) (pc := 74) F dX0_hangFrom_74 (fm_lt rfl) rfl ?_
      refine fm_iload_n (pc := 76) F dX0_hangFrom_76 3 rfl ?_
      refine fm_iload (pc := 77) F dX0_hangFrom_77 5 rfl ?_
      refine fm_ishr (pc := 79) F dX0_hangFrom_79 ?_
      refine fm_iconst (v := 1) (pc := 80) F dX0_hangFrom_80 (by decide) ?_
      refine fm_iand (pc := 81) F dX0_hangFrom_81 ?_
      refine fm_if_ne (tgt := 150) (pc := 82) F dX0_hangFrom_82 (by decide) (fun c9 => ?_) (fun c9 => ?_)
      · replace hf := fm_in c9 hf
        refine fm_iinc (v := (l4 + 1)) (lv' := [(4, .int (l4 + 1)), (5, .int x8), (0, .ref (ad 0)), (1, .int l1), (2, .int l2), (3, .int l3)]) (pc := 150) F dX0_hangFrom_150 5 rfl rfl (fm_lt rfl) rfl ?_
        refine fm_goto (tgt := 43) (pc := 153) F dX0_hangFrom_153 (by decide) ?_
        refine fm_pick [2, 3, 4, 5, 0] rfl ?_
        exact ih _ _ _ _ _ hf
      · replace hf := fm_ip c9 hf
        refine fm_iload (pc := 85) F dX0_hangFrom_85 0 rfl ?_
        refine fm_ldc (pc := 87) F dX0_hangFrom_87 q602 ?_
        refine fm_icmp_ge (tgt := 150) (pc := 89) F dX0_hangFrom_89 (by decide) (fun c10 => ?_) (fun c10 => ?_)
        · replace hf := fm_ip c10 hf
          refine fm_iinc (v := (l4 + 1)) (lv' := [(4, .int (l4 + 1)), (5, .int x8), (0, .ref (ad 0)), (1, .int l1), (2, .int l2), (3, .int l3)]) (pc := 150) F dX0_hangFrom_150 5 rfl rfl (fm_lt rfl) rfl ?_
          refine fm_goto (tgt := 43) (pc := 153) F dX0_hangFrom_153 (by decide) ?_
          refine fm_pick [2, 3, 4, 5, 0] rfl ?_
          exact ih _ _ _ _ _ hf
        · replace hf := fm_in c10 hf
          refine fm_aload_n (pc := 92) F dX0_hangFrom_92 1 rfl ?_
          refine fm_get (v := .ref (ad 39)) (pc := 93) F (ci := 0) (T := TX0) (n := 19) rfl in_X0 3 (fm_lt rfl) dX0_hangFrom_93 q272 0 (fm_ltN hN rfl) rfl rfl ?_
          refine fm_getN (v := .ref (ad 41)) (pc := 96) F (ci := 2) (T := TX2) (n := 7) rfl in_X2 3 (fm_lt rfl) dX0_hangFrom_96 q156 39 (fm_isPl.now.lt hN 0 (fm_lt rfl)) (fm_isPl.now.mk0 (ad := ad) (dA := dA) (bk := bk) _ M3.2) rfl ?_
          refine fm_iload_n (pc := 99) F dX0_hangFrom_99 2 rfl ?_
          obtain ⟨b11, hf⟩ := fm_b_inv hf
          refine fm_iald (pc := 100) F dX0_hangFrom_100 41 (fm_isPl.now.lt hN 2 (fm_lt rfl)) (fm_isPl.now.mk2 (ad := ad) (dA := dA) (bk := bk) _ M3.2) b11 ?_
          refine fm_aload_n (pc := 101) F dX0_hangFrom_101 1 rfl ?_
          refine fm_get (v := .ref (ad bk)) (pc := 102) F (ci := 0) (T := TX0) (n := 19) rfl in_X0 0 (fm_lt rfl) dX0_hangFrom_102 q262 0 (fm_ltN hN rfl) rfl rfl ?_
          refine fm_getN (v := .ref (ad (bk + 2))) (pc := 105) F (ci := 1) (T := TX1) (n := 11) rfl in_X1 1 (fm_lt rfl) dX0_hangFrom_105 q85 bk (hb.lt 0 (fm_lt rfl)) (hb.mk0 (ad := ad) (dA := dA) (bk := bk) _ M3.2) rfl ?_
          refine fm_iload (pc := 108) F dX0_hangFrom_108 5 rfl ?_
          obtain ⟨b12, hf⟩ := fm_b_inv hf
          refine fm_iald (pc := 110) F dX0_hangFrom_110 (bk + 2) (hb.lt 2 (fm_lt rfl)) (hb.mk2 (ad := ad) (dA := dA) (bk := bk) _ M3.2) b12 ?_
          refine fm_icmp_lt (tgt := 150) (pc := 111) F dX0_hangFrom_111 (by decide) (fun c13 => ?_) (fun c13 => ?_)
          · replace hf := fm_ip c13 hf
            refine fm_iinc (v := (l4 + 1)) (lv' := [(4, .int (l4 + 1)), (5, .int x8), (0, .ref (ad 0)), (1, .int l1), (2, .int l2), (3, .int l3)]) (pc := 150) F dX0_hangFrom_150 5 rfl rfl (fm_lt rfl) rfl ?_
            refine fm_goto (tgt := 43) (pc := 153) F dX0_hangFrom_153 (by decide) ?_
            refine fm_pick [2, 3, 4, 5, 0] rfl ?_
            exact ih _ _ _ _ _ hf
          · replace hf := fm_in c13 hf
            refine fm_aload_n (pc := 114) F dX0_hangFrom_114 1 rfl ?_
            refine fm_get (v := .ref (ad 7)) (pc := 115) F (ci := 0) (T := TX0) (n := 19) rfl in_X0 12 (fm_lt rfl) dX0_hangFrom_115 q283 0 (fm_ltN hN rfl) rfl rfl ?_
            refine fm_iload_n (pc := 118) F dX0_hangFrom_118 2 rfl ?_
            refine fm_iload (pc := 119) F dX0_hangFrom_119 5 rfl ?_
            obtain ⟨b14, hf⟩ := fm_b_inv hf
            refine fm_iast (pc := 121) F dX0_hangFrom_121 7 (fm_ltN hN rfl) (fun _ => rfl) b14 ?_
            refine fm_nameM (fun M15 eM15 => ?_)
            replace hf := fm_let_inv eM15 hf
            refine fm_aload_n (pc := 122) F dX0_hangFrom_122 1 rfl ?_
            refine fm_iload_n (pc := 123) F dX0_hangFrom_123 2 rfl ?_
            refine fm_iconst (v := 1) (pc := 124) F dX0_hangFrom_124 (by decide) ?_
            refine fm_iadd (pc := 125) F dX0_hangFrom_125 ?_
            refine fm_iload_n (pc := 126) F dX0_hangFrom_126 3 rfl ?_
            refine fm_iconst (v := 1) (pc := 127) F dX0_hangFrom_127 (by decide) ?_
            refine fm_iload (pc := 128) F dX0_hangFrom_128 5 rfl ?_
            refine fm_ishl (pc := 130) F dX0_hangFrom_130 ?_
            refine fm_ior (pc := 131) F dX0_hangFrom_131 ?_
            refine fm_iload_n (pc := 132) F dX0_hangFrom_132 4 rfl ?_
            refine fm_iload (pc := 133) F dX0_hangFrom_133 0 rfl ?_
            refine fm_aload_n (pc := 135) F dX0_hangFrom_135 1 rfl ?_
            refine fm_get (v := .ref (ad bk)) (pc := 136) F (ci := 0) (T := TX0) (n := 19) rfl in_X0 0 (fm_lt rfl) dX0_hangFrom_136 q262 0 (fm_ltN hN rfl) rfl rfl ?_
            refine fm_getN (v := .ref (ad (bk + 2))) (pc := 139) F (ci := 1) (T := TX1) (n := 11) rfl in_X1 1 (fm_lt rfl) dX0_hangFrom_139 q85 bk (hb.lt 0 (fm_lt rfl)) (hb.mk0 (ad := ad) (dA := dA) (bk := bk) _ M15.2) rfl ?_
            refine fm_iload (pc := 142) F dX0_hangFrom_142 5 rfl ?_
            obtain ⟨b16, hf⟩ := fm_b_inv hf
            refine fm_iald (pc := 144) F dX0_hangFrom_144 (bk + 2) (hb.lt 2 (fm_lt rfl)) (hb.mk2 (ad := ad) (dA := dA) (bk := bk) _ M15.2) b16 ?_
            refine fm_imul (pc := 145) F dX0_hangFrom_145 ?_
            refine fm_iadd (pc := 146) F dX0_hangFrom_146 ?_
            obtain ⟨M18, h19, hf⟩ := fm_bv_inv hf
            refine fm_callV (As := [.int (l1 + 1), .int (l2 ||| (1 <<< (l4 &&& 31))), .int (l3 + (x8 * (M15.1 (bk + 2) l4.toNatClampNeg)))]) (rest := []) (pc := 147) F (ci := 0) 0 (fm_ltN hN rfl) rfl rfl (hrc _ _ _ _ _ h19) q686 q688 qs15 q39 q689 ⟨rfl, rfl⟩ hdX0_hangFrom (by unfold rmX0_hangFrom; refine ⟨?_, ?_, ?_, ?_⟩ <;> simp <;> omega) rfl rfl (fm_le rfl) dX0_hangFrom_147 ?_
            refine fm_iinc (v := (l4 + 1)) (lv' := [(4, .int (l4 + 1)), (5, .int x8), (0, .ref (ad 0)), (1, .int l1), (2, .int l2), (3, .int l3)]) (pc := 150) F dX0_hangFrom_150 5 rfl rfl (fm_lt rfl) rfl ?_
            refine fm_goto (tgt := 43) (pc := 153) F dX0_hangFrom_153 (by decide) ?_
            refine fm_pick [2, 3, 4, 5, 0] rfl ?_
            exact ih _ _ _ _ _ hf
set_option maxHeartbeats 4000000 in
theorem mX0_hangFrom_all {l : Launch} {D : va_G} {dA : Nat → ClassId} {ad : Nat → Nat} {N bk : Nat} {n : Nat} (hN : 193 ≤ N) (hb : fm_isBk N bk) (inj : ∀ i j, i < N → j < N → ad i = ad j → i = j) : ∀ (d : Nat) (M : fm_M) (l1 : Int32) (l2 : Int32) (l3 : Int32) (M' : fm_M), fX0_hangFrom n bk d M l1 l2 l3 = some M' → fm_C l yX0_hangFrom (ws_ yX0_hangFrom cX0_hangFrom 6 none) (rmX0_hangFrom d) (YC D dA N ad bk) [.ref (ad 0), .int l1, .int l2, .int l3] M none M' := by
  intro d
  induction d with
  | zero =>
    intro M l1 l2 l3 M' hf
    rw [fX0_hangFrom] at hf
    cases hf
  | succ dd ihd =>
    intro M l1 l2 l3 M' hf
    rw [fX0_hangFrom] at hf
    refine fm_enter (by decide) rfl (fm_le rfl) inj ?_
    intro X hXl F E
    subst hXl
    have hrc := ihd
    show fm_G X (YC D dA N ad bk) (0, 0) 6 M 0 [(0, .ref (ad 0)), (1, .int l1), (2, .int l2), (3, .int l3)] []
    refine fm_iload_n (pc := 0) F dX0_hangFrom_0 1 rfl ?_
    refine fm_aload_n (pc := 1) F dX0_hangFrom_1 0 rfl ?_
    refine fm_get (v := .ref (ad bk)) (pc := 2) F (ci := 0) (T := TX0) (n := 19) rfl in_X0 0 (fm_lt rfl) dX0_hangFrom_2 q262 0 (fm_ltN hN rfl) rfl rfl ?_
    refine fm_getN (v := .int (M.1 bk 8)) (pc := 5) F (ci := 1) (T := TX1) (n := 11) rfl in_X1 8 (fm_lt rfl) dX0_hangFrom_5 q108 bk (hb.lt 0 (fm_lt rfl)) (hb.mk0 (ad := ad) (dA := dA) (bk := bk) _ M.2) rfl ?_
    refine fm_icmp_ne (tgt := 40) (pc := 8) F dX0_hangFrom_8 (by decide) (fun c1 => ?_) (fun c1 => ?_)
    · replace hf := fm_in c1 hf
      refine fm_iconst (v := 0) (pc := 40) F dX0_hangFrom_40 (by decide) ?_
      refine fm_istore (lv' := [(4, .int 0), (0, .ref (ad 0)), (1, .int l1), (2, .int l2), (3, .int l3)]) (pc := 41) F dX0_hangFrom_41 (fm_lt rfl) rfl ?_
      refine fm_pick [1, 2, 3, 4, 0] rfl ?_
      exact wX0_hangFrom_43 hN hb hrc F E n _ _ _ _ _ hf
    · replace hf := fm_ip c1 hf
      refine fm_iload_n (pc := 11) F dX0_hangFrom_11 3 rfl ?_
      refine fm_aload_n (pc := 12) F dX0_hangFrom_12 0 rfl ?_
      refine fm_get (v := .int (M.1 0 11)) (pc := 13) F (ci := 0) (T := TX0) (n := 19) rfl in_X0 11 (fm_lt rfl) dX0_hangFrom_13 q282 0 (fm_ltN hN rfl) rfl rfl ?_
      refine fm_icmp_ge (tgt := 39) (pc := 16) F dX0_hangFrom_16 (by decide) (fun c2 => ?_) (fun c2 => ?_)
      · replace hf := fm_ip c2 hf
        exact fm_vret (pc := 39) F E hf dX0_hangFrom_39
      · replace hf := fm_in c2 hf
        refine fm_aload_n (pc := 19) F dX0_hangFrom_19 0 rfl ?_
        refine fm_iload_n (pc := 20) F dX0_hangFrom_20 3 rfl ?_
        refine fm_putI (v := l3) (pc := 21) F clX0 11 (fm_lt rfl) dX0_hangFrom_21 q282 rfl rfl 0 (fm_ltN hN rfl) rfl (fm_lt rfl) rfl ?_
        refine fm_nameM (fun M3 eM3 => ?_)
        replace hf := fm_let_inv eM3 hf
        refine fm_aload_n (pc := 24) F dX0_hangFrom_24 0 rfl ?_
        refine fm_get (v := .ref (ad 7)) (pc := 25) F (ci := 0) (T := TX0) (n := 19) rfl in_X0 12 (fm_lt rfl) dX0_hangFrom_25 q283 0 (fm_ltN hN rfl) rfl rfl ?_
        refine fm_iconst (v := 0) (pc := 28) F dX0_hangFrom_28 (by decide) ?_
        refine fm_aload_n (pc := 29) F dX0_hangFrom_29 0 rfl ?_
        refine fm_get (v := .ref (ad 8)) (pc := 30) F (ci := 0) (T := TX0) (n := 19) rfl in_X0 13 (fm_lt rfl) dX0_hangFrom_30 q284 0 (fm_ltN hN rfl) rfl rfl ?_
        refine fm_iconst (v := 0) (pc := 33) F dX0_hangFrom_33 (by decide) ?_
        refine fm_bipush (v := 6) (pc := 34) F dX0_hangFrom_34 (by decide) ?_
        refine fm_copyiK (pc := 36) F dX0_hangFrom_36 q626 q628 q627 q61 7 8 (fm_ltN hN rfl) (fm_ltN hN rfl) rfl (fun _ => rfl) ⟨by decide, by decide, by decide, by decide, by decide⟩ ⟨fm_le rfl, fm_le rfl⟩ 0 0 6 rfl rfl rfl ?_
        refine fm_nameM (fun M4 eM4 => ?_)
        replace hf := fm_let_inv eM4 hf
        exact fm_vret (pc := 39) F E hf dX0_hangFrom_39
set_option maxHeartbeats 4000000 in
theorem mX0_hangFrom {l : Launch} {D : va_G} {dA : Nat → ClassId} {ad : Nat → Nat} {N bk : Nat} {n : Nat} (hN : 193 ≤ N) (hb : fm_isBk N bk) (inj : ∀ i j, i < N → j < N → ad i = ad j → i = j) (d : Nat) {M M' : fm_M} {l1 : Int32} {l2 : Int32} {l3 : Int32} (hf : fX0_hangFrom n bk d M l1 l2 l3 = some M') : fm_C l yX0_hangFrom (ws_ yX0_hangFrom cX0_hangFrom 6 none) (rmX0_hangFrom d) (YC D dA N ad bk) [.ref (ad 0), .int l1, .int l2, .int l3] M none M' := mX0_hangFrom_all hN hb inj d _ _ _ _ _ hf
abbrev rmX0_hang : Room := { frames := 12, cells := 0, slots := 0, locals := 767 }
def fX0_hang_15 (n bk : Nat) (M : fm_M) (l1 : Int32) : Option (Int32 × fm_M) :=
  fm_let (fm_wr M 0 11 100000) fun M1 =>
  fm_bv (fX0_hangFrom n bk 8 M1 0 0 0) fun M3 =>
  if (M3.1 0 11) = 100000 then
    some ((-9), M3)
  else
    if l1 = (-1) then
      some ((M3.1 0 11), M3)
    else
      fm_b l1 6 <|
      some ((M3.1 8 l1.toNatClampNeg), M3)
def fX0_hang (n bk : Nat) (M : fm_M) (l1 : Int32) : Option (Int32 × fm_M) :=
  if l1 = (-1) then
    fX0_hang_15 n bk M l1
  else
    fm_bi (fX0_isTown n bk M l1) fun r2 M3 =>
    if r2 = 0 then
      some ((-1), M3)
    else
      fX0_hang_15 n bk M3 l1
theorem hdX0_hang : yX0_hang.cls = RX0 ∧ yX0_hang.cls ≠ "java/lang/invoke/MethodHandle" ∧ yX0_hang.cls ≠ "java/lang/invoke/VarHandle" ∧ (parseMethodDescriptor yX0_hang.desc).map (fun d => d.parameters.length) = some 1 := by decide +kernel
set_option maxHeartbeats 4000000 in
theorem wX0_hang_15 {X : fm_X} {D : va_G} {dA : Nat → ClassId} {ad : Nat → Nat} {N bk : Nat} {n : Nat} (hN : 193 ≤ N) (hb : fm_isBk N bk) {r : Int32} (F : fm_F X (YC D dA N ad bk) cX0_hang 2 RX0 rmX0_hang) {M' : fm_M} (E : fm_E X (YC D dA N ad bk) (some (.int r)) M' (some .int)) : ∀ (M : fm_M) (l1 : Int32), fX0_hang_15 n bk M l1 = some (r, M') → fm_G X (YC D dA N ad bk) (0, 0) 2 M 15 [(0, .ref (ad 0)), (1, .int l1)] [] := by
  intro M l1 hf
  unfold fX0_hang_15 at hf
  refine fm_aload_n (pc := 15) F dX0_hang_15 0 rfl ?_
  refine fm_ldc (pc := 16) F dX0_hang_16 q602 ?_
  refine fm_putI (v := 100000) (pc := 18) F clX0 11 (fm_lt rfl) dX0_hang_18 q282 rfl rfl 0 (fm_ltN hN rfl) rfl (fm_lt rfl) rfl ?_
  refine fm_nameM (fun M1 eM1 => ?_)
  replace hf := fm_let_inv eM1 hf
  refine fm_aload_n (pc := 21) F dX0_hang_21 0 rfl ?_
  refine fm_iconst (v := 0) (pc := 22) F dX0_hang_22 (by decide) ?_
  refine fm_iconst (v := 0) (pc := 23) F dX0_hang_23 (by decide) ?_
  refine fm_iconst (v := 0) (pc := 24) F dX0_hang_24 (by decide) ?_
  obtain ⟨M3, h4, hf⟩ := fm_bv_inv hf
  refine fm_callV (As := [.int 0, .int 0, .int 0]) (rest := []) (pc := 25) F (ci := 0) 0 (fm_ltN hN rfl) rfl rfl (mX0_hangFrom hN hb F.inj 8 h4) q686 q688 qs15 q39 q689 ⟨rfl, rfl⟩ hdX0_hangFrom ⟨fm_le rfl, fm_le rfl, Nat.zero_le _, Nat.zero_le _⟩ rfl rfl (fm_le rfl) dX0_hang_25 ?_
  refine fm_aload_n (pc := 28) F dX0_hang_28 0 rfl ?_
  refine fm_get (v := .int (M3.1 0 11)) (pc := 29) F (ci := 0) (T := TX0) (n := 19) rfl in_X0 11 (fm_lt rfl) dX0_hang_29 q282 0 (fm_ltN hN rfl) rfl rfl ?_
  refine fm_ldc (pc := 32) F dX0_hang_32 q602 ?_
  refine fm_icmp_ne (tgt := 42) (pc := 34) F dX0_hang_34 (by decide) (fun c6 => ?_) (fun c6 => ?_)
  · replace hf := fm_in c6 hf
    refine fm_iload_n (pc := 42) F dX0_hang_42 1 rfl ?_
    refine fm_iconst (v := (-1)) (pc := 43) F dX0_hang_43 (by decide) ?_
    refine fm_icmp_ne (tgt := 54) (pc := 44) F dX0_hang_44 (by decide) (fun c7 => ?_) (fun c7 => ?_)
    · replace hf := fm_in c7 hf
      refine fm_aload_n (pc := 54) F dX0_hang_54 0 rfl ?_
      refine fm_get (v := .ref (ad 8)) (pc := 55) F (ci := 0) (T := TX0) (n := 19) rfl in_X0 13 (fm_lt rfl) dX0_hang_55 q284 0 (fm_ltN hN rfl) rfl rfl ?_
      refine fm_iload_n (pc := 58) F dX0_hang_58 1 rfl ?_
      obtain ⟨b8, hf⟩ := fm_b_inv hf
      refine fm_iald (pc := 59) F dX0_hang_59 8 (fm_ltN hN rfl) rfl b8 ?_
      exact fm_iret (pc := 60) F E hf dX0_hang_60
    · replace hf := fm_ip c7 hf
      refine fm_aload_n (pc := 47) F dX0_hang_47 0 rfl ?_
      refine fm_get (v := .int (M3.1 0 11)) (pc := 48) F (ci := 0) (T := TX0) (n := 19) rfl in_X0 11 (fm_lt rfl) dX0_hang_48 q282 0 (fm_ltN hN rfl) rfl rfl ?_
      refine fm_goto (tgt := 60) (pc := 51) F dX0_hang_51 (by decide) ?_
      exact fm_iret (pc := 60) F E hf dX0_hang_60
  · replace hf := fm_ip c6 hf
    refine fm_bipush (v := (-9)) (pc := 37) F dX0_hang_37 (by decide) ?_
    refine fm_goto (tgt := 60) (pc := 39) F dX0_hang_39 (by decide) ?_
    exact fm_iret (pc := 60) F E hf dX0_hang_60
set_option maxHeartbeats 4000000 in
theorem mX0_hang {l : Launch} {D : va_G} {dA : Nat → ClassId} {ad : Nat → Nat} {N bk : Nat} {n : Nat} (hN : 193 ≤ N) (hb : fm_isBk N bk) (inj : ∀ i j, i < N → j < N → ad i = ad j → i = j) {M M' : fm_M} {l1 : Int32} {r : Int32} (hf : fX0_hang n bk M l1 = some (r, M')) : fm_C l yX0_hang (ws_ yX0_hang cX0_hang 2 (some .int)) rmX0_hang (YC D dA N ad bk) [.ref (ad 0), .int l1] M (some (.int r)) M' := by
  refine fm_enter (by decide) rfl (fm_le rfl) inj ?_
  intro X hXl F E
  subst hXl
  unfold fX0_hang at hf
  show fm_G X (YC D dA N ad bk) (0, 0) 2 M 0 [(0, .ref (ad 0)), (1, .int l1)] []
  refine fm_iload_n (pc := 0) F dX0_hang_0 1 rfl ?_
  refine fm_iconst (v := (-1)) (pc := 1) F dX0_hang_1 (by decide) ?_
  refine fm_icmp_eq (tgt := 15) (pc := 2) F dX0_hang_2 (by decide) (fun c1 => ?_) (fun c1 => ?_)
  · replace hf := fm_ip c1 hf
    exact wX0_hang_15 hN hb F E _ _ hf
  · replace hf := fm_in c1 hf
    refine fm_aload_n (pc := 5) F dX0_hang_5 0 rfl ?_
    refine fm_iload_n (pc := 6) F dX0_hang_6 1 rfl ?_
    obtain ⟨r2, M3, h4, hf⟩ := fm_bi_inv hf
    refine fm_callV (As := [.int l1]) (rest := []) (pc := 7) F (ci := 0) 0 (fm_ltN hN rfl) rfl rfl (mX0_isTown hN hb F.inj h4) q578 q580 qs9 q39 q581 ⟨rfl, rfl⟩ hdX0_isTown ⟨fm_le rfl, fm_le rfl, Nat.zero_le _, Nat.zero_le _⟩ rfl rfl (fm_le rfl) dX0_hang_7 ?_
    refine fm_if_ne (tgt := 15) (pc := 10) F dX0_hang_10 (by decide) (fun c6 => ?_) (fun c6 => ?_)
    · replace hf := fm_in c6 hf
      exact wX0_hang_15 hN hb F E _ _ hf
    · replace hf := fm_ip c6 hf
      refine fm_iconst (v := (-1)) (pc := 13) F dX0_hang_13 (by decide) ?_
      exact fm_iret (pc := 14) F E hf dX0_hang_14
abbrev rmX0_ways (d : Nat) : Room := { frames := d + 2, cells := 0, slots := 0, locals := 80 * d + 80 }
def fX0_ways_66 (n bk : Nat) (rc : fm_M → Int32 → Int32 → Option (Int32 × fm_M)) (k18 : fm_M → Int32 → Int32 → Int32 → Int32 → Option (Int32 × fm_M)) (M : fm_M) (l1 : Int32) (l2 : Int32) (l3 : Int32) (l4 : Int32) (s0 : Int32) : Option (Int32 × fm_M) :=
  if s0 = 0 then
    k18 M l1 l2 (l3 + 0) (l4 + 1)
  else
    fm_bi (rc M (l1 + 1) (l2 ||| (1 <<< (l4 &&& 31)))) fun r2 M3 =>
    k18 M3 l1 l2 (l3 + r2) (l4 + 1)
def fX0_ways_65 (n bk : Nat) (rc : fm_M → Int32 → Int32 → Option (Int32 × fm_M)) (k18 : fm_M → Int32 → Int32 → Int32 → Int32 → Option (Int32 × fm_M)) (M : fm_M) (l1 : Int32) (l2 : Int32) (l3 : Int32) (l4 : Int32) : Option (Int32 × fm_M) :=
  fX0_ways_66 n bk rc k18 M l1 l2 l3 l4 0
def fX0_ways_18 (n bk : Nat) (rc : fm_M → Int32 → Int32 → Option (Int32 × fm_M)) : Nat → fm_M → Int32 → Int32 → Int32 → Int32 → Option (Int32 × fm_M)
  | 0, _, _, _, _, _ => none
  | k + 1, M, l1, l2, l3, l4 =>
    if (M.1 bk 8) ≤ l4 then
      some (l3, M)
    else
      if ((l2 >>> (l4 &&& 31)) &&& 1) = 0 then
        fm_b l1 6 <|
        fm_b l4 6 <|
        if (M.1 41 l1.toNatClampNeg) < (M.1 (bk + 2) l4.toNatClampNeg) then
          fX0_ways_65 n bk rc (fX0_ways_18 n bk rc k) M l1 l2 l3 l4
        else
          fX0_ways_66 n bk rc (fX0_ways_18 n bk rc k) M l1 l2 l3 l4 1
      else
        fX0_ways_65 n bk rc (fX0_ways_18 n bk rc k) M l1 l2 l3 l4
def fX0_ways (n bk : Nat) : Nat → fm_M → Int32 → Int32 → Option (Int32 × fm_M)
  | 0, _, _, _ => none
  | d + 1, M, l1, l2 =>
    if l1 = (M.1 bk 8) then
      some (1, M)
    else
      fX0_ways_18 n bk (fX0_ways n bk d) n M l1 l2 0 0
theorem hdX0_ways : yX0_ways.cls = RX0 ∧ yX0_ways.cls ≠ "java/lang/invoke/MethodHandle" ∧ yX0_ways.cls ≠ "java/lang/invoke/VarHandle" ∧ (parseMethodDescriptor yX0_ways.desc).map (fun d => d.parameters.length) = some 2 := by decide +kernel
set_option maxHeartbeats 4000000 in
theorem wX0_ways_66 {X : fm_X} {D : va_G} {dA : Nat → ClassId} {ad : Nat → Nat} {N bk : Nat} {n : Nat} (hN : 193 ≤ N) (hb : fm_isBk N bk) {rc : fm_M → Int32 → Int32 → Option (Int32 × fm_M)} {dd : Nat} (hrc : ∀ (M : fm_M) (l1 : Int32) (l2 : Int32) (r : Int32) (M' : fm_M), rc M l1 l2 = some (r, M') → fm_C (xl X) yX0_ways (ws_ yX0_ways cX0_ways 6 (some .int)) (rmX0_ways dd) (YC D dA N ad bk) [.ref (ad 0), .int l1, .int l2] M (some (.int r)) M') {r : Int32} (F : fm_F X (YC D dA N ad bk) cX0_ways 6 RX0 (rmX0_ways (dd + 1))) {M' : fm_M} (E : fm_E X (YC D dA N ad bk) (some (.int r)) M' (some .int)) {k18 : fm_M → Int32 → Int32 → Int32 → Int32 → Option (Int32 × fm_M)} (hk18 : ∀ (M : fm_M) (l1 : Int32) (l2 : Int32) (l3 : Int32) (l4 : Int32), k18 M l1 l2 l3 l4 = some (r, M') → fm_G X (YC D dA N ad bk) (0, 0) 6 M 18 [(0, .ref (ad 0)), (1, .int l1), (2, .int l2), (3, .int l3), (4, .int l4)] []) : ∀ (M : fm_M) (l1 : Int32) (l2 : Int32) (l3 : Int32) (l4 : Int32) (s0 : Int32), fX0_ways_66 n bk rc k18 M l1 l2 l3 l4 s0 = some (r, M') → fm_G X (YC D dA N ad bk) (0, 0) 6 M 66 [(0, .ref (ad 0)), (1, .int l1), (2, .int l2), (3, .int l3), (4, .int l4)] [.int s0] := by
  intro M l1 l2 l3 l4 s0 hf
  unfold fX0_ways_66 at hf
  refine fm_istore (lv' := [(5, .int s0), (0, .ref (ad 0)), (1, .int l1), (2, .int l2), (3, .int l3), (4, .int l4)]) (pc := 66) F dX0_ways_66 (fm_lt rfl) rfl ?_
  refine fm_iload_n (pc := 68) F dX0_ways_68 4 rfl ?_
  refine fm_iload (pc := 69) F dX0_ways_69 0 rfl ?_
  refine fm_if_eq (tgt := 90) (pc := 71) F dX0_ways_71 (by decide) (fun c1 => ?_) (fun c1 => ?_)
  · replace hf := fm_ip c1 hf
    refine fm_iconst (v := 0) (pc := 90) F dX0_ways_90 (by decide) ?_
    refine fm_iadd (pc := 91) F dX0_ways_91 ?_
    refine fm_istore_n (lv' := [(3, .int (l3 + 0)), (5, .int s0), (0, .ref (ad 0)), (1, .int l1), (2, .int l2), (4, .int l4)]) (pc := 92) F dX0_ways_92 rfl (fm_lt rfl) rfl ?_
    refine fm_iinc (v := (l4 + 1)) (lv' := [(4, .int (l4 + 1)), (3, .int (l3 + 0)), (5, .int s0), (0, .ref (ad 0)), (1, .int l1), (2, .int l2)]) (pc := 93) F dX0_ways_93 5 rfl rfl (fm_lt rfl) rfl ?_
    refine fm_goto (tgt := 18) (pc := 96) F dX0_ways_96 (by decide) ?_
    refine fm_pick [3, 4, 5, 1, 0] rfl ?_
    exact hk18 _ _ _ _ _ hf
  · replace hf := fm_in c1 hf
    refine fm_aload_n (pc := 74) F dX0_ways_74 1 rfl ?_
    refine fm_iload_n (pc := 75) F dX0_ways_75 2 rfl ?_
    refine fm_iconst (v := 1) (pc := 76) F dX0_ways_76 (by decide) ?_
    refine fm_iadd (pc := 77) F dX0_ways_77 ?_
    refine fm_iload_n (pc := 78) F dX0_ways_78 3 rfl ?_
    refine fm_iconst (v := 1) (pc := 79) F dX0_ways_79 (by decide) ?_
    refine fm_iload (pc := 80) F dX0_ways_80 5 rfl ?_
    refine fm_ishl (pc := 82) F dX0_ways_82 ?_
    refine fm_ior (pc := 83) F dX0_ways_83 ?_
    obtain ⟨r2, M3, h4, hf⟩ := fm_bi_inv hf
    refine fm_callV (As := [.int (l1 + 1), .int (l2 ||| (1 <<< (l4 &&& 31)))]) (rest := [.int l3]) (pc := 84) F (ci := 0) 0 (fm_ltN hN rfl) rfl rfl (hrc _ _ _ _ _ h4) q726 q728 qs17 q39 q729 ⟨rfl, rfl⟩ hdX0_ways (by unfold rmX0_ways; refine ⟨?_, ?_, ?_, ?_⟩ <;> simp <;> omega) rfl rfl (fm_le rfl) dX0_ways_84 ?_
    refine fm_goto (tgt := 91) (pc := 87) F dX0_ways_87 (by decide) ?_
    refine fm_iadd (pc := 91) F dX0_ways_91 ?_
    refine fm_istore_n (lv' := [(3, .int (l3 + r2)), (5, .int s0), (0, .ref (ad 0)), (1, .int l1), (2, .int l2), (4, .int l4)]) (pc := 92) F dX0_ways_92 rfl (fm_lt rfl) rfl ?_
    refine fm_iinc (v := (l4 + 1)) (lv' := [(4, .int (l4 + 1)), (3, .int (l3 + r2)), (5, .int s0), (0, .ref (ad 0)), (1, .int l1), (2, .int l2)]) (pc := 93) F dX0_ways_93 5 rfl rfl (fm_lt rfl) rfl ?_
    refine fm_goto (tgt := 18) (pc := 96) F dX0_ways_96 (by decide) ?_
    refine fm_pick [3, 4, 5, 1, 0] rfl ?_
    exact hk18 _ _ _ _ _ hf
set_option maxHeartbeats 4000000 in
theorem wX0_ways_65 {X : fm_X} {D : va_G} {dA : Nat → ClassId} {ad : Nat → Nat} {N bk : Nat} {n : Nat} (hN : 193 ≤ N) (hb : fm_isBk N bk) {rc : fm_M → Int32 → Int32 → Option (Int32 × fm_M)} {dd : Nat} (hrc : ∀ (M : fm_M) (l1 : Int32) (l2 : Int32) (r : Int32) (M' : fm_M), rc M l1 l2 = some (r, M') → fm_C (xl X) yX0_ways (ws_ yX0_ways cX0_ways 6 (some .int)) (rmX0_ways dd) (YC D dA N ad bk) [.ref (ad 0), .int l1, .int l2] M (some (.int r)) M') {r : Int32} (F : fm_F X (YC D dA N ad bk) cX0_ways 6 RX0 (rmX0_ways (dd + 1))) {M' : fm_M} (E : fm_E X (YC D dA N ad bk) (some (.int r)) M' (some .int)) {k18 : fm_M → Int32 → Int32 → Int32 → Int32 → Option (Int32 × fm_M)} (hk18 : ∀ (M : fm_M) (l1 : Int32) (l2 : Int32) (l3 : Int32) (l4 : Int32), k18 M l1 l2 l3 l4 = some (r, M') → fm_G X (YC D dA N ad bk) (0, 0) 6 M 18 [(0, .ref (ad 0)), (1, .int l1), (2, .int l2), (3, .int l3), (4, .int l4)] []) : ∀ (M : fm_M) (l1 : Int32) (l2 : Int32) (l3 : Int32) (l4 : Int32), fX0_ways_65 n bk rc k18 M l1 l2 l3 l4 = some (r, M') → fm_G X (YC D dA N ad bk) (0, 0) 6 M 65 [(0, .ref (ad 0)), (1, .int l1), (2, .int l2), (3, .int l3), (4, .int l4)] [] := by
  intro M l1 l2 l3 l4 hf
  unfold fX0_ways_65 at hf
  refine fm_iconst (v := 0) (pc := 65) F dX0_ways_65 (by decide) ?_
  exact wX0_ways_66 hN hb hrc F E hk18 _ _ _ _ _ _ hf
set_option maxHeartbeats 4000000 in
theorem wX0_ways_18 {X : fm_X} {D : va_G} {dA : Nat → ClassId} {ad : Nat → Nat} {N bk : Nat} {n : Nat} (hN : 193 ≤ N) (hb : fm_isBk N bk) {rc : fm_M → Int32 → Int32 → Option (Int32 × fm_M)} {dd : Nat} (hrc : ∀ (M : fm_M) (l1 : Int32) (l2 : Int32) (r : Int32) (M' : fm_M), rc M l1 l2 = some (r, M') → fm_C (xl X) yX0_ways (ws_ yX0_ways cX0_ways 6 (some .int)) (rmX0_ways dd) (YC D dA N ad bk) [.ref (ad 0), .int l1, .int l2] M (some (.int r)) M') {r : Int32} (F : fm_F X (YC D dA N ad bk) cX0_ways 6 RX0 (rmX0_ways (dd + 1))) {M' : fm_M} (E : fm_E X (YC D dA N ad bk) (some (.int r)) M' (some .int)) : ∀ (k : Nat) (M : fm_M) (l1 : Int32) (l2 : Int32) (l3 : Int32) (l4 : Int32), fX0_ways_18 n bk rc k M l1 l2 l3 l4 = some (r, M') → fm_G X (YC D dA N ad bk) (0, 0) 6 M 18 [(0, .ref (ad 0)), (1, .int l1), (2, .int l2), (3, .int l3), (4, .int l4)] [] := by
  intro k
  induction k with
  | zero =>
    intro M l1 l2 l3 l4 hf
    rw [fX0_ways_18] at hf
    cases hf
  | succ k ih =>
    intro M l1 l2 l3 l4 hf
    rw [fX0_ways_18] at hf
    refine fm_iload (pc := 18) F dX0_ways_18 4 rfl ?_
    refine fm_aload_n (pc := 20) F dX0_ways_20 0 rfl ?_
    refine fm_get (v := .ref (ad bk)) (pc := 21) F (ci := 0) (T := TX0) (n := 19) rfl in_X0 0 (fm_lt rfl) dX0_ways_21 q262 0 (fm_ltN hN rfl) rfl rfl ?_
    refine fm_getN (v := .int (M.1 bk 8)) (pc := 24) F (ci := 1) (T := TX1) (n := 11) rfl in_X1 8 (fm_lt rfl) dX0_ways_24 q108 bk (hb.lt 0 (fm_lt rfl)) (hb.mk0 (ad := ad) (dA := dA) (bk := bk) _ M.2) rfl ?_
    refine fm_icmp_ge (tgt := 99) (pc := 27) F dX0_ways_27 (by decide) (fun c1 => ?_) (fun c1 => ?_)
    · replace hf := fm_ip c1 hf
      refine fm_iload_n (pc := 99) F dX0_ways_99 3 rfl ?_
      exact fm_iret (pc := 100) F E hf dX0_ways_100
    · replace hf := fm_in c1 hf
      refine fm_iload_n (pc := 30) F dX0_ways_30 2 rfl ?_
      refine fm_iload (pc := 31) F dX0_ways_31 4 rfl ?_
      refine fm_ishr (pc := 33) F dX0_ways_33 ?_
      refine fm_iconst (v := 1) (pc := 34) F dX0_ways_34 (by decide) ?_
      refine fm_iand (pc := 35) F dX0_ways_35 ?_
      refine fm_if_ne (tgt := 65) (pc := 36) F dX0_ways_36 (by decide) (fun c2 => ?_) (fun c2 => ?_)
      · replace hf := fm_in c2 hf
        exact wX0_ways_65 hN hb hrc F E ih _ _ _ _ _ hf
      · replace hf := fm_ip c2 hf
        refine fm_aload_n (pc := 39) F dX0_ways_39 0 rfl ?_
        refine fm_get (v := .ref (ad 39)) (pc := 40) F (ci := 0) (T := TX0) (n := 19) rfl in_X0 3 (fm_lt rfl) dX0_ways_40 q272 0 (fm_ltN hN rfl) rfl rfl ?_
        refine fm_getN (v := .ref (ad 41)) (pc := 43) F (ci := 2) (T := TX2) (n := 7) rfl in_X2 3 (fm_lt rfl) dX0_ways_43 q156 39 (fm_isPl.now.lt hN 0 (fm_lt rfl)) (fm_isPl.now.mk0 (ad := ad) (dA := dA) (bk := bk) _ M.2) rfl ?_
        refine fm_iload_n (pc := 46) F dX0_ways_46 1 rfl ?_
        obtain ⟨b3, hf⟩ := fm_b_inv hf
        refine fm_iald (pc := 47) F dX0_ways_47 41 (fm_isPl.now.lt hN 2 (fm_lt rfl)) (fm_isPl.now.mk2 (ad := ad) (dA := dA) (bk := bk) _ M.2) b3 ?_
        refine fm_aload_n (pc := 48) F dX0_ways_48 0 rfl ?_
        refine fm_get (v := .ref (ad bk)) (pc := 49) F (ci := 0) (T := TX0) (n := 19) rfl in_X0 0 (fm_lt rfl) dX0_ways_49 q262 0 (fm_ltN hN rfl) rfl rfl ?_
        refine fm_getN (v := .ref (ad (bk + 2))) (pc := 52) F (ci := 1) (T := TX1) (n := 11) rfl in_X1 1 (fm_lt rfl) dX0_ways_52 q85 bk (hb.lt 0 (fm_lt rfl)) (hb.mk0 (ad := ad) (dA := dA) (bk := bk) _ M.2) rfl ?_
        refine fm_iload (pc := 55) F dX0_ways_55 4 rfl ?_
        obtain ⟨b4, hf⟩ := fm_b_inv hf
        refine fm_iald (pc := 57) F dX0_ways_57 (bk + 2) (hb.lt 2 (fm_lt rfl)) (hb.mk2 (ad := ad) (dA := dA) (bk := bk) _ M.2) b4 ?_
        refine fm_icmp_lt (tgt := 65) (pc := 58) F dX0_ways_58 (by decide) (fun c5 => ?_) (fun c5 => ?_)
        · replace hf := fm_ip c5 hf
          exact wX0_ways_65 hN hb hrc F E ih _ _ _ _ _ hf
        · replace hf := fm_in c5 hf
          refine fm_iconst (v := 1) (pc := 61) F dX0_ways_61 (by decide) ?_
          refine fm_goto (tgt := 66) (pc := 62) F dX0_ways_62 (by decide) ?_
          exact wX0_ways_66 hN hb hrc F E ih _ _ _ _ _ _ hf
set_option maxHeartbeats 4000000 in
theorem mX0_ways_all {l : Launch} {D : va_G} {dA : Nat → ClassId} {ad : Nat → Nat} {N bk : Nat} {n : Nat} (hN : 193 ≤ N) (hb : fm_isBk N bk) (inj : ∀ i j, i < N → j < N → ad i = ad j → i = j) : ∀ (d : Nat) (M : fm_M) (l1 : Int32) (l2 : Int32) (r : Int32) (M' : fm_M), fX0_ways n bk d M l1 l2 = some (r, M') → fm_C l yX0_ways (ws_ yX0_ways cX0_ways 6 (some .int)) (rmX0_ways d) (YC D dA N ad bk) [.ref (ad 0), .int l1, .int l2] M (some (.int r)) M' := by
  intro d
  induction d with
  | zero =>
    intro M l1 l2 r M' hf
    rw [fX0_ways] at hf
    cases hf
  | succ dd ihd =>
    intro M l1 l2 r M' hf
    rw [fX0_ways] at hf
    refine fm_enter (by decide) rfl (fm_le rfl) inj ?_
    intro X hXl F E
    subst hXl
    have hrc := ihd
    show fm_G X (YC D dA N ad bk) (0, 0) 6 M 0 [(0, .ref (ad 0)), (1, .int l1), (2, .int l2)] []
    refine fm_iload_n (pc := 0) F dX0_ways_0 1 rfl ?_
    refine fm_aload_n (pc := 1) F dX0_ways_1 0 rfl ?_
    refine fm_get (v := .ref (ad bk)) (pc := 2) F (ci := 0) (T := TX0) (n := 19) rfl in_X0 0 (fm_lt rfl) dX0_ways_2 q262 0 (fm_ltN hN rfl) rfl rfl ?_
    refine fm_getN (v := .int (M.1 bk 8)) (pc := 5) F (ci := 1) (T := TX1) (n := 11) rfl in_X1 8 (fm_lt rfl) dX0_ways_5 q108 bk (hb.lt 0 (fm_lt rfl)) (hb.mk0 (ad := ad) (dA := dA) (bk := bk) _ M.2) rfl ?_
    refine fm_icmp_ne (tgt := 13) (pc := 8) F dX0_ways_8 (by decide) (fun c1 => ?_) (fun c1 => ?_)
    · replace hf := fm_in c1 hf
      refine fm_iconst (v := 0) (pc := 13) F dX0_ways_13 (by decide) ?_
      refine fm_istore_n (lv' := [(3, .int 0), (0, .ref (ad 0)), (1, .int l1), (2, .int l2)]) (pc := 14) F dX0_ways_14 rfl (fm_lt rfl) rfl ?_
      refine fm_iconst (v := 0) (pc := 15) F dX0_ways_15 (by decide) ?_
      refine fm_istore (lv' := [(4, .int 0), (3, .int 0), (0, .ref (ad 0)), (1, .int l1), (2, .int l2)]) (pc := 16) F dX0_ways_16 (fm_lt rfl) rfl ?_
      refine fm_pick [2, 3, 4, 1, 0] rfl ?_
      exact wX0_ways_18 hN hb hrc F E n _ _ _ _ _ hf
    · replace hf := fm_ip c1 hf
      refine fm_iconst (v := 1) (pc := 11) F dX0_ways_11 (by decide) ?_
      exact fm_iret (pc := 12) F E hf dX0_ways_12
set_option maxHeartbeats 4000000 in
theorem mX0_ways {l : Launch} {D : va_G} {dA : Nat → ClassId} {ad : Nat → Nat} {N bk : Nat} {n : Nat} (hN : 193 ≤ N) (hb : fm_isBk N bk) (inj : ∀ i j, i < N → j < N → ad i = ad j → i = j) (d : Nat) {M M' : fm_M} {l1 : Int32} {l2 : Int32} {r : Int32} (hf : fX0_ways n bk d M l1 l2 = some (r, M')) : fm_C l yX0_ways (ws_ yX0_ways cX0_ways 6 (some .int)) (rmX0_ways d) (YC D dA N ad bk) [.ref (ad 0), .int l1, .int l2] M (some (.int r)) M' := mX0_ways_all hN hb inj d _ _ _ _ _ hf
abbrev rmX0_common (d : Nat) : Room := { frames := d + 2, cells := 0, slots := 0, locals := 80 * d + 80 }
def fX0_common (n bk : Nat) : Nat → fm_M → Int32 → Int32 → Option (Int32 × fm_M)
  | 0, _, _, _ => none
  | d + 1, M, l0, l1 =>
    if l1 = 0 then
      some (l0, M)
    else
      fm_nz l1 <|
      fm_let (l0 - l0 / l1 * l1) fun x3 =>
      fm_bi ((fX0_common n bk d) M l1 x3) fun r4 M5 =>
      some (r4, M5)
theorem hdX0_common : yX0_common.cls = RX0 ∧ yX0_common.cls ≠ "java/lang/invoke/MethodHandle" ∧ yX0_common.cls ≠ "java/lang/invoke/VarHandle" ∧ (parseMethodDescriptor yX0_common.desc).map (fun d => d.parameters.length) = some 2 := by decide +kernel
set_option maxHeartbeats 4000000 in
theorem mX0_common_all {l : Launch} {D : va_G} {dA : Nat → ClassId} {ad : Nat → Nat} {N bk : Nat} {n : Nat} (hN : 193 ≤ N) (hb : fm_isBk N bk) (inj : ∀ i j, i < N → j < N → ad i = ad j → i = j) : ∀ (d : Nat) (M : fm_M) (l0 : Int32) (l1 : Int32) (r : Int32) (M' : fm_M), fX0_common n bk d M l0 l1 = some (r, M') → fm_C l yX0_common (ws_ yX0_common cX0_common 2 (some .int)) (rmX0_common d) (YC D dA N ad bk) [.int l0, .int l1] M (some (.int r)) M' := by
  intro d
  induction d with
  | zero =>
    intro M l0 l1 r M' hf
    rw [fX0_common] at hf
    cases hf
  | succ dd ihd =>
    intro M l0 l1 r M' hf
    rw [fX0_common] at hf
    refine fm_enter (by decide) rfl (fm_le rfl) inj ?_
    intro X hXl F E
    subst hXl
    have hrc := ihd
    show fm_G X (YC D dA N ad bk) (0, 0) 2 M 0 [(0, .int l0), (1, .int l1)] []
    refine fm_iload_n (pc := 0) F dX0_common_0 1 rfl ?_
    refine fm_if_ne (tgt := 8) (pc := 1) F dX0_common_1 (by decide) (fun c1 => ?_) (fun c1 => ?_)
    · replace hf := fm_in c1 hf
      refine fm_iload_n (pc := 8) F dX0_common_8 1 rfl ?_
      refine fm_iload_n (pc := 9) F dX0_common_9 0 rfl ?_
      refine fm_iload_n (pc := 10) F dX0_common_10 1 rfl ?_
      obtain ⟨b2, hf⟩ := fm_nz_inv hf
      refine fm_irem (pc := 11) F dX0_common_11 b2 ?_
      refine fm_topi (fun x3 ex3 => ?_)
      replace hf := fm_let_inv ex3 hf
      obtain ⟨r4, M5, h6, hf⟩ := fm_bi_inv hf
      refine fm_callS (As := [.int l1, .int x3]) (rest := []) (pc := 12) F (hrc _ _ _ _ _ h6) q730 q731 q39 q732 ⟨rfl, rfl⟩ hdX0_common.2 (by unfold rmX0_common; refine ⟨?_, ?_, ?_, ?_⟩ <;> simp <;> omega) rfl rfl (fm_le rfl) dX0_common_12 ?_
      exact fm_iret (pc := 15) F E hf dX0_common_15
    · replace hf := fm_ip c1 hf
      refine fm_iload_n (pc := 4) F dX0_common_4 0 rfl ?_
      refine fm_goto (tgt := 15) (pc := 5) F dX0_common_5 (by decide) ?_
      exact fm_iret (pc := 15) F E hf dX0_common_15
set_option maxHeartbeats 4000000 in
theorem mX0_common {l : Launch} {D : va_G} {dA : Nat → ClassId} {ad : Nat → Nat} {N bk : Nat} {n : Nat} (hN : 193 ≤ N) (hb : fm_isBk N bk) (inj : ∀ i j, i < N → j < N → ad i = ad j → i = j) (d : Nat) {M M' : fm_M} {l0 : Int32} {l1 : Int32} {r : Int32} (hf : fX0_common n bk d M l0 l1 = some (r, M')) : fm_C l yX0_common (ws_ yX0_common cX0_common 2 (some .int)) (rmX0_common d) (YC D dA N ad bk) [.int l0, .int l1] M (some (.int r)) M' := mX0_common_all hN hb inj d _ _ _ _ _ hf
abbrev rmX0_odds : Room := { frames := 33, cells := 0, slots := 0, locals := 2501 }
def fX0_odds_23 (n bk : Nat) : Nat → fm_M → Int32 → Int32 → Int32 → Int32 → Option (Int32 × fm_M)
  | 0, _, _, _, _, _ => none
  | k + 1, M, l1, l2, l3, l4 =>
    if (M.1 bk 8) < l4 then
      fm_bi (fX0_common n bk 30 M l2 l3) fun r2 M3 =>
      if l1 = 0 then
        fm_nz r2 <|
        some ((l2 / r2), M3)
      else
        fm_nz r2 <|
        some ((l3 / r2), M3)
    else
      fX0_odds_23 n bk k M l1 l2 (l3 * l4) (l4 + 1)
def fX0_odds (n bk : Nat) (M : fm_M) (l1 : Int32) : Option (Int32 × fm_M) :=
  fm_bi (fX0_in n bk M l1 0 1) fun r1 M2 =>
  if r1 = 0 then
    some ((-1), M2)
  else
    fm_bi (fX0_ways n bk 8 M2 0 0) fun r6 M7 =>
    fX0_odds_23 n bk n M7 l1 r6 1 2
theorem hdX0_odds : yX0_odds.cls = RX0 ∧ yX0_odds.cls ≠ "java/lang/invoke/MethodHandle" ∧ yX0_odds.cls ≠ "java/lang/invoke/VarHandle" ∧ (parseMethodDescriptor yX0_odds.desc).map (fun d => d.parameters.length) = some 1 := by decide +kernel
set_option maxHeartbeats 4000000 in
theorem wX0_odds_23 {X : fm_X} {D : va_G} {dA : Nat → ClassId} {ad : Nat → Nat} {N bk : Nat} {n : Nat} (hN : 193 ≤ N) (hb : fm_isBk N bk) {r : Int32} (F : fm_F X (YC D dA N ad bk) cX0_odds 5 RX0 rmX0_odds) {M' : fm_M} (E : fm_E X (YC D dA N ad bk) (some (.int r)) M' (some .int)) : ∀ (k : Nat) (M : fm_M) (l1 : Int32) (l2 : Int32) (l3 : Int32) (l4 : Int32), fX0_odds_23 n bk k M l1 l2 l3 l4 = some (r, M') → fm_G X (YC D dA N ad bk) (0, 0) 5 M 23 [(0, .ref (ad 0)), (1, .int l1), (2, .int l2), (3, .int l3), (4, .int l4)] [] := by
  intro k
  induction k with
  | zero =>
    intro M l1 l2 l3 l4 hf
    rw [fX0_odds_23] at hf
    cases hf
  | succ k ih =>
    intro M l1 l2 l3 l4 hf
    rw [fX0_odds_23] at hf
    refine fm_iload (pc := 23) F dX0_odds_23 4 rfl ?_
    refine fm_aload_n (pc := 25) F dX0_odds_25 0 rfl ?_
    refine fm_get (v := .ref (ad bk)) (pc := 26) F (ci := 0) (T := TX0) (n := 19) rfl in_X0 0 (fm_lt rfl) dX0_odds_26 q262 0 (fm_ltN hN rfl) rfl rfl ?_
    refine fm_getN (v := .int (M.1 bk 8)) (pc := 29) F (ci := 1) (T := TX1) (n := 11) rfl in_X1 8 (fm_lt rfl) dX0_odds_29 q108 bk (hb.lt 0 (fm_lt rfl)) (hb.mk0 (ad := ad) (dA := dA) (bk := bk) _ M.2) rfl ?_
    refine fm_icmp_gt (tgt := 46) (pc := 32) F dX0_odds_32 (by decide) (fun c1 => ?_) (fun c1 => ?_)
    · replace hf := fm_ip c1 hf
      refine fm_iload_n (pc := 46) F dX0_odds_46 2 rfl ?_
      refine fm_iload_n (pc := 47) F dX0_odds_47 3 rfl ?_
      obtain ⟨r2, M3, h4, hf⟩ := fm_bi_inv hf
      refine fm_callS (As := [.int l2, .int l3]) (rest := []) (pc := 48) F (mX0_common hN hb F.inj 30 h4) q730 q731 q39 q732 ⟨rfl, rfl⟩ hdX0_common.2 ⟨fm_le rfl, fm_le rfl, Nat.zero_le _, Nat.zero_le _⟩ rfl rfl (fm_le rfl) dX0_odds_48 ?_
      refine fm_istore (lv' := [(4, .int r2), (0, .ref (ad 0)), (1, .int l1), (2, .int l2), (3, .int l3)]) (pc := 51) F dX0_odds_51 (fm_lt rfl) rfl ?_
      refine fm_iload_n (pc := 53) F dX0_odds_53 2 rfl ?_
      refine fm_if_ne (tgt := 64) (pc := 54) F dX0_odds_54 (by decide) (fun c6 => ?_) (fun c6 => ?_)
      · replace hf := fm_in c6 hf
        refine fm_iload_n (pc := 64) F dX0_odds_64 4 rfl ?_
        refine fm_iload (pc := 65) F dX0_odds_65 0 rfl ?_
        obtain ⟨b7, hf⟩ := fm_nz_inv hf
        refine fm_idiv (pc := 67) F dX0_odds_67 b7 ?_
        exact fm_iret (pc := 68) F E hf dX0_odds_68
      · replace hf := fm_ip c6 hf
        refine fm_iload_n (pc := 57) F dX0_odds_57 3 rfl ?_
        refine fm_iload (pc := 58) F dX0_odds_58 0 rfl ?_
        obtain ⟨b8, hf⟩ := fm_nz_inv hf
        refine fm_idiv (pc := 60) F dX0_odds_60 b8 ?_
        refine fm_goto (tgt := 68) (pc := 61) F dX0_odds_61 (by decide) ?_
        exact fm_iret (pc := 68) F E hf dX0_odds_68
    · replace hf := fm_in c1 hf
      refine fm_iload_n (pc := 35) F dX0_odds_35 3 rfl ?_
      refine fm_iload (pc := 36) F dX0_odds_36 4 rfl ?_
      refine fm_imul (pc := 38) F dX0_odds_38 ?_
      refine fm_istore_n (lv' := [(3, .int (l3 * l4)), (0, .ref (ad 0)), (1, .int l1), (2, .int l2), (4, .int l4)]) (pc := 39) F dX0_odds_39 rfl (fm_lt rfl) rfl ?_
      refine fm_iinc (v := (l4 + 1)) (lv' := [(4, .int (l4 + 1)), (3, .int (l3 * l4)), (0, .ref (ad 0)), (1, .int l1), (2, .int l2)]) (pc := 40) F dX0_odds_40 4 rfl rfl (fm_lt rfl) rfl ?_
      refine fm_goto (tgt := 23) (pc := 43) F dX0_odds_43 (by decide) ?_
      refine fm_pick [2, 3, 4, 1, 0] rfl ?_
      exact ih _ _ _ _ _ hf
set_option maxHeartbeats 4000000 in
theorem mX0_odds {l : Launch} {D : va_G} {dA : Nat → ClassId} {ad : Nat → Nat} {N bk : Nat} {n : Nat} (hN : 193 ≤ N) (hb : fm_isBk N bk) (inj : ∀ i j, i < N → j < N → ad i = ad j → i = j) {M M' : fm_M} {l1 : Int32} {r : Int32} (hf : fX0_odds n bk M l1 = some (r, M')) : fm_C l yX0_odds (ws_ yX0_odds cX0_odds 5 (some .int)) rmX0_odds (YC D dA N ad bk) [.ref (ad 0), .int l1] M (some (.int r)) M' := by
  refine fm_enter (by decide) rfl (fm_le rfl) inj ?_
  intro X hXl F E
  subst hXl
  unfold fX0_odds at hf
  show fm_G X (YC D dA N ad bk) (0, 0) 5 M 0 [(0, .ref (ad 0)), (1, .int l1)] []
  refine fm_iload_n (pc := 0) F dX0_odds_0 1 rfl ?_
  refine fm_iconst (v := 0) (pc := 1) F dX0_odds_1 (by decide) ?_
  refine fm_iconst (v := 1) (pc := 2) F dX0_odds_2 (by decide) ?_
  obtain ⟨r1, M2, h3, hf⟩ := fm_bi_inv hf
  refine fm_callS (As := [.int l1, .int 0, .int 1]) (rest := []) (pc := 3) F (mX0_in hN hb F.inj h3) q339 q340 q39 q341 ⟨rfl, rfl⟩ hdX0_in.2 ⟨fm_le rfl, fm_le rfl, Nat.zero_le _, Nat.zero_le _⟩ rfl rfl (fm_le rfl) dX0_odds_3 ?_
  refine fm_if_ne (tgt := 11) (pc := 6) F dX0_odds_6 (by decide) (fun c5 => ?_) (fun c5 => ?_)
  · replace hf := fm_in c5 hf
    refine fm_aload_n (pc := 11) F dX0_odds_11 0 rfl ?_
    refine fm_iconst (v := 0) (pc := 12) F dX0_odds_12 (by decide) ?_
    refine fm_iconst (v := 0) (pc := 13) F dX0_odds_13 (by decide) ?_
    obtain ⟨r6, M7, h8, hf⟩ := fm_bi_inv hf
    refine fm_callV (As := [.int 0, .int 0]) (rest := []) (pc := 14) F (ci := 0) 0 (fm_ltN hN rfl) rfl rfl (mX0_ways hN hb F.inj 8 h8) q726 q728 qs17 q39 q729 ⟨rfl, rfl⟩ hdX0_ways ⟨fm_le rfl, fm_le rfl, Nat.zero_le _, Nat.zero_le _⟩ rfl rfl (fm_le rfl) dX0_odds_14 ?_
    refine fm_istore_n (lv' := [(2, .int r6), (0, .ref (ad 0)), (1, .int l1)]) (pc := 17) F dX0_odds_17 rfl (fm_lt rfl) rfl ?_
    refine fm_iconst (v := 1) (pc := 18) F dX0_odds_18 (by decide) ?_
    refine fm_istore_n (lv' := [(3, .int 1), (2, .int r6), (0, .ref (ad 0)), (1, .int l1)]) (pc := 19) F dX0_odds_19 rfl (fm_lt rfl) rfl ?_
    refine fm_iconst (v := 2) (pc := 20) F dX0_odds_20 (by decide) ?_
    refine fm_istore (lv' := [(4, .int 2), (3, .int 1), (2, .int r6), (0, .ref (ad 0)), (1, .int l1)]) (pc := 21) F dX0_odds_21 (fm_lt rfl) rfl ?_
    refine fm_pick [3, 4, 2, 1, 0] rfl ?_
    exact wX0_odds_23 hN hb F E n _ _ _ _ _ hf
  · replace hf := fm_ip c5 hf
    refine fm_iconst (v := (-1)) (pc := 9) F dX0_odds_9 (by decide) ?_
    exact fm_iret (pc := 10) F E hf dX0_odds_10
abbrev rmX3_rate : Room := { frames := 2, cells := 0, slots := 0, locals := 80 }
def fX3_rate (n bk : Nat) (M : fm_M) (l1 : Int32) : Option (Int32 × fm_M) :=
  fm_let (fm_wl M (M.2 + 1)) fun M1 =>
  fm_b l1 6 <|
  some ((M1.1 (bk + 2) l1.toNatClampNeg), M1)
theorem hdX3_rate : yX3_rate.cls = RX3 ∧ yX3_rate.cls ≠ "java/lang/invoke/MethodHandle" ∧ yX3_rate.cls ≠ "java/lang/invoke/VarHandle" ∧ (parseMethodDescriptor yX3_rate.desc).map (fun d => d.parameters.length) = some 1 := by decide +kernel
set_option maxHeartbeats 4000000 in
theorem mX3_rate_12 {l : Launch} {D : va_G} {dA : Nat → ClassId} {ad : Nat → Nat} {N bk : Nat} {n : Nat} (hN : 193 ≤ N) (hb : fm_isBk N bk) (inj : ∀ i j, i < N → j < N → ad i = ad j → i = j) {M M' : fm_M} {l1 : Int32} {r : Int32} (hf : fX3_rate n bk M l1 = some (r, M')) : fm_C l yX3_rate (ws_ yX3_rate cX3_rate 2 (some .int)) rmX3_rate (YC D dA N ad bk) [.ref (ad 12), .int l1] M (some (.int r)) M' := by
  refine fm_enter (by decide) rfl (fm_le rfl) inj ?_
  intro X hXl F E
  subst hXl
  unfold fX3_rate at hf
  show fm_G X (YC D dA N ad bk) (0, 0) 2 M 0 [(0, .ref (ad 12)), (1, .int l1)] []
  refine fm_aload_n (pc := 0) F dX3_rate_0 0 rfl ?_
  refine fm_get (v := .ref (ad 0)) (pc := 1) F (ci := 3) (T := TX3) (n := 1) rfl in_X3 0 (fm_lt rfl) dX3_rate_1 q189 12 (fm_ltN hN rfl) rfl rfl ?_
  refine fm_dup (pc := 4) F dX3_rate_4 rfl ?_
  refine fm_getN (v := .long M.2) (pc := 5) F (ci := 0) (T := TX0) (n := 19) rfl in_X0 17 (fm_lt rfl) dX3_rate_5 q288 0 (fm_ltN hN rfl) rfl rfl ?_
  refine fm_lconst (v := 1) (pc := 8) F dX3_rate_8 (by decide) ?_
  refine fm_ladd (pc := 9) F dX3_rate_9 ?_
  refine fm_putNL (v := (M.2 + 1)) (pc := 10) F clX0 17 (fm_lt rfl) dX3_rate_10 q288 rfl rfl 0 (fm_ltN hN rfl) rfl (fm_lt rfl) rfl mkC_z ?_
  refine fm_nameM (fun M1 eM1 => ?_)
  replace hf := fm_let_inv eM1 hf
  refine fm_aload_n (pc := 13) F dX3_rate_13 0 rfl ?_
  refine fm_get (v := .ref (ad 0)) (pc := 14) F (ci := 3) (T := TX3) (n := 1) rfl in_X3 0 (fm_lt rfl) dX3_rate_14 q189 12 (fm_ltN hN rfl) rfl rfl ?_
  refine fm_getN (v := .ref (ad bk)) (pc := 17) F (ci := 0) (T := TX0) (n := 19) rfl in_X0 0 (fm_lt rfl) dX3_rate_17 q263 0 (fm_ltN hN rfl) rfl rfl ?_
  refine fm_getN (v := .ref (ad (bk + 2))) (pc := 20) F (ci := 1) (T := TX1) (n := 11) rfl in_X1 1 (fm_lt rfl) dX3_rate_20 q82 bk (hb.lt 0 (fm_lt rfl)) (hb.mk0 (ad := ad) (dA := dA) (bk := bk) _ M1.2) rfl ?_
  refine fm_iload_n (pc := 23) F dX3_rate_23 1 rfl ?_
  obtain ⟨b2, hf⟩ := fm_b_inv hf
  refine fm_iald (pc := 24) F dX3_rate_24 (bk + 2) (hb.lt 2 (fm_lt rfl)) (hb.mk2 (ad := ad) (dA := dA) (bk := bk) _ M1.2) b2 ?_
  exact fm_iret (pc := 25) F E hf dX3_rate_25
set_option maxHeartbeats 4000000 in
theorem mX3_rate_13 {l : Launch} {D : va_G} {dA : Nat → ClassId} {ad : Nat → Nat} {N bk : Nat} {n : Nat} (hN : 193 ≤ N) (hb : fm_isBk N bk) (inj : ∀ i j, i < N → j < N → ad i = ad j → i = j) {M M' : fm_M} {l1 : Int32} {r : Int32} (hf : fX3_rate n bk M l1 = some (r, M')) : fm_C l yX3_rate (ws_ yX3_rate cX3_rate 2 (some .int)) rmX3_rate (YC D dA N ad bk) [.ref (ad 13), .int l1] M (some (.int r)) M' := by
  refine fm_enter (by decide) rfl (fm_le rfl) inj ?_
  intro X hXl F E
  subst hXl
  unfold fX3_rate at hf
  show fm_G X (YC D dA N ad bk) (0, 0) 2 M 0 [(0, .ref (ad 13)), (1, .int l1)] []
  refine fm_aload_n (pc := 0) F dX3_rate_0 0 rfl ?_
  refine fm_get (v := .ref (ad 0)) (pc := 1) F (ci := 4) (T := TX4) (n := 2) rfl in_X4 0 (fm_lt rfl) dX3_rate_1 q189 13 (fm_ltN hN rfl) rfl rfl ?_
  refine fm_dup (pc := 4) F dX3_rate_4 rfl ?_
  refine fm_getN (v := .long M.2) (pc := 5) F (ci := 0) (T := TX0) (n := 19) rfl in_X0 17 (fm_lt rfl) dX3_rate_5 q288 0 (fm_ltN hN rfl) rfl rfl ?_
  refine fm_lconst (v := 1) (pc := 8) F dX3_rate_8 (by decide) ?_
  refine fm_ladd (pc := 9) F dX3_rate_9 ?_
  refine fm_putNL (v := (M.2 + 1)) (pc := 10) F clX0 17 (fm_lt rfl) dX3_rate_10 q288 rfl rfl 0 (fm_ltN hN rfl) rfl (fm_lt rfl) rfl mkC_z ?_
  refine fm_nameM (fun M1 eM1 => ?_)
  replace hf := fm_let_inv eM1 hf
  refine fm_aload_n (pc := 13) F dX3_rate_13 0 rfl ?_
  refine fm_get (v := .ref (ad 0)) (pc := 14) F (ci := 4) (T := TX4) (n := 2) rfl in_X4 0 (fm_lt rfl) dX3_rate_14 q189 13 (fm_ltN hN rfl) rfl rfl ?_
  refine fm_getN (v := .ref (ad bk)) (pc := 17) F (ci := 0) (T := TX0) (n := 19) rfl in_X0 0 (fm_lt rfl) dX3_rate_17 q263 0 (fm_ltN hN rfl) rfl rfl ?_
  refine fm_getN (v := .ref (ad (bk + 2))) (pc := 20) F (ci := 1) (T := TX1) (n := 11) rfl in_X1 1 (fm_lt rfl) dX3_rate_20 q82 bk (hb.lt 0 (fm_lt rfl)) (hb.mk0 (ad := ad) (dA := dA) (bk := bk) _ M1.2) rfl ?_
  refine fm_iload_n (pc := 23) F dX3_rate_23 1 rfl ?_
  obtain ⟨b2, hf⟩ := fm_b_inv hf
  refine fm_iald (pc := 24) F dX3_rate_24 (bk + 2) (hb.lt 2 (fm_lt rfl)) (hb.mk2 (ad := ad) (dA := dA) (bk := bk) _ M1.2) b2 ?_
  exact fm_iret (pc := 25) F E hf dX3_rate_25
set_option maxHeartbeats 4000000 in
theorem mX3_rate_14 {l : Launch} {D : va_G} {dA : Nat → ClassId} {ad : Nat → Nat} {N bk : Nat} {n : Nat} (hN : 193 ≤ N) (hb : fm_isBk N bk) (inj : ∀ i j, i < N → j < N → ad i = ad j → i = j) {M M' : fm_M} {l1 : Int32} {r : Int32} (hf : fX3_rate n bk M l1 = some (r, M')) : fm_C l yX3_rate (ws_ yX3_rate cX3_rate 2 (some .int)) rmX3_rate (YC D dA N ad bk) [.ref (ad 14), .int l1] M (some (.int r)) M' := by
  refine fm_enter (by decide) rfl (fm_le rfl) inj ?_
  intro X hXl F E
  subst hXl
  unfold fX3_rate at hf
  show fm_G X (YC D dA N ad bk) (0, 0) 2 M 0 [(0, .ref (ad 14)), (1, .int l1)] []
  refine fm_aload_n (pc := 0) F dX3_rate_0 0 rfl ?_
  refine fm_get (v := .ref (ad 0)) (pc := 1) F (ci := 5) (T := TX5) (n := 2) rfl in_X5 0 (fm_lt rfl) dX3_rate_1 q189 14 (fm_ltN hN rfl) rfl rfl ?_
  refine fm_dup (pc := 4) F dX3_rate_4 rfl ?_
  refine fm_getN (v := .long M.2) (pc := 5) F (ci := 0) (T := TX0) (n := 19) rfl in_X0 17 (fm_lt rfl) dX3_rate_5 q288 0 (fm_ltN hN rfl) rfl rfl ?_
  refine fm_lconst (v := 1) (pc := 8) F dX3_rate_8 (by decide) ?_
  refine fm_ladd (pc := 9) F dX3_rate_9 ?_
  refine fm_putNL (v := (M.2 + 1)) (pc := 10) F clX0 17 (fm_lt rfl) dX3_rate_10 q288 rfl rfl 0 (fm_ltN hN rfl) rfl (fm_lt rfl) rfl mkC_z ?_
  refine fm_nameM (fun M1 eM1 => ?_)
  replace hf := fm_let_inv eM1 hf
  refine fm_aload_n (pc := 13) F dX3_rate_13 0 rfl ?_
  refine fm_get (v := .ref (ad 0)) (pc := 14) F (ci := 5) (T := TX5) (n := 2) rfl in_X5 0 (fm_lt rfl) dX3_rate_14 q189 14 (fm_ltN hN rfl) rfl rfl ?_
  refine fm_getN (v := .ref (ad bk)) (pc := 17) F (ci := 0) (T := TX0) (n := 19) rfl in_X0 0 (fm_lt rfl) dX3_rate_17 q263 0 (fm_ltN hN rfl) rfl rfl ?_
  refine fm_getN (v := .ref (ad (bk + 2))) (pc := 20) F (ci := 1) (T := TX1) (n := 11) rfl in_X1 1 (fm_lt rfl) dX3_rate_20 q82 bk (hb.lt 0 (fm_lt rfl)) (hb.mk0 (ad := ad) (dA := dA) (bk := bk) _ M1.2) rfl ?_
  refine fm_iload_n (pc := 23) F dX3_rate_23 1 rfl ?_
  obtain ⟨b2, hf⟩ := fm_b_inv hf
  refine fm_iald (pc := 24) F dX3_rate_24 (bk + 2) (hb.lt 2 (fm_lt rfl)) (hb.mk2 (ad := ad) (dA := dA) (bk := bk) _ M1.2) b2 ?_
  exact fm_iret (pc := 25) F E hf dX3_rate_25
set_option maxHeartbeats 4000000 in
theorem mX3_rate_15 {l : Launch} {D : va_G} {dA : Nat → ClassId} {ad : Nat → Nat} {N bk : Nat} {n : Nat} (hN : 193 ≤ N) (hb : fm_isBk N bk) (inj : ∀ i j, i < N → j < N → ad i = ad j → i = j) {M M' : fm_M} {l1 : Int32} {r : Int32} (hf : fX3_rate n bk M l1 = some (r, M')) : fm_C l yX3_rate (ws_ yX3_rate cX3_rate 2 (some .int)) rmX3_rate (YC D dA N ad bk) [.ref (ad 15), .int l1] M (some (.int r)) M' := by
  refine fm_enter (by decide) rfl (fm_le rfl) inj ?_
  intro X hXl F E
  subst hXl
  unfold fX3_rate at hf
  show fm_G X (YC D dA N ad bk) (0, 0) 2 M 0 [(0, .ref (ad 15)), (1, .int l1)] []
  refine fm_aload_n (pc := 0) F dX3_rate_0 0 rfl ?_
  refine fm_get (v := .ref (ad 0)) (pc := 1) F (ci := 6) (T := TX6) (n := 3) rfl in_X6 0 (fm_lt rfl) dX3_rate_1 q189 15 (fm_ltN hN rfl) rfl rfl ?_
  refine fm_dup (pc := 4) F dX3_rate_4 rfl ?_
  refine fm_getN (v := .long M.2) (pc := 5) F (ci := 0) (T := TX0) (n := 19) rfl in_X0 17 (fm_lt rfl) dX3_rate_5 q288 0 (fm_ltN hN rfl) rfl rfl ?_
  refine fm_lconst (v := 1) (pc := 8) F dX3_rate_8 (by decide) ?_
  refine fm_ladd (pc := 9) F dX3_rate_9 ?_
  refine fm_putNL (v := (M.2 + 1)) (pc := 10) F clX0 17 (fm_lt rfl) dX3_rate_10 q288 rfl rfl 0 (fm_ltN hN rfl) rfl (fm_lt rfl) rfl mkC_z ?_
  refine fm_nameM (fun M1 eM1 => ?_)
  replace hf := fm_let_inv eM1 hf
  refine fm_aload_n (pc := 13) F dX3_rate_13 0 rfl ?_
  refine fm_get (v := .ref (ad 0)) (pc := 14) F (ci := 6) (T := TX6) (n := 3) rfl in_X6 0 (fm_lt rfl) dX3_rate_14 q189 15 (fm_ltN hN rfl) rfl rfl ?_
  refine fm_getN (v := .ref (ad bk)) (pc := 17) F (ci := 0) (T := TX0) (n := 19) rfl in_X0 0 (fm_lt rfl) dX3_rate_17 q263 0 (fm_ltN hN rfl) rfl rfl ?_
  refine fm_getN (v := .ref (ad (bk + 2))) (pc := 20) F (ci := 1) (T := TX1) (n := 11) rfl in_X1 1 (fm_lt rfl) dX3_rate_20 q82 bk (hb.lt 0 (fm_lt rfl)) (hb.mk0 (ad := ad) (dA := dA) (bk := bk) _ M1.2) rfl ?_
  refine fm_iload_n (pc := 23) F dX3_rate_23 1 rfl ?_
  obtain ⟨b2, hf⟩ := fm_b_inv hf
  refine fm_iald (pc := 24) F dX3_rate_24 (bk + 2) (hb.lt 2 (fm_lt rfl)) (hb.mk2 (ad := ad) (dA := dA) (bk := bk) _ M1.2) b2 ?_
  exact fm_iret (pc := 25) F E hf dX3_rate_25
set_option maxHeartbeats 4000000 in
theorem mX3_rate_16 {l : Launch} {D : va_G} {dA : Nat → ClassId} {ad : Nat → Nat} {N bk : Nat} {n : Nat} (hN : 193 ≤ N) (hb : fm_isBk N bk) (inj : ∀ i j, i < N → j < N → ad i = ad j → i = j) {M M' : fm_M} {l1 : Int32} {r : Int32} (hf : fX3_rate n bk M l1 = some (r, M')) : fm_C l yX3_rate (ws_ yX3_rate cX3_rate 2 (some .int)) rmX3_rate (YC D dA N ad bk) [.ref (ad 16), .int l1] M (some (.int r)) M' := by
  refine fm_enter (by decide) rfl (fm_le rfl) inj ?_
  intro X hXl F E
  subst hXl
  unfold fX3_rate at hf
  show fm_G X (YC D dA N ad bk) (0, 0) 2 M 0 [(0, .ref (ad 16)), (1, .int l1)] []
  refine fm_aload_n (pc := 0) F dX3_rate_0 0 rfl ?_
  refine fm_get (v := .ref (ad 0)) (pc := 1) F (ci := 7) (T := TX7) (n := 3) rfl in_X7 0 (fm_lt rfl) dX3_rate_1 q189 16 (fm_ltN hN rfl) rfl rfl ?_
  refine fm_dup (pc := 4) F dX3_rate_4 rfl ?_
  refine fm_getN (v := .long M.2) (pc := 5) F (ci := 0) (T := TX0) (n := 19) rfl in_X0 17 (fm_lt rfl) dX3_rate_5 q288 0 (fm_ltN hN rfl) rfl rfl ?_
  refine fm_lconst (v := 1) (pc := 8) F dX3_rate_8 (by decide) ?_
  refine fm_ladd (pc := 9) F dX3_rate_9 ?_
  refine fm_putNL (v := (M.2 + 1)) (pc := 10) F clX0 17 (fm_lt rfl) dX3_rate_10 q288 rfl rfl 0 (fm_ltN hN rfl) rfl (fm_lt rfl) rfl mkC_z ?_
  refine fm_nameM (fun M1 eM1 => ?_)
  replace hf := fm_let_inv eM1 hf
  refine fm_aload_n (pc := 13) F dX3_rate_13 0 rfl ?_
  refine fm_get (v := .ref (ad 0)) (pc := 14) F (ci := 7) (T := TX7) (n := 3) rfl in_X7 0 (fm_lt rfl) dX3_rate_14 q189 16 (fm_ltN hN rfl) rfl rfl ?_
  refine fm_getN (v := .ref (ad bk)) (pc := 17) F (ci := 0) (T := TX0) (n := 19) rfl in_X0 0 (fm_lt rfl) dX3_rate_17 q263 0 (fm_ltN hN rfl) rfl rfl ?_
  refine fm_getN (v := .ref (ad (bk + 2))) (pc := 20) F (ci := 1) (T := TX1) (n := 11) rfl in_X1 1 (fm_lt rfl) dX3_rate_20 q82 bk (hb.lt 0 (fm_lt rfl)) (hb.mk0 (ad := ad) (dA := dA) (bk := bk) _ M1.2) rfl ?_
  refine fm_iload_n (pc := 23) F dX3_rate_23 1 rfl ?_
  obtain ⟨b2, hf⟩ := fm_b_inv hf
  refine fm_iald (pc := 24) F dX3_rate_24 (bk + 2) (hb.lt 2 (fm_lt rfl)) (hb.mk2 (ad := ad) (dA := dA) (bk := bk) _ M1.2) b2 ?_
  exact fm_iret (pc := 25) F E hf dX3_rate_25
set_option maxHeartbeats 4000000 in
theorem mX3_rate_17 {l : Launch} {D : va_G} {dA : Nat → ClassId} {ad : Nat → Nat} {N bk : Nat} {n : Nat} (hN : 193 ≤ N) (hb : fm_isBk N bk) (inj : ∀ i j, i < N → j < N → ad i = ad j → i = j) {M M' : fm_M} {l1 : Int32} {r : Int32} (hf : fX3_rate n bk M l1 = some (r, M')) : fm_C l yX3_rate (ws_ yX3_rate cX3_rate 2 (some .int)) rmX3_rate (YC D dA N ad bk) [.ref (ad 17), .int l1] M (some (.int r)) M' := by
  refine fm_enter (by decide) rfl (fm_le rfl) inj ?_
  intro X hXl F E
  subst hXl
  unfold fX3_rate at hf
  show fm_G X (YC D dA N ad bk) (0, 0) 2 M 0 [(0, .ref (ad 17)), (1, .int l1)] []
  refine fm_aload_n (pc := 0) F dX3_rate_0 0 rfl ?_
  refine fm_get (v := .ref (ad 0)) (pc := 1) F (ci := 8) (T := TX8) (n := 2) rfl in_X8 0 (fm_lt rfl) dX3_rate_1 q189 17 (fm_ltN hN rfl) rfl rfl ?_
  refine fm_dup (pc := 4) F dX3_rate_4 rfl ?_
  refine fm_getN (v := .long M.2) (pc := 5) F (ci := 0) (T := TX0) (n := 19) rfl in_X0 17 (fm_lt rfl) dX3_rate_5 q288 0 (fm_ltN hN rfl) rfl rfl ?_
  refine fm_lconst (v := 1) (pc := 8) F dX3_rate_8 (by decide) ?_
  refine fm_ladd (pc := 9) F dX3_rate_9 ?_
  refine fm_putNL (v := (M.2 + 1)) (pc := 10) F clX0 17 (fm_lt rfl) dX3_rate_10 q288 rfl rfl 0 (fm_ltN hN rfl) rfl (fm_lt rfl) rfl mkC_z ?_
  refine fm_nameM (fun M1 eM1 => ?_)
  replace hf := fm_let_inv eM1 hf
  refine fm_aload_n (pc := 13) F dX3_rate_13 0 rfl ?_
  refine fm_get (v := .ref (ad 0)) (pc := 14) F (ci := 8) (T := TX8) (n := 2) rfl in_X8 0 (fm_lt rfl) dX3_rate_14 q189 17 (fm_ltN hN rfl) rfl rfl ?_
  refine fm_getN (v := .ref (ad bk)) (pc := 17) F (ci := 0) (T := TX0) (n := 19) rfl in_X0 0 (fm_lt rfl) dX3_rate_17 q263 0 (fm_ltN hN rfl) rfl rfl ?_
  refine fm_getN (v := .ref (ad (bk + 2))) (pc := 20) F (ci := 1) (T := TX1) (n := 11) rfl in_X1 1 (fm_lt rfl) dX3_rate_20 q82 bk (hb.lt 0 (fm_lt rfl)) (hb.mk0 (ad := ad) (dA := dA) (bk := bk) _ M1.2) rfl ?_
  refine fm_iload_n (pc := 23) F dX3_rate_23 1 rfl ?_
  obtain ⟨b2, hf⟩ := fm_b_inv hf
  refine fm_iald (pc := 24) F dX3_rate_24 (bk + 2) (hb.lt 2 (fm_lt rfl)) (hb.mk2 (ad := ad) (dA := dA) (bk := bk) _ M1.2) b2 ?_
  exact fm_iret (pc := 25) F E hf dX3_rate_25
abbrev rmX4_rate : Room := { frames := 3, cells := 0, slots := 0, locals := 101 }
def fX4_rate (n bk : Nat) (M : fm_M) (l1 : Int32) : Option (Int32 × fm_M) :=
  fm_let (fm_wl M (M.2 + 10)) fun M1 =>
  fm_bi (fX3_rate n bk M1 l1) fun r2 M3 =>
  fm_b l1 6 <|
  some ((r2 + (M3.1 (bk + 3) l1.toNatClampNeg)), M3)
theorem hdX4_rate : yX4_rate.cls = RX4 ∧ yX4_rate.cls ≠ "java/lang/invoke/MethodHandle" ∧ yX4_rate.cls ≠ "java/lang/invoke/VarHandle" ∧ (parseMethodDescriptor yX4_rate.desc).map (fun d => d.parameters.length) = some 1 := by decide +kernel
set_option maxHeartbeats 4000000 in
theorem mX4_rate_13 {l : Launch} {D : va_G} {dA : Nat → ClassId} {ad : Nat → Nat} {N bk : Nat} {n : Nat} (hN : 193 ≤ N) (hb : fm_isBk N bk) (inj : ∀ i j, i < N → j < N → ad i = ad j → i = j) {M M' : fm_M} {l1 : Int32} {r : Int32} (hf : fX4_rate n bk M l1 = some (r, M')) : fm_C l yX4_rate (ws_ yX4_rate cX4_rate 2 (some .int)) rmX4_rate (YC D dA N ad bk) [.ref (ad 13), .int l1] M (some (.int r)) M' := by
  refine fm_enter (by decide) rfl (fm_le rfl) inj ?_
  intro X hXl F E
  subst hXl
  unfold fX4_rate at hf
  show fm_G X (YC D dA N ad bk) (0, 0) 2 M 0 [(0, .ref (ad 13)), (1, .int l1)] []
  refine fm_aload_n (pc := 0) F dX4_rate_0 0 rfl ?_
  refine fm_get (v := .ref (ad 0)) (pc := 1) F (ci := 4) (T := TX4) (n := 2) rfl in_X4 1 (fm_lt rfl) dX4_rate_1 q201 13 (fm_ltN hN rfl) rfl rfl ?_
  refine fm_dup (pc := 4) F dX4_rate_4 rfl ?_
  refine fm_getN (v := .long M.2) (pc := 5) F (ci := 0) (T := TX0) (n := 19) rfl in_X0 17 (fm_lt rfl) dX4_rate_5 q291 0 (fm_ltN hN rfl) rfl rfl ?_
  refine fm_ldc2 (pc := 8) F dX4_rate_8 q755 ?_
  refine fm_ladd (pc := 11) F dX4_rate_11 ?_
  refine fm_putNL (v := (M.2 + 10)) (pc := 12) F clX0 17 (fm_lt rfl) dX4_rate_12 q291 rfl rfl 0 (fm_ltN hN rfl) rfl (fm_lt rfl) rfl mkC_z ?_
  refine fm_nameM (fun M1 eM1 => ?_)
  replace hf := fm_let_inv eM1 hf
  refine fm_aload_n (pc := 15) F dX4_rate_15 0 rfl ?_
  refine fm_iload_n (pc := 16) F dX4_rate_16 1 rfl ?_
  obtain ⟨r2, M3, h4, hf⟩ := fm_bi_inv hf
  refine fm_callSU (As := [.int l1]) (rest := []) (pc := 17) F (ci := 4) 13 (fm_ltN hN rfl) rfl rfl (mX3_rate_13 hN hb F.inj h4) q756 q740 q205 q738 q42 q767 ⟨rfl, rfl⟩ ⟨by decide +kernel, hdX3_rate.2.2.2⟩ ⟨fm_le rfl, fm_le rfl, Nat.zero_le _, Nat.zero_le _⟩ rfl rfl (fm_le rfl) dX4_rate_17 ?_
  refine fm_aload_n (pc := 20) F dX4_rate_20 0 rfl ?_
  refine fm_get (v := .ref (ad 0)) (pc := 21) F (ci := 4) (T := TX4) (n := 2) rfl in_X4 1 (fm_lt rfl) dX4_rate_21 q201 13 (fm_ltN hN rfl) rfl rfl ?_
  refine fm_getN (v := .ref (ad bk)) (pc := 24) F (ci := 0) (T := TX0) (n := 19) rfl in_X0 0 (fm_lt rfl) dX4_rate_24 q264 0 (fm_ltN hN rfl) rfl rfl ?_
  refine fm_getN (v := .ref (ad (bk + 3))) (pc := 27) F (ci := 1) (T := TX1) (n := 11) rfl in_X1 2 (fm_lt rfl) dX4_rate_27 q87 bk (hb.lt 0 (fm_lt rfl)) (hb.mk0 (ad := ad) (dA := dA) (bk := bk) _ M3.2) rfl ?_
  refine fm_iload_n (pc := 30) F dX4_rate_30 1 rfl ?_
  obtain ⟨b6, hf⟩ := fm_b_inv hf
  refine fm_iald (pc := 31) F dX4_rate_31 (bk + 3) (hb.lt 3 (fm_lt rfl)) (hb.mk3 (ad := ad) (dA := dA) (bk := bk) _ M3.2) b6 ?_
  refine fm_iadd (pc := 32) F dX4_rate_32 ?_
  exact fm_iret (pc := 33) F E hf dX4_rate_33
set_option maxHeartbeats 4000000 in
theorem mX4_rate_15 {l : Launch} {D : va_G} {dA : Nat → ClassId} {ad : Nat → Nat} {N bk : Nat} {n : Nat} (hN : 193 ≤ N) (hb : fm_isBk N bk) (inj : ∀ i j, i < N → j < N → ad i = ad j → i = j) {M M' : fm_M} {l1 : Int32} {r : Int32} (hf : fX4_rate n bk M l1 = some (r, M')) : fm_C l yX4_rate (ws_ yX4_rate cX4_rate 2 (some .int)) rmX4_rate (YC D dA N ad bk) [.ref (ad 15), .int l1] M (some (.int r)) M' := by
  refine fm_enter (by decide) rfl (fm_le rfl) inj ?_
  intro X hXl F E
  subst hXl
  unfold fX4_rate at hf
  show fm_G X (YC D dA N ad bk) (0, 0) 2 M 0 [(0, .ref (ad 15)), (1, .int l1)] []
  refine fm_aload_n (pc := 0) F dX4_rate_0 0 rfl ?_
  refine fm_get (v := .ref (ad 0)) (pc := 1) F (ci := 6) (T := TX6) (n := 3) rfl in_X6 1 (fm_lt rfl) dX4_rate_1 q201 15 (fm_ltN hN rfl) rfl rfl ?_
  refine fm_dup (pc := 4) F dX4_rate_4 rfl ?_
  refine fm_getN (v := .long M.2) (pc := 5) F (ci := 0) (T := TX0) (n := 19) rfl in_X0 17 (fm_lt rfl) dX4_rate_5 q291 0 (fm_ltN hN rfl) rfl rfl ?_
  refine fm_ldc2 (pc := 8) F dX4_rate_8 q755 ?_
  refine fm_ladd (pc := 11) F dX4_rate_11 ?_
  refine fm_putNL (v := (M.2 + 10)) (pc := 12) F clX0 17 (fm_lt rfl) dX4_rate_12 q291 rfl rfl 0 (fm_ltN hN rfl) rfl (fm_lt rfl) rfl mkC_z ?_
  refine fm_nameM (fun M1 eM1 => ?_)
  replace hf := fm_let_inv eM1 hf
  refine fm_aload_n (pc := 15) F dX4_rate_15 0 rfl ?_
  refine fm_iload_n (pc := 16) F dX4_rate_16 1 rfl ?_
  obtain ⟨r2, M3, h4, hf⟩ := fm_bi_inv hf
  refine fm_callSU (As := [.int l1]) (rest := []) (pc := 17) F (ci := 6) 15 (fm_ltN hN rfl) rfl rfl (mX3_rate_15 hN hb F.inj h4) q756 q740 q205 q738 q42 q767 ⟨rfl, rfl⟩ ⟨by decide +kernel, hdX3_rate.2.2.2⟩ ⟨fm_le rfl, fm_le rfl, Nat.zero_le _, Nat.zero_le _⟩ rfl rfl (fm_le rfl) dX4_rate_17 ?_
  refine fm_aload_n (pc := 20) F dX4_rate_20 0 rfl ?_
  refine fm_get (v := .ref (ad 0)) (pc := 21) F (ci := 6) (T := TX6) (n := 3) rfl in_X6 1 (fm_lt rfl) dX4_rate_21 q201 15 (fm_ltN hN rfl) rfl rfl ?_
  refine fm_getN (v := .ref (ad bk)) (pc := 24) F (ci := 0) (T := TX0) (n := 19) rfl in_X0 0 (fm_lt rfl) dX4_rate_24 q264 0 (fm_ltN hN rfl) rfl rfl ?_
  refine fm_getN (v := .ref (ad (bk + 3))) (pc := 27) F (ci := 1) (T := TX1) (n := 11) rfl in_X1 2 (fm_lt rfl) dX4_rate_27 q87 bk (hb.lt 0 (fm_lt rfl)) (hb.mk0 (ad := ad) (dA := dA) (bk := bk) _ M3.2) rfl ?_
  refine fm_iload_n (pc := 30) F dX4_rate_30 1 rfl ?_
  obtain ⟨b6, hf⟩ := fm_b_inv hf
  refine fm_iald (pc := 31) F dX4_rate_31 (bk + 3) (hb.lt 3 (fm_lt rfl)) (hb.mk3 (ad := ad) (dA := dA) (bk := bk) _ M3.2) b6 ?_
  refine fm_iadd (pc := 32) F dX4_rate_32 ?_
  exact fm_iret (pc := 33) F E hf dX4_rate_33
abbrev rmX5_rate : Room := { frames := 3, cells := 0, slots := 0, locals := 102 }
def fX5_rate (n bk : Nat) (M : fm_M) (l1 : Int32) : Option (Int32 × fm_M) :=
  fm_let (fm_wl M (M.2 + 100)) fun M1 =>
  fm_bi (fX3_rate n bk M1 l1) fun r2 M3 =>
  fm_bi (fX2_where n bk 39 M3 l1) fun r6 M7 =>
  fm_b r6 6 <|
  some ((r2 - (M7.1 41 r6.toNatClampNeg)), M7)
theorem hdX5_rate : yX5_rate.cls = RX5 ∧ yX5_rate.cls ≠ "java/lang/invoke/MethodHandle" ∧ yX5_rate.cls ≠ "java/lang/invoke/VarHandle" ∧ (parseMethodDescriptor yX5_rate.desc).map (fun d => d.parameters.length) = some 1 := by decide +kernel
set_option maxHeartbeats 4000000 in
theorem mX5_rate_14 {l : Launch} {D : va_G} {dA : Nat → ClassId} {ad : Nat → Nat} {N bk : Nat} {n : Nat} (hN : 193 ≤ N) (hb : fm_isBk N bk) (inj : ∀ i j, i < N → j < N → ad i = ad j → i = j) {M M' : fm_M} {l1 : Int32} {r : Int32} (hf : fX5_rate n bk M l1 = some (r, M')) : fm_C l yX5_rate (ws_ yX5_rate cX5_rate 2 (some .int)) rmX5_rate (YC D dA N ad bk) [.ref (ad 14), .int l1] M (some (.int r)) M' := by
  refine fm_enter (by decide) rfl (fm_le rfl) inj ?_
  intro X hXl F E
  subst hXl
  unfold fX5_rate at hf
  show fm_G X (YC D dA N ad bk) (0, 0) 2 M 0 [(0, .ref (ad 14)), (1, .int l1)] []
  refine fm_aload_n (pc := 0) F dX5_rate_0 0 rfl ?_
  refine fm_get (v := .ref (ad 0)) (pc := 1) F (ci := 5) (T := TX5) (n := 2) rfl in_X5 1 (fm_lt rfl) dX5_rate_1 q212 14 (fm_ltN hN rfl) rfl rfl ?_
  refine fm_dup (pc := 4) F dX5_rate_4 rfl ?_
  refine fm_getN (v := .long M.2) (pc := 5) F (ci := 0) (T := TX0) (n := 19) rfl in_X0 17 (fm_lt rfl) dX5_rate_5 q290 0 (fm_ltN hN rfl) rfl rfl ?_
  refine fm_ldc2 (pc := 8) F dX5_rate_8 q749 ?_
  refine fm_ladd (pc := 11) F dX5_rate_11 ?_
  refine fm_putNL (v := (M.2 + 100)) (pc := 12) F clX0 17 (fm_lt rfl) dX5_rate_12 q290 rfl rfl 0 (fm_ltN hN rfl) rfl (fm_lt rfl) rfl mkC_z ?_
  refine fm_nameM (fun M1 eM1 => ?_)
  replace hf := fm_let_inv eM1 hf
  refine fm_aload_n (pc := 15) F dX5_rate_15 0 rfl ?_
  refine fm_iload_n (pc := 16) F dX5_rate_16 1 rfl ?_
  obtain ⟨r2, M3, h4, hf⟩ := fm_bi_inv hf
  refine fm_callSU (As := [.int l1]) (rest := []) (pc := 17) F (ci := 5) 14 (fm_ltN hN rfl) rfl rfl (mX3_rate_14 hN hb F.inj h4) q750 q740 q216 q738 q42 q767 ⟨rfl, rfl⟩ ⟨by decide +kernel, hdX3_rate.2.2.2⟩ ⟨fm_le rfl, fm_le rfl, Nat.zero_le _, Nat.zero_le _⟩ rfl rfl (fm_le rfl) dX5_rate_17 ?_
  refine fm_aload_n (pc := 20) F dX5_rate_20 0 rfl ?_
  refine fm_get (v := .ref (ad 0)) (pc := 21) F (ci := 5) (T := TX5) (n := 2) rfl in_X5 1 (fm_lt rfl) dX5_rate_21 q212 14 (fm_ltN hN rfl) rfl rfl ?_
  refine fm_getN (v := .ref (ad 39)) (pc := 24) F (ci := 0) (T := TX0) (n := 19) rfl in_X0 3 (fm_lt rfl) dX5_rate_24 q271 0 (fm_ltN hN rfl) rfl rfl ?_
  refine fm_getN (v := .ref (ad 41)) (pc := 27) F (ci := 2) (T := TX2) (n := 7) rfl in_X2 3 (fm_lt rfl) dX5_rate_27 q155 39 (fm_isPl.now.lt hN 0 (fm_lt rfl)) (fm_isPl.now.mk0 (ad := ad) (dA := dA) (bk := bk) _ M3.2) rfl ?_
  refine fm_aload_n (pc := 30) F dX5_rate_30 0 rfl ?_
  refine fm_get (v := .ref (ad 0)) (pc := 31) F (ci := 5) (T := TX5) (n := 2) rfl in_X5 1 (fm_lt rfl) dX5_rate_31 q212 14 (fm_ltN hN rfl) rfl rfl ?_
  refine fm_getN (v := .ref (ad 39)) (pc := 34) F (ci := 0) (T := TX0) (n := 19) rfl in_X0 3 (fm_lt rfl) dX5_rate_34 q271 0 (fm_ltN hN rfl) rfl rfl ?_
  refine fm_iload_n (pc := 37) F dX5_rate_37 1 rfl ?_
  obtain ⟨r6, M7, h8, hf⟩ := fm_bi_inv hf
  refine fm_callV (As := [.int l1]) (rest := [.ref (ad 41), .int r2]) (pc := 38) F (ci := 2) 39 (fm_isPl.now.lt hN 0 (fm_lt rfl)) (fm_isPl.now.mk0 (ad := ad) (dA := dA) (bk := bk) _ M3.2) rfl (mX2_where fm_isPl.now hN hb F.inj h8) q751 q583 q584 q41 q585 ⟨rfl, rfl⟩ hdX2_where ⟨fm_le rfl, fm_le rfl, Nat.zero_le _, Nat.zero_le _⟩ rfl rfl (fm_le rfl) dX5_rate_38 ?_
  obtain ⟨b10, hf⟩ := fm_b_inv hf
  refine fm_iald (pc := 41) F dX5_rate_41 41 (fm_isPl.now.lt hN 2 (fm_lt rfl)) (fm_isPl.now.mk2 (ad := ad) (dA := dA) (bk := bk) _ M7.2) b10 ?_
  refine fm_isub (pc := 42) F dX5_rate_42 ?_
  exact fm_iret (pc := 43) F E hf dX5_rate_43
set_option maxHeartbeats 4000000 in
theorem mX5_rate_16 {l : Launch} {D : va_G} {dA : Nat → ClassId} {ad : Nat → Nat} {N bk : Nat} {n : Nat} (hN : 193 ≤ N) (hb : fm_isBk N bk) (inj : ∀ i j, i < N → j < N → ad i = ad j → i = j) {M M' : fm_M} {l1 : Int32} {r : Int32} (hf : fX5_rate n bk M l1 = some (r, M')) : fm_C l yX5_rate (ws_ yX5_rate cX5_rate 2 (some .int)) rmX5_rate (YC D dA N ad bk) [.ref (ad 16), .int l1] M (some (.int r)) M' := by
  refine fm_enter (by decide) rfl (fm_le rfl) inj ?_
  intro X hXl F E
  subst hXl
  unfold fX5_rate at hf
  show fm_G X (YC D dA N ad bk) (0, 0) 2 M 0 [(0, .ref (ad 16)), (1, .int l1)] []
  refine fm_aload_n (pc := 0) F dX5_rate_0 0 rfl ?_
  refine fm_get (v := .ref (ad 0)) (pc := 1) F (ci := 7) (T := TX7) (n := 3) rfl in_X7 1 (fm_lt rfl) dX5_rate_1 q212 16 (fm_ltN hN rfl) rfl rfl ?_
  refine fm_dup (pc := 4) F dX5_rate_4 rfl ?_
  refine fm_getN (v := .long M.2) (pc := 5) F (ci := 0) (T := TX0) (n := 19) rfl in_X0 17 (fm_lt rfl) dX5_rate_5 q290 0 (fm_ltN hN rfl) rfl rfl ?_
  refine fm_ldc2 (pc := 8) F dX5_rate_8 q749 ?_
  refine fm_ladd (pc := 11) F dX5_rate_11 ?_
  refine fm_putNL (v := (M.2 + 100)) (pc := 12) F clX0 17 (fm_lt rfl) dX5_rate_12 q290 rfl rfl 0 (fm_ltN hN rfl) rfl (fm_lt rfl) rfl mkC_z ?_
  refine fm_nameM (fun M1 eM1 => ?_)
  replace hf := fm_let_inv eM1 hf
  refine fm_aload_n (pc := 15) F dX5_rate_15 0 rfl ?_
  refine fm_iload_n (pc := 16) F dX5_rate_16 1 rfl ?_
  obtain ⟨r2, M3, h4, hf⟩ := fm_bi_inv hf
  refine fm_callSU (As := [.int l1]) (rest := []) (pc := 17) F (ci := 7) 16 (fm_ltN hN rfl) rfl rfl (mX3_rate_16 hN hb F.inj h4) q750 q740 q216 q738 q42 q767 ⟨rfl, rfl⟩ ⟨by decide +kernel, hdX3_rate.2.2.2⟩ ⟨fm_le rfl, fm_le rfl, Nat.zero_le _, Nat.zero_le _⟩ rfl rfl (fm_le rfl) dX5_rate_17 ?_
  refine fm_aload_n (pc := 20) F dX5_rate_20 0 rfl ?_
  refine fm_get (v := .ref (ad 0)) (pc := 21) F (ci := 7) (T := TX7) (n := 3) rfl in_X7 1 (fm_lt rfl) dX5_rate_21 q212 16 (fm_ltN hN rfl) rfl rfl ?_
  refine fm_getN (v := .ref (ad 39)) (pc := 24) F (ci := 0) (T := TX0) (n := 19) rfl in_X0 3 (fm_lt rfl) dX5_rate_24 q271 0 (fm_ltN hN rfl) rfl rfl ?_
  refine fm_getN (v := .ref (ad 41)) (pc := 27) F (ci := 2) (T := TX2) (n := 7) rfl in_X2 3 (fm_lt rfl) dX5_rate_27 q155 39 (fm_isPl.now.lt hN 0 (fm_lt rfl)) (fm_isPl.now.mk0 (ad := ad) (dA := dA) (bk := bk) _ M3.2) rfl ?_
  refine fm_aload_n (pc := 30) F dX5_rate_30 0 rfl ?_
  refine fm_get (v := .ref (ad 0)) (pc := 31) F (ci := 7) (T := TX7) (n := 3) rfl in_X7 1 (fm_lt rfl) dX5_rate_31 q212 16 (fm_ltN hN rfl) rfl rfl ?_
  refine fm_getN (v := .ref (ad 39)) (pc := 34) F (ci := 0) (T := TX0) (n := 19) rfl in_X0 3 (fm_lt rfl) dX5_rate_34 q271 0 (fm_ltN hN rfl) rfl rfl ?_
  refine fm_iload_n (pc := 37) F dX5_rate_37 1 rfl ?_
  obtain ⟨r6, M7, h8, hf⟩ := fm_bi_inv hf
  refine fm_callV (As := [.int l1]) (rest := [.ref (ad 41), .int r2]) (pc := 38) F (ci := 2) 39 (fm_isPl.now.lt hN 0 (fm_lt rfl)) (fm_isPl.now.mk0 (ad := ad) (dA := dA) (bk := bk) _ M3.2) rfl (mX2_where fm_isPl.now hN hb F.inj h8) q751 q583 q584 q41 q585 ⟨rfl, rfl⟩ hdX2_where ⟨fm_le rfl, fm_le rfl, Nat.zero_le _, Nat.zero_le _⟩ rfl rfl (fm_le rfl) dX5_rate_38 ?_
  obtain ⟨b10, hf⟩ := fm_b_inv hf
  refine fm_iald (pc := 41) F dX5_rate_41 41 (fm_isPl.now.lt hN 2 (fm_lt rfl)) (fm_isPl.now.mk2 (ad := ad) (dA := dA) (bk := bk) _ M7.2) b10 ?_
  refine fm_isub (pc := 42) F dX5_rate_42 ?_
  exact fm_iret (pc := 43) F E hf dX5_rate_43
abbrev rmX6_rate : Room := { frames := 4, cells := 0, slots := 0, locals := 122 }
def fX6_rate (n bk : Nat) (M : fm_M) (l1 : Int32) : Option (Int32 × fm_M) :=
  fm_let (fm_wl M (M.2 + 1000)) fun M1 =>
  fm_bi (fX4_rate n bk M1 l1) fun r2 M3 =>
  some ((2 * r2), M3)
theorem hdX6_rate : yX6_rate.cls = RX6 ∧ yX6_rate.cls ≠ "java/lang/invoke/MethodHandle" ∧ yX6_rate.cls ≠ "java/lang/invoke/VarHandle" ∧ (parseMethodDescriptor yX6_rate.desc).map (fun d => d.parameters.length) = some 1 := by decide +kernel
set_option maxHeartbeats 4000000 in
theorem mX6_rate_15 {l : Launch} {D : va_G} {dA : Nat → ClassId} {ad : Nat → Nat} {N bk : Nat} {n : Nat} (hN : 193 ≤ N) (hb : fm_isBk N bk) (inj : ∀ i j, i < N → j < N → ad i = ad j → i = j) {M M' : fm_M} {l1 : Int32} {r : Int32} (hf : fX6_rate n bk M l1 = some (r, M')) : fm_C l yX6_rate (ws_ yX6_rate cX6_rate 2 (some .int)) rmX6_rate (YC D dA N ad bk) [.ref (ad 15), .int l1] M (some (.int r)) M' := by
  refine fm_enter (by decide) rfl (fm_le rfl) inj ?_
  intro X hXl F E
  subst hXl
  unfold fX6_rate at hf
  show fm_G X (YC D dA N ad bk) (0, 0) 2 M 0 [(0, .ref (ad 15)), (1, .int l1)] []
  refine fm_aload_n (pc := 0) F dX6_rate_0 0 rfl ?_
  refine fm_get (v := .ref (ad 0)) (pc := 1) F (ci := 6) (T := TX6) (n := 3) rfl in_X6 2 (fm_lt rfl) dX6_rate_1 q223 15 (fm_ltN hN rfl) rfl rfl ?_
  refine fm_dup (pc := 4) F dX6_rate_4 rfl ?_
  refine fm_getN (v := .long M.2) (pc := 5) F (ci := 0) (T := TX0) (n := 19) rfl in_X0 17 (fm_lt rfl) dX6_rate_5 q293 0 (fm_ltN hN rfl) rfl rfl ?_
  refine fm_ldc2 (pc := 8) F dX6_rate_8 q765 ?_
  refine fm_ladd (pc := 11) F dX6_rate_11 ?_
  refine fm_putNL (v := (M.2 + 1000)) (pc := 12) F clX0 17 (fm_lt rfl) dX6_rate_12 q293 rfl rfl 0 (fm_ltN hN rfl) rfl (fm_lt rfl) rfl mkC_z ?_
  refine fm_nameM (fun M1 eM1 => ?_)
  replace hf := fm_let_inv eM1 hf
  refine fm_iconst (v := 2) (pc := 15) F dX6_rate_15 (by decide) ?_
  refine fm_aload_n (pc := 16) F dX6_rate_16 0 rfl ?_
  refine fm_iload_n (pc := 17) F dX6_rate_17 1 rfl ?_
  obtain ⟨r2, M3, h4, hf⟩ := fm_bi_inv hf
  refine fm_callSU (As := [.int l1]) (rest := [.int 2]) (pc := 18) F (ci := 6) 15 (fm_ltN hN rfl) rfl rfl (mX4_rate_15 hN hb F.inj h4) q766 q1101 q228 q753 q43 q754 ⟨rfl, rfl⟩ ⟨by decide +kernel, hdX4_rate.2.2.2⟩ ⟨fm_le rfl, fm_le rfl, Nat.zero_le _, Nat.zero_le _⟩ rfl rfl (fm_le rfl) dX6_rate_18 ?_
  refine fm_imul (pc := 21) F dX6_rate_21 ?_
  exact fm_iret (pc := 22) F E hf dX6_rate_22
abbrev rmX7_rate : Room := { frames := 4, cells := 0, slots := 0, locals := 123 }
def fX7_rate (n bk : Nat) (M : fm_M) (l1 : Int32) : Option (Int32 × fm_M) :=
  fm_let (fm_wl M (M.2 + 10000)) fun M1 =>
  fm_bi (fX5_rate n bk M1 l1) fun r2 M3 =>
  some ((r2 + l1), M3)
theorem hdX7_rate : yX7_rate.cls = RX7 ∧ yX7_rate.cls ≠ "java/lang/invoke/MethodHandle" ∧ yX7_rate.cls ≠ "java/lang/invoke/VarHandle" ∧ (parseMethodDescriptor yX7_rate.desc).map (fun d => d.parameters.length) = some 1 := by decide +kernel
set_option maxHeartbeats 4000000 in
theorem mX7_rate_16 {l : Launch} {D : va_G} {dA : Nat → ClassId} {ad : Nat → Nat} {N bk : Nat} {n : Nat} (hN : 193 ≤ N) (hb : fm_isBk N bk) (inj : ∀ i j, i < N → j < N → ad i = ad j → i = j) {M M' : fm_M} {l1 : Int32} {r : Int32} (hf : fX7_rate n bk M l1 = some (r, M')) : fm_C l yX7_rate (ws_ yX7_rate cX7_rate 2 (some .int)) rmX7_rate (YC D dA N ad bk) [.ref (ad 16), .int l1] M (some (.int r)) M' := by
  refine fm_enter (by decide) rfl (fm_le rfl) inj ?_
  intro X hXl F E
  subst hXl
  unfold fX7_rate at hf
  show fm_G X (YC D dA N ad bk) (0, 0) 2 M 0 [(0, .ref (ad 16)), (1, .int l1)] []
  refine fm_aload_n (pc := 0) F dX7_rate_0 0 rfl ?_
  refine fm_get (v := .ref (ad 0)) (pc := 1) F (ci := 7) (T := TX7) (n := 3) rfl in_X7 2 (fm_lt rfl) dX7_rate_1 q235 16 (fm_ltN hN rfl) rfl rfl ?_
  refine fm_dup (pc := 4) F dX7_rate_4 rfl ?_
  refine fm_getN (v := .long M.2) (pc := 5) F (ci := 0) (T := TX0) (n := 19) rfl in_X0 17 (fm_lt rfl) dX7_rate_5 q292 0 (fm_ltN hN rfl) rfl rfl ?_
  refine fm_ldc2 (pc := 8) F dX7_rate_8 q760 ?_
  refine fm_ladd (pc := 11) F dX7_rate_11 ?_
  refine fm_putNL (v := (M.2 + 10000)) (pc := 12) F clX0 17 (fm_lt rfl) dX7_rate_12 q292 rfl rfl 0 (fm_ltN hN rfl) rfl (fm_lt rfl) rfl mkC_z ?_
  refine fm_nameM (fun M1 eM1 => ?_)
  replace hf := fm_let_inv eM1 hf
  refine fm_aload_n (pc := 15) F dX7_rate_15 0 rfl ?_
  refine fm_iload_n (pc := 16) F dX7_rate_16 1 rfl ?_
  obtain ⟨r2, M3, h4, hf⟩ := fm_bi_inv hf
  refine fm_callSU (As := [.int l1]) (rest := []) (pc := 17) F (ci := 7) 16 (fm_ltN hN rfl) rfl rfl (mX5_rate_16 hN hb F.inj h4) q761 q1100 q240 q747 q44 q748 ⟨rfl, rfl⟩ ⟨by decide +kernel, hdX5_rate.2.2.2⟩ ⟨fm_le rfl, fm_le rfl, Nat.zero_le _, Nat.zero_le _⟩ rfl rfl (fm_le rfl) dX7_rate_17 ?_
  refine fm_iload_n (pc := 20) F dX7_rate_20 1 rfl ?_
  refine fm_iadd (pc := 21) F dX7_rate_21 ?_
  exact fm_iret (pc := 22) F E hf dX7_rate_22
abbrev rmX8_rate : Room := { frames := 3, cells := 0, slots := 0, locals := 101 }
def fX8_rate (n bk : Nat) (M : fm_M) (l1 : Int32) : Option (Int32 × fm_M) :=
  fm_let (fm_wl M (M.2 + 100000)) fun M1 =>
  fm_bi (fX3_rate n bk M1 l1) fun r2 M3 =>
  some ((r2 + (M3.1 39 0)), M3)
theorem hdX8_rate : yX8_rate.cls = RX8 ∧ yX8_rate.cls ≠ "java/lang/invoke/MethodHandle" ∧ yX8_rate.cls ≠ "java/lang/invoke/VarHandle" ∧ (parseMethodDescriptor yX8_rate.desc).map (fun d => d.parameters.length) = some 1 := by decide +kernel
set_option maxHeartbeats 4000000 in
theorem mX8_rate_17 {l : Launch} {D : va_G} {dA : Nat → ClassId} {ad : Nat → Nat} {N bk : Nat} {n : Nat} (hN : 193 ≤ N) (hb : fm_isBk N bk) (inj : ∀ i j, i < N → j < N → ad i = ad j → i = j) {M M' : fm_M} {l1 : Int32} {r : Int32} (hf : fX8_rate n bk M l1 = some (r, M')) : fm_C l yX8_rate (ws_ yX8_rate cX8_rate 2 (some .int)) rmX8_rate (YC D dA N ad bk) [.ref (ad 17), .int l1] M (some (.int r)) M' := by
  refine fm_enter (by decide) rfl (fm_le rfl) inj ?_
  intro X hXl F E
  subst hXl
  unfold fX8_rate at hf
  show fm_G X (YC D dA N ad bk) (0, 0) 2 M 0 [(0, .ref (ad 17)), (1, .int l1)] []
  refine fm_aload_n (pc := 0) F dX8_rate_0 0 rfl ?_
  refine fm_get (v := .ref (ad 0)) (pc := 1) F (ci := 8) (T := TX8) (n := 2) rfl in_X8 1 (fm_lt rfl) dX8_rate_1 q247 17 (fm_ltN hN rfl) rfl rfl ?_
  refine fm_dup (pc := 4) F dX8_rate_4 rfl ?_
  refine fm_getN (v := .long M.2) (pc := 5) F (ci := 0) (T := TX0) (n := 19) rfl in_X0 17 (fm_lt rfl) dX8_rate_5 q289 0 (fm_ltN hN rfl) rfl rfl ?_
  refine fm_ldc2 (pc := 8) F dX8_rate_8 q744 ?_
  refine fm_ladd (pc := 11) F dX8_rate_11 ?_
  refine fm_putNL (v := (M.2 + 100000)) (pc := 12) F clX0 17 (fm_lt rfl) dX8_rate_12 q289 rfl rfl 0 (fm_ltN hN rfl) rfl (fm_lt rfl) rfl mkC_z ?_
  refine fm_nameM (fun M1 eM1 => ?_)
  replace hf := fm_let_inv eM1 hf
  refine fm_aload_n (pc := 15) F dX8_rate_15 0 rfl ?_
  refine fm_iload_n (pc := 16) F dX8_rate_16 1 rfl ?_
  obtain ⟨r2, M3, h4, hf⟩ := fm_bi_inv hf
  refine fm_callSU (As := [.int l1]) (rest := []) (pc := 17) F (ci := 8) 17 (fm_ltN hN rfl) rfl rfl (mX3_rate_17 hN hb F.inj h4) q745 q740 q251 q738 q42 q767 ⟨rfl, rfl⟩ ⟨by decide +kernel, hdX3_rate.2.2.2⟩ ⟨fm_le rfl, fm_le rfl, Nat.zero_le _, Nat.zero_le _⟩ rfl rfl (fm_le rfl) dX8_rate_17 ?_
  refine fm_aload_n (pc := 20) F dX8_rate_20 0 rfl ?_
  refine fm_get (v := .ref (ad 0)) (pc := 21) F (ci := 8) (T := TX8) (n := 2) rfl in_X8 1 (fm_lt rfl) dX8_rate_21 q247 17 (fm_ltN hN rfl) rfl rfl ?_
  refine fm_getN (v := .ref (ad 39)) (pc := 24) F (ci := 0) (T := TX0) (n := 19) rfl in_X0 3 (fm_lt rfl) dX8_rate_24 q270 0 (fm_ltN hN rfl) rfl rfl ?_
  refine fm_getN (v := .int (M3.1 39 0)) (pc := 27) F (ci := 2) (T := TX2) (n := 7) rfl in_X2 0 (fm_lt rfl) dX8_rate_27 q148 39 (fm_isPl.now.lt hN 0 (fm_lt rfl)) (fm_isPl.now.mk0 (ad := ad) (dA := dA) (bk := bk) _ M3.2) rfl ?_
  refine fm_iadd (pc := 30) F dX8_rate_30 ?_
  exact fm_iret (pc := 31) F E hf dX8_rate_31
