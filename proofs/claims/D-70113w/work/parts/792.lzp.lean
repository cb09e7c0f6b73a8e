/-! the law's case of 'plain' -/
set_option maxRecDepth 100000
theorem lz_bf {bk : Nat} {C R : fm_M} (h : pb_R bk C R) : ∀ j, j < 10 → (C.1 3 j).toNatClampNeg < 14 := by
  obtain ⟨m, o, d, f, y, p, -, -, ⟨-, -, -, h4, -, -⟩, -⟩ := h
  intro j hj
  obtain ⟨h1, h2, h3⟩ := h4 j hj
  rw [h1, pb_cl (by omega)]
  omega
theorem lz_pM {bk N : Nat} {C R : fm_M} (h : pb_R bk C R) (hN : 193 ≤ N) (hb : bk + 21 ≤ N) : pb_R bk (pw_M N C) R := by
  refine h.frame ⟨fun c hc => ?_, ⟨?_, ?_, ?_⟩, rfl⟩ pb_fR.refl
  · exact if_neg (by omega)
  · show (if N ≤ 0 ∧ 0 < N + 22 then fun _ => 0 else C.1 0) 6 = _
    rw [if_neg (by omega)]
  · show (if N ≤ 0 ∧ 0 < N + 22 then fun _ => 0 else C.1 0) 10 = _
    rw [if_neg (by omega)]
  · show (if N ≤ 0 ∧ 0 < N + 22 then fun _ => 0 else C.1 0) 16 = _
    rw [if_neg (by omega)]
section LZP
variable {X : fm_X} {D : va_G} {dA : Nat → ClassId} {b L : Nat} {sc : Nat → Int32} {N bk i q : Nat} {C R : fm_M} {adC adR : Nat → Nat} {H : Heap} {locs : List Loc} {ls : Array Slot} {lv : List (Nat × Value)} {cs : Nat × Nat}
theorem lz_runPl (F : lz_F X D dA b L sc) {mc ms : Nat} {Pc : Array Value → State → Prop} {Qc : Array Value → State → Outcome → State → Prop} {free : Addr → Prop} (hM : Met (xl X) yX0_plain wsX0_plain (rmX0_plain mc ms) Pc Qc mc ms free) (hbl : FrameBlind Pc) (hf : cs.1 + mc ≤ (xR X).cells ∧ cs.2 + ms ≤ (xR X).slots) {bb : Nat} (hrecv : ∃ cell : Cell, H[bb]? = some cell ∧ cell.vm.isStatics = false ∧ (xs X).vm.findClass RX0 = some cell.cls) (hPc : ∀ U : State, U.heap = H → (xs X).WarmedH U.vm → Pc [Value.ref bb].toArray U) (hl : lv_has ls 4 lv) :
    va_Run (xp X) (xl X) (xe X) (xR X) (xs X) (xm X) (xa X) (xb X) (xt X) (xc X) H locs cs.1 cs.2 mc ms (F0 (xm X) 201 ls [.ref bb]) [] (Qc [Value.ref bb].toArray) free := by
  have hfr : (rmX0_plain mc ms).frames + 1 ≤ (xR X).frames := by rw [F.room]; exact fm_le rfl
  have hlo : 8 + (3 + 11) + (rmX0_plain mc ms).locals ≤ (xR X).locals := by rw [F.room]; exact fm_le rfl
  have hK : Back (xl X) (xR X) (xp X) (xe X) (xb X) (xs X) (xa X) yX0_plain 3 8 (PreOf (xR X) mc ms Pc) (PostOf Qc mc ms free) := va_backW (bytes := cX0_plain) (maxL := 3) (ret := some .int) (hh := [(0, 12, 15, 115)]) hM hbl rfl rfl hfr hlo (pay_in F.words (lw_methW q349)) List.mem_cons_self (pay_in F.words lw_self _ q39)
  obtain ⟨cellB, hcB, hoB, hclB⟩ := hrecv
  have hlen : ∀ sig, parseMethodDescriptor yX0_plain.desc = some sig → ([] : List Value).length = sig.parameters.length := fun sig h => by
    have h2 : (parseMethodDescriptor yX0_plain.desc).map (fun d => d.parameters.length) = some 0 := by decide +kernel
    rw [h] at h2
    exact (Option.some.inj h2).symm
  intro T hT Z
  obtain ⟨v, vm₁, ⟨U', l2, c2, s2⟩, hW₁, X', ⟨g', mk, t, Lo, e1, e2, hq, h1, hL, h2, h3⟩, st⟩ := pw_callVW Z F.exec (own := R_law) (C := RX0) (bytes := cX0_plain) (maxL := 3) (ret := some .int) (hh := [(0, 12, 15, 115)]) F.ownC (F.words _ q346) (F.words _ q347) (F.words _ q348) (F.words _ q349) (by decide +kernel) hK (by rw [hT]; exact hcB) hoB hclB (g := F0 (xm X) 201 ls [.ref bb]) rfl (hl.1.trans F.maxL.symm) (argsL := []) (rest := []) hlen rfl (by show 2 * 0 + 0 ≤ 8; omega) (by rw [F.bytes]; exact dL_law_201)
    (fun vm₁ hW₁ => ⟨hf.1, hf.2, hPc (T.setVm vm₁) hT hW₁⟩)
  dsimp only [Pt.U, Pt.locs, Pt.cells, Pt.slots] at X' e1 e2 h1 h2 h3 st
  subst h1; subst h2; subst h3
  exact ⟨v, (T.setVm vm₁).calling g' mk [Value.ref bb].toArray, t, U', Lo, hT, X', hL, e1, e2, hq, st⟩
/-- behind any case -/
def lz_KP (X : fm_X) (D : va_G) (dA : Nat → ClassId) (a0 : Nat) (adR : Nat → Nat) (cs : Nat × Nat) (ls : Array Slot) : Prop := ∀ (N bk q : Nat) (adC : Nat → Nat) (C' R' : fm_M) (H1 : Heap) (locs1 : List Loc), N = 193 + 22 * q → fm_isBk N bk → lz_W X (YC D dA N adC bk) → lz_D (YC D dA N adC bk) (YM D dA adR) → adC 0 = a0 → pb_R bk C' R' → fm_P (YC D dA N adC bk) C' H1 → fm_P (YM D dA adR) R' H1 → va_S (lz_A X) (xs X).heap H1 locs1 → W (xp X) (xl X) (xe X) (xR X) (xs X) (xm X) (xa X) (xb X) (xt X) (xc X) H1 locs1 cs.1 cs.2 (xQ X) (F0 (xm X) 882 ls [])
theorem lz_c2 (F : lz_F X D dA b L sc) (hwC : lz_W X (YC D dA N adC bk)) (hwR : lz_W X (YM D dA adR)) (hd : lz_D (YC D dA N adC bk) (YM D dA adR)) (hN : N = 193 + 22 * q) (hb : fm_isBk N bk) (hR : pb_R bk C R) (hcs : cs.1 + 23 ≤ 608630 ∧ cs.2 + 144 ≤ 7270213) (hP1 : fm_P (YC D dA N adC bk) C H) (hP2 : fm_P (YM D dA adR) R H) (hS : va_S (lz_A X) (xs X).heap H locs) (hl : lv_has ls 4 [(3, .int (nI i)), (2, .ref (adR 0)), (1, .ref (adC 0)), (0, .ref b)]) (kk : lz_KP X D dA (adC 0) adR (cs.1 + 23, cs.2 + 144) ls) : W (xp X) (xl X) (xe X) (xR X) (xs X) (xm X) (xa X) (xb X) (xt X) (xc X) H locs cs.1 cs.2 (xQ X) (F0 (xm X) 200 ls []) := by
  have hN1 : 193 ≤ N := by omega
  have hbN : bk + 21 ≤ N := by
    rcases hb with ⟨h1, h2⟩ | ⟨q, h1, h2⟩ <;> omega
  have hrc : (xR X).cells = 608630 := by rw [F.room]; rfl
  have hrs : (xR X).slots = 7270213 := by rw [F.room]; rfl
  have hbf := lz_bf hR
  have hM := lz_pM hR hN1 hbN
  refine lv_aload_n F.exec F.bytes dL_law_200 rfl (lv_at hl 2 rfl) ?_
  have hrecv : ∃ cell : Cell, H[adC 0]? = some cell ∧ cell.vm.isStatics = false ∧ (xs X).vm.findClass RX0 = some cell.cls := va_recv F.kn hP1 (ci := 0) (q := (RX0, TX0, 19)) rfl (q0 := 0) (by rw [fm_ws_get (by show 0 < N; omega)]; rfl)
  rcases pb_plain (n := 50000) hM hN1 hbN (fun c h1 h2 j => by show (if N ≤ c ∧ c < N + 22 then fun _ => (0 : Int32) else C.1 c) j = nI 0; rw [if_pos ⟨h1, h2⟩, nI_0]) (by decide) with ⟨st, C', R', hr, hg, hR'⟩ | ⟨C1, C2, C3, R', it, hr, hbg, hfl, hit, hg, hR'⟩
  · have hmet := mX0_plainB (l := xl X) (D := D) (dA := dA) (ad := adC) hN hb hbf (lz_bf hR') hwC.1 hr H.size
    refine lz_ran (Y := YC D dA N adC bk) (Y2 := YM D dA adR) (r := some (.int (-10 - nI st))) (P' := fm_P (YC D dA N adC bk) C') (mc := 23) (ms := 144) hwC hd hP2 hS (lz_runPl F hmet fm_blind ⟨by rw [hrc]; exact hcs.1, by rw [hrs]; exact hcs.2⟩ hrecv (lz_pre (Y := YC D dA N adC bk) (av := [.ref (adC 0)]) F hwC hP1 hS) hl) (fun H locs hP1 hP2 hS => ?_)
    refine lv_aload_n F.exec F.bytes dL_law_204 rfl (lv_at hl 1 rfl) ?_
    refine lz_callV (cs := (cs.1 + 23, cs.2 + 144)) (Y := YM D dA adR) (Y2 := YC D dA N adC bk) (As := []) (rest := [.int (-10 - nI st)]) F hwR hd.symm 0 (by show 0 < 20; omega) rfl (ci := 9) rfl (mX9_plain hwR.1 hg) q894 q895 q896 q50 q897 ⟨rfl, rfl⟩ (n := 0) (by decide +kernel) ⟨fm_le rfl, fm_le rfl⟩ hcs rfl rfl (fm_le rfl) dL_law_205 hP2 hP1 hS hl (fun H locs hP2 hP1 hS => ?_)
    exact lv_icmp_eq (tgt := 882) F.exec F.bytes dL_law_208 (by decide) (fun _ => kk N bk q adC C' R' H locs hN hb hwC hd rfl hR' hP1 hP2 hS) (fun h => absurd (by rw [← pb_l10]) h)
  · rw [nI_0] at hfl hR'
    have hmet := mX0_plainG (l := xl X) (D := D) (dA := dA) (ad := adC) hN hb hbf hwC.1 hr hbg hfl hit H.size
    have hlo : ∀ i, i < N → adC i < H.size := fun i hi => pw_lt (Y := YC D dA N adC bk) hP1 hi
    have hlR : ∀ i, i < 20 → adR i < H.size := fun i hi => pw_lt (Y := YM D dA adR) hP2 hi
    have hsz := hS.1
    refine lz_ran (Y := YC D dA N adC bk) (Y2 := YM D dA adR) (r := some (.int (nI it))) (P' := fm_P (YC D dA (N + 22) (pw_ad N H.size adC) (N + 1)) (fm_wr C3 0 10 0)) (mc := 22) (ms := 137) hwC hd hP2 hS (lz_runPl F hmet fm_blind ⟨by rw [hrc]; omega, by rw [hrs]; omega⟩ hrecv (lz_pre (Y := YC D dA N adC bk) (av := [.ref (adC 0)]) F hwC hP1 hS) hl) (fun H1 locs1 hQ1 hQ2 hQS => ?_)
    have hwC' : lz_W X (YC D dA (N + 22) (pw_ad N H.size adC) (N + 1)) := by
      refine ⟨pw_inj hwC.1 hlo, fun i hi => ?_⟩
      show (xs X).heap.size ≤ pw_ad N H.size adC i
      unfold pw_ad
      by_cases h : i < N
      · rw [if_pos h]; exact hwC.2 i h
      · rw [if_neg h]; exact Nat.le_trans hsz (Nat.le_add_right _ _)
    have hd' : lz_D (YC D dA (N + 22) (pw_ad N H.size adC) (N + 1)) (YM D dA adR) := by
      intro i j hi hj e
      have e : pw_ad N H.size adC i = adR j := e
      unfold pw_ad at e
      by_cases h : i < N
      · rw [if_pos h] at e
        exact hd i j h hj e
      · rw [if_neg h] at e
        have := hlR j hj
        omega
    have h0 : pw_ad N H.size adC 0 = adC 0 := if_pos (by omega)
    refine W.widen (k := cs.1 + 23) (n := cs.2 + 144) (by omega) (by omega) ?_
    refine lv_aload_n F.exec F.bytes dL_law_204 rfl (lv_at hl 1 rfl) ?_
    refine lz_callV (cs := (cs.1 + 23, cs.2 + 144)) (Y := YM D dA adR) (Y2 := YC D dA (N + 22) (pw_ad N H.size adC) (N + 1)) (As := []) (rest := [.int (nI it)]) F hwR hd'.symm 0 (by show 0 < 20; omega) rfl (ci := 9) rfl (mX9_plain hwR.1 hg) q894 q895 q896 q50 q897 ⟨rfl, rfl⟩ (n := 0) (by decide +kernel) ⟨fm_le rfl, fm_le rfl⟩ hcs rfl rfl (fm_le rfl) dL_law_205 hQ2 hQ1 hQS hl (fun H2 locs2 hP2 hP1 hS => ?_)
    exact lv_icmp_eq (tgt := 882) F.exec F.bytes dL_law_208 (by decide) (fun _ => kk (N + 22) (N + 1) (q + 1) (pw_ad N H.size adC) _ R' H2 locs2 (by omega) (Or.inr ⟨q, by omega, by omega⟩) hwC' hd' h0 hR' hP1 hP2 hS) (fun h => absurd rfl h)
end LZP
