/-! the law's loop -/
set_option maxRecDepth 100000
theorem lz_and31 (x : Int32) : ∃ k, k < 32 ∧ x &&& 31 = nI k := by
  refine ⟨(x &&& 31).toBitVec.toNat, ?_, ?_⟩
  · have h : (x &&& 31).toBitVec = x.toBitVec &&& 31#32 := rfl
    rw [h, BitVec.toNat_and]
    exact Nat.lt_of_le_of_lt Nat.and_le_right (by decide)
  · apply Int32.toBitVec_inj.mp
    show _ = BitVec.ofNat 32 _
    rw [BitVec.ofNat_toNat, BitVec.setWidth_eq]
theorem lz_gt {L i : Nat} (hL : L ≤ 256) (hi : i ≤ 256) : Int32.ofNat L - 4 < nI i ↔ L < i + 4 := by
  rw [Int32.lt_iff_toInt_lt, Int32.toInt_sub, nI_toInt (by omega)]
  have h1 : (Int32.ofNat L).toInt = (L : Int) := nI_toInt (n := L) (by omega)
  have h2 : (4 : Int32).toInt = 4 := by decide
  rw [h1, h2]
  unfold Int.bmod
  simp only
  split <;> omega
section LZLO
variable {X : fm_X} {D : va_G} {dA : Nat → ClassId} {b L : Nat} {sc : Nat → Int32} {adR : Nat → Nat}
set_option maxHeartbeats 4000000 in
theorem lz_loop (F : lz_F X D dA b L sc) (hwR : lz_W X (YM D dA adR)) (hL : L ≤ 256) : ∀ (k t N bk q : Nat) (adC : Nat → Nat) (C R : fm_M) (H : Heap) (locs : List Loc) (ls : Array Slot), L ≤ 4 * t + 4 * k → 4 * t ≤ L → N = 193 + 22 * q → fm_isBk N bk → lz_W X (YC D dA N adC bk) → lz_D (YC D dA N adC bk) (YM D dA adR) → pb_R bk C R → fm_P (YC D dA N adC bk) C H → fm_P (YM D dA adR) R H → va_S (lz_A X) (xs X).heap H locs → lv_has ls 4 [(3, .int (nI (4 * t))), (2, .ref (adR 0)), (1, .ref (adC 0)), (0, .ref b)] → W (xp X) (xl X) (xe X) (xR X) (xs X) (xm X) (xa X) (xb X) (xt X) (xc X) H locs (300 + 23 * t) (3000 + 144 * t) (xQ X) (F0 (xm X) 18 ls []) := by
  intro k
  induction k with
  | zero =>
    intro t N bk q adC C R H locs ls hk ht hN hb hwC hd hR hP1 hP2 hS hl
    refine lv_iload_n F.exec F.bytes dL_law_18 rfl (lv_at hl 0 rfl) ?_
    refine lv_aload_n F.exec F.bytes dL_law_19 rfl (lv_at hl 3 rfl) ?_
    refine va_slen F.exec F.bytes F.scr F.blt F.bA hS dL_law_20 ?_
    refine lv_iconst (v := 4) F.exec F.bytes dL_law_21 (by decide) ?_
    refine lv_isub F.exec F.bytes dL_law_22 ?_
    refine lv_icmp_gt (tgt := 888) F.exec F.bytes dL_law_23 (by decide) (fun _ => ?_) (fun h => absurd ((lz_gt hL (by omega)).mpr (by omega)) h)
    refine lv_iconst (v := 1) F.exec F.bytes dL_law_888 (by decide) ?_
    refine va_forget (fun q hq => hS.2.2 q hq) ?_
    refine W.widen (k := 608630) (n := 7270213) (by omega) (by omega) ?_
    rw [F.goal, F.room, F.args]
    exact lw_ret F.exec F.bytes F.rets F.locks dL_law_889
  | succ k ih =>
    intro t N bk q adC C R H locs ls hk ht hN hb hwC hd hR hP1 hP2 hS hl
    refine lv_iload_n F.exec F.bytes dL_law_18 rfl (lv_at hl 0 rfl) ?_
    refine lv_aload_n F.exec F.bytes dL_law_19 rfl (lv_at hl 3 rfl) ?_
    refine va_slen F.exec F.bytes F.scr F.blt F.bA hS dL_law_20 ?_
    refine lv_iconst (v := 4) F.exec F.bytes dL_law_21 (by decide) ?_
    refine lv_isub F.exec F.bytes dL_law_22 ?_
    refine lv_icmp_gt (tgt := 888) F.exec F.bytes dL_law_23 (by decide) (fun _ => ?_) (fun hc => ?_)
    · refine lv_iconst (v := 1) F.exec F.bytes dL_law_888 (by decide) ?_
      refine va_forget (fun q hq => hS.2.2 q hq) ?_
      refine W.widen (k := 608630) (n := 7270213) (by omega) (by omega) ?_
      rw [F.goal, F.room, F.args]
      exact lw_ret F.exec F.bytes F.rets F.locks dL_law_889
    have hle : ¬ L < 4 * t + 4 := fun h => hc ((lz_gt hL (by omega)).mpr h)
    have hi : 4 * t + 3 < L := by omega
    have hN1 : 193 ≤ N := by omega
    have KP : lz_KP X D dA (adC 0) adR (300 + 23 * t + 23, 3000 + 144 * t + 144) ls := by
      intro N' bk' q' adC' C' R' H1 locs1 hN' hb' hw' hd' h0 hR' g1 g2 g3
      refine lv_iinc (v := nI (4 * (t + 1))) (lv' := [(3, .int (nI (4 * (t + 1)))), (2, .ref (adR 0)), (1, .ref (adC 0)), (0, .ref b)]) F.exec F.bytes dL_law_882 hl (k := 0) rfl (by rw [show Int32.ofInt 4 = nI 4 from rfl, nI_add]; rfl) (by decide) rfl (fun ls' hl' => ?_)
      refine lv_goto (tgt := 18) F.exec F.bytes dL_law_885 (by decide) ?_
      rw [← h0] at hl'
      exact ih (t + 1) N' bk' q' adC' C' R' H1 locs1 ls' (by omega) (by omega) hN' hb' hw' hd' hR' g1 g2 g3 hl'
    have K : lz_K X D dA N bk adC adR (300 + 23 * t, 3000 + 144 * t) ls := by
      intro C' R' H1 locs1 hR' g1 g2 g3
      refine W.widen (k := 300 + 23 * t + 23) (n := 3000 + 144 * t + 144) (by show 300 + 23 * t ≤ _; omega) (by show 3000 + 144 * t ≤ _; omega) ?_
      exact KP N bk q adC C' R' H1 locs1 hN hb hwC hd rfl hR' g1 g2 g3
    have hcs : (300 + 23 * t, 3000 + 144 * t).1 ≤ 608630 ∧ (300 + 23 * t, 3000 + 144 * t).2 ≤ 7270213 := ⟨by show 300 + 23 * t ≤ _; omega, by show 3000 + 144 * t ≤ _; omega⟩
    refine lv_aload_n F.exec F.bytes dL_law_26 rfl (lv_at hl 3 rfl) ?_
    refine lv_iload_n F.exec F.bytes dL_law_27 rfl (lv_at hl 0 rfl) ?_
    refine va_sld F.exec F.bytes F.scr F.blt F.bA hS (vp_in_nI (by omega) (by omega)) dL_law_28 ?_
    refine lv_bipush (v := 31) F.exec F.bytes dL_law_29 (by decide) ?_
    refine lv_iand F.exec F.bytes dL_law_31 ?_
    obtain ⟨j, hj, ej⟩ := lz_and31 (sc (nI (4 * t)).toNatClampNeg)
    rw [ej]
    by_cases h29 : 29 ≤ j
    · refine lv_tableOut (tgt := 882) F.exec F.bytes dL_law_32 (Or.inr (by rw [nI_toInt (by omega)]; omega)) (by decide) ?_
      exact K C R H locs hR hP1 hP2 hS
    match j, h29 with
    | 0, _ => exact lv_tableIn (tgt := 164) (off := 132) F.exec F.bytes dL_law_32 (by decide +kernel) (by decide +kernel) (by decide +kernel) (by decide) (lz_c0 (cs := (300 + 23 * t, 3000 + 144 * t)) F hwC hwR hd hN1 hb hR hi hL hcs hP1 hP2 hS hl K)
    | 1, _ => exact lv_tableIn (tgt := 187) (off := 155) F.exec F.bytes dL_law_32 (by decide +kernel) (by decide +kernel) (by decide +kernel) (by decide) (lz_c1 (cs := (300 + 23 * t, 3000 + 144 * t)) F hwC hwR hd hN1 hb hR hi hL hcs hP1 hP2 hS hl K)
    | 2, _ => exact lv_tableIn (tgt := 200) (off := 168) F.exec F.bytes dL_law_32 (by decide +kernel) (by decide +kernel) (by decide +kernel) (by decide) (lz_c2 (cs := (300 + 23 * t, 3000 + 144 * t)) F hwC hwR hd hN hb hR ⟨by show 300 + 23 * t + 23 ≤ _; omega, by show 3000 + 144 * t + 144 ≤ _; omega⟩ hP1 hP2 hS hl KP)
    | 3, _ => exact lv_tableIn (tgt := 213) (off := 181) F.exec F.bytes dL_law_32 (by decide +kernel) (by decide +kernel) (by decide +kernel) (by decide) (lz_c3 (cs := (300 + 23 * t, 3000 + 144 * t)) F hwC hwR hd hN1 hb hR hi hL hcs hP1 hP2 hS hl K)
    | 4, _ => exact lv_tableIn (tgt := 246) (off := 214) F.exec F.bytes dL_law_32 (by decide +kernel) (by decide +kernel) (by decide +kernel) (by decide) (lz_c4 (cs := (300 + 23 * t, 3000 + 144 * t)) F hwC hwR hd hN1 hb hR hi hL hcs hP1 hP2 hS hl K)
    | 5, _ => exact lv_tableIn (tgt := 279) (off := 247) F.exec F.bytes dL_law_32 (by decide +kernel) (by decide +kernel) (by decide +kernel) (by decide) (lz_c5 (cs := (300 + 23 * t, 3000 + 144 * t)) F hwC hwR hd hN1 hb hR hi hL hcs hP1 hP2 hS hl K)
    | 6, _ => exact lv_tableIn (tgt := 312) (off := 280) F.exec F.bytes dL_law_32 (by decide +kernel) (by decide +kernel) (by decide +kernel) (by decide) (lz_c6 (cs := (300 + 23 * t, 3000 + 144 * t)) F hwC hwR hd hN1 hb hR hi hL hcs hP1 hP2 hS hl K)
    | 7, _ => exact lv_tableIn (tgt := 345) (off := 313) F.exec F.bytes dL_law_32 (by decide +kernel) (by decide +kernel) (by decide +kernel) (by decide) (lz_c7 (cs := (300 + 23 * t, 3000 + 144 * t)) F hwC hwR hd hN1 hb hR hi hL hcs hP1 hP2 hS hl K)
    | 8, _ => exact lv_tableIn (tgt := 368) (off := 336) F.exec F.bytes dL_law_32 (by decide +kernel) (by decide +kernel) (by decide +kernel) (by decide) (lz_c8 (cs := (300 + 23 * t, 3000 + 144 * t)) F hwC hwR hd hN1 hb hR hi hL hcs hP1 hP2 hS hl K)
    | 9, _ => exact lv_tableIn (tgt := 391) (off := 359) F.exec F.bytes dL_law_32 (by decide +kernel) (by decide +kernel) (by decide +kernel) (by decide) (lz_c9 (cs := (300 + 23 * t, 3000 + 144 * t)) F hwC hwR hd hN1 hb hR hi hL hcs hP1 hP2 hS hl K)
    | 10, _ => exact lv_tableIn (tgt := 424) (off := 392) F.exec F.bytes dL_law_32 (by decide +kernel) (by decide +kernel) (by decide +kernel) (by decide) (lz_c10 (cs := (300 + 23 * t, 3000 + 144 * t)) F hwC hwR hd hN1 hb hR hi hL hcs hP1 hP2 hS hl K)
    | 11, _ => exact lv_tableIn (tgt := 457) (off := 425) F.exec F.bytes dL_law_32 (by decide +kernel) (by decide +kernel) (by decide +kernel) (by decide) (lz_c11 (cs := (300 + 23 * t, 3000 + 144 * t)) F hwC hwR hd hN1 hb hR hi hL hcs hP1 hP2 hS hl K)
    | 12, _ => exact lv_tableIn (tgt := 470) (off := 438) F.exec F.bytes dL_law_32 (by decide +kernel) (by decide +kernel) (by decide +kernel) (by decide) (lz_c12 (cs := (300 + 23 * t, 3000 + 144 * t)) F hwC hwR hd hN1 hb hR hi hL hcs hP1 hP2 hS hl K)
    | 13, _ => exact lv_tableIn (tgt := 513) (off := 481) F.exec F.bytes dL_law_32 (by decide +kernel) (by decide +kernel) (by decide +kernel) (by decide) (lz_c13 (cs := (300 + 23 * t, 3000 + 144 * t)) F hwC hwR hd hN1 hb hR hi hL hcs hP1 hP2 hS hl K)
    | 14, _ => exact lv_tableIn (tgt := 536) (off := 504) F.exec F.bytes dL_law_32 (by decide +kernel) (by decide +kernel) (by decide +kernel) (by decide) (lz_c14 (cs := (300 + 23 * t, 3000 + 144 * t)) F hwC hwR hd hN1 hb hR hi hL hcs hP1 hP2 hS hl K)
    | 15, _ => exact lv_tableIn (tgt := 559) (off := 527) F.exec F.bytes dL_law_32 (by decide +kernel) (by decide +kernel) (by decide +kernel) (by decide) (lz_c15 (cs := (300 + 23 * t, 3000 + 144 * t)) F hwC hwR hd hN1 hb hR hi hL hcs hP1 hP2 hS hl K)
    | 16, _ => exact lv_tableIn (tgt := 582) (off := 550) F.exec F.bytes dL_law_32 (by decide +kernel) (by decide +kernel) (by decide +kernel) (by decide) (lz_c16 (cs := (300 + 23 * t, 3000 + 144 * t)) F hwC hwR hd hN1 hb hR hi hL hcs hP1 hP2 hS hl K)
    | 17, _ => exact lv_tableIn (tgt := 605) (off := 573) F.exec F.bytes dL_law_32 (by decide +kernel) (by decide +kernel) (by decide +kernel) (by decide) (lz_c17 (cs := (300 + 23 * t, 3000 + 144 * t)) F hwC hwR hd hN1 hb hR hi hL hcs hP1 hP2 hS hl K)
    | 18, _ => exact lv_tableIn (tgt := 618) (off := 586) F.exec F.bytes dL_law_32 (by decide +kernel) (by decide +kernel) (by decide +kernel) (by decide) (lz_c18 (cs := (300 + 23 * t, 3000 + 144 * t)) F hwC hwR hd hN1 hb hR hi hL hcs hP1 hP2 hS hl K)
    | 19, _ => exact lv_tableIn (tgt := 641) (off := 609) F.exec F.bytes dL_law_32 (by decide +kernel) (by decide +kernel) (by decide +kernel) (by decide) (lz_c19 (cs := (300 + 23 * t, 3000 + 144 * t)) F hwC hwR hd hN1 hb hR hi hL hcs hP1 hP2 hS hl K)
    | 20, _ => exact lv_tableIn (tgt := 674) (off := 642) F.exec F.bytes dL_law_32 (by decide +kernel) (by decide +kernel) (by decide +kernel) (by decide) (lz_c20 (cs := (300 + 23 * t, 3000 + 144 * t)) F hwC hwR hd hN1 hb hR hi hL hcs hP1 hP2 hS hl K)
    | 21, _ => exact lv_tableIn (tgt := 707) (off := 675) F.exec F.bytes dL_law_32 (by decide +kernel) (by decide +kernel) (by decide +kernel) (by decide) (lz_c21 (cs := (300 + 23 * t, 3000 + 144 * t)) F hwC hwR hd hN1 hb hR hi hL hcs hP1 hP2 hS hl K)
    | 22, _ => exact lv_tableIn (tgt := 720) (off := 688) F.exec F.bytes dL_law_32 (by decide +kernel) (by decide +kernel) (by decide +kernel) (by decide) (lz_c22 (cs := (300 + 23 * t, 3000 + 144 * t)) F hwC hwR hd hN1 hb hR hi hL hcs hP1 hP2 hS hl K)
    | 23, _ => exact lv_tableIn (tgt := 743) (off := 711) F.exec F.bytes dL_law_32 (by decide +kernel) (by decide +kernel) (by decide +kernel) (by decide) (lz_c23 (cs := (300 + 23 * t, 3000 + 144 * t)) F hwC hwR hd hN1 hb hR hi hL hcs hP1 hP2 hS hl K)
    | 24, _ => exact lv_tableIn (tgt := 766) (off := 734) F.exec F.bytes dL_law_32 (by decide +kernel) (by decide +kernel) (by decide +kernel) (by decide) (lz_c24 (cs := (300 + 23 * t, 3000 + 144 * t)) F hwC hwR hd hN1 hb hR hi hL hcs hP1 hP2 hS hl K)
    | 25, _ => exact lv_tableIn (tgt := 799) (off := 767) F.exec F.bytes dL_law_32 (by decide +kernel) (by decide +kernel) (by decide +kernel) (by decide) (lz_c25 (cs := (300 + 23 * t, 3000 + 144 * t)) F hwC hwR hd hN1 hb hR hi hL hcs hP1 hP2 hS hl K)
    | 26, _ => exact lv_tableIn (tgt := 822) (off := 790) F.exec F.bytes dL_law_32 (by decide +kernel) (by decide +kernel) (by decide +kernel) (by decide) (lz_c26 (cs := (300 + 23 * t, 3000 + 144 * t)) F hwC hwR hd hN1 hb hR hi hL hcs hP1 hP2 hS hl K)
    | 27, _ => exact lv_tableIn (tgt := 845) (off := 813) F.exec F.bytes dL_law_32 (by decide +kernel) (by decide +kernel) (by decide +kernel) (by decide) (lz_c27 (cs := (300 + 23 * t, 3000 + 144 * t)) F hwC hwR hd hN1 hb hR hi hL hcs hP1 hP2 hS hl K)
    | 28, _ => exact lv_tableIn (tgt := 868) (off := 836) F.exec F.bytes dL_law_32 (by decide +kernel) (by decide +kernel) (by decide +kernel) (by decide) (lz_c28 (cs := (300 + 23 * t, 3000 + 144 * t)) F hwC hwR hd hN1 hb hR hi hL hcs hP1 hP2 hS hl K)
    | j + 29, h => exact absurd (by omega) h
end LZLO
