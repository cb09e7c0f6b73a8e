/-! the law's cases -/
set_option maxRecDepth 100000
theorem lz_in {i k L : Nat} (h : i + k < L) (hL : L ≤ 256) {v : Int32} (hv : v = nI k) : vp_in (nI i + v) L := by
  rw [hv, nI_add]
  exact vp_in_nI h (by omega)
section LZL
variable {p : Program} {l : Launch} {e : Env} {R : Room} {s : State} {m : MethodId} {args : Array Value} {below : List Frame} {meth : Method} {c : Code} {H : Heap} {locs : List Loc} {cells slots : Nat} {Q : State → Prop} {cc : ByteArray} {pc : Nat} {ls : Array Slot} {rest : List Value}
/-- two equal longs -/
theorem lz_lcmp (hexec : p.tables.exec = Jvm.exec) (hb : c.code = cc) {x : Int64} (hdg : decode cc pc = .ok (.lcmp, 1)) 
    (k : W p l e R s m args below meth c H locs cells slots Q (F0 m (pc + 1) ls (.int 0 :: rest))) : W p l e R s m args below meth c H locs cells slots Q (F0 m pc ls (.long x :: .long x :: rest)) := by
  intro T hT X
  obtain ⟨t, a, b⟩ := k T hT X
  refine ⟨t, ?_, b⟩
  jvm_step X.here [X.here.top, hexec, hb, hdg]
  exact a
end LZL
section LZC
variable {X : fm_X} {D : va_G} {dA : Nat → ClassId} {b L : Nat} {sc : Nat → Int32} {N bk i : Nat} {C R : fm_M} {adC adR : Nat → Nat} {H : Heap} {locs : List Loc} {ls : Array Slot} {cs : Nat × Nat}
/-- behind a case -/
def lz_K (X : fm_X) (D : va_G) (dA : Nat → ClassId) (N bk : Nat) (adC adR : Nat → Nat) (cs : Nat × Nat) (ls : Array Slot) : Prop := ∀ (C' R' : fm_M) (H1 : Heap) (locs1 : List Loc), pb_R bk C' R' → fm_P (YC D dA N adC bk) C' H1 → fm_P (YM D dA adR) R' H1 → va_S (lz_A X) (xs X).heap H1 locs1 → W (xp X) (xl X) (xe X) (xR X) (xs X) (xm X) (xa X) (xb X) (xt X) (xc X) H1 locs1 cs.1 cs.2 (xQ X) (F0 (xm X) 882 ls [])
theorem lz_c0 (F : lz_F X D dA b L sc) (hwC : lz_W X (YC D dA N adC bk)) (hwR : lz_W X (YM D dA adR)) (hd : lz_D (YC D dA N adC bk) (YM D dA adR)) (hN : 193 ≤ N) (hb : fm_isBk N bk) (hR : pb_R bk C R) (hi : i + 3 < L) (hL : L ≤ 256) (hcs : cs.1 ≤ 608630 ∧ cs.2 ≤ 7270213) (hP1 : fm_P (YC D dA N adC bk) C H) (hP2 : fm_P (YM D dA adR) R H) (hS : va_S (lz_A X) (xs X).heap H locs) (hl : lv_has ls 4 [(3, .int (nI i)), (2, .ref (adR 0)), (1, .ref (adC 0)), (0, .ref b)]) (kk : lz_K X D dA N bk adC adR cs ls) : W (xp X) (xl X) (xe X) (xR X) (xs X) (xm X) (xa X) (xb X) (xt X) (xc X) H locs cs.1 cs.2 (xQ X) (F0 (xm X) 164 ls []) := by
  obtain ⟨r, C', R', hf, hg, hR'⟩ := pb_type (n := 50000) hR (sc (nI i + 1).toNatClampNeg)
  refine lv_aload_n F.exec F.bytes dL_law_164 rfl (lv_at hl 2 rfl) ?_
  refine lv_aload_n F.exec F.bytes dL_law_165 rfl (lv_at hl 3 rfl) ?_
  refine lv_iload_n F.exec F.bytes dL_law_166 rfl (lv_at hl 0 rfl) ?_
  refine lv_iconst (v := 1) F.exec F.bytes dL_law_167 (by decide) ?_
  refine lv_iadd F.exec F.bytes dL_law_168 ?_
  refine va_sld F.exec F.bytes F.scr F.blt F.bA hS (lz_in (k := 1) (by omega) hL rfl) dL_law_169 ?_
  refine lz_callV (Y := YC D dA N adC bk) (Y2 := YM D dA adR) (As := [.int (sc (nI i + 1).toNatClampNeg)]) (rest := []) F hwC hd 0 (by show 0 < N; omega) rfl (ci := 0) rfl (mX0_type hN hb hwC.1 hf) q335 q336 q337 q39 q338 ⟨rfl, rfl⟩ (n := 1) (by decide +kernel) ⟨fm_le rfl, fm_le rfl⟩ hcs rfl rfl (fm_le rfl) dL_law_170 hP1 hP2 hS hl (fun H locs hP1 hP2 hS => ?_)
  refine lv_aload_n F.exec F.bytes dL_law_173 rfl (lv_at hl 1 rfl) ?_
  refine lv_aload_n F.exec F.bytes dL_law_174 rfl (lv_at hl 3 rfl) ?_
  refine lv_iload_n F.exec F.bytes dL_law_175 rfl (lv_at hl 0 rfl) ?_
  refine lv_iconst (v := 1) F.exec F.bytes dL_law_176 (by decide) ?_
  refine lv_iadd F.exec F.bytes dL_law_177 ?_
  refine va_sld F.exec F.bytes F.scr F.blt F.bA hS (lz_in (k := 1) (by omega) hL rfl) dL_law_178 ?_
  refine lz_callV (Y := YM D dA adR) (Y2 := YC D dA N adC bk) (As := [.int (sc (nI i + 1).toNatClampNeg)]) (rest := [.int r]) F hwR hd.symm 0 (by show 0 < 20; omega) rfl (ci := 9) rfl (mX9_type hwR.1 hg) q883 q884 q885 q50 q886 ⟨rfl, rfl⟩ (n := 1) (by decide +kernel) ⟨fm_le rfl, fm_le rfl⟩ hcs rfl rfl (fm_le rfl) dL_law_179 hP2 hP1 hS hl (fun H locs hP2 hP1 hS => ?_)
  exact lv_icmp_eq (tgt := 882) F.exec F.bytes dL_law_182 (by decide) (fun _ => kk C' R' H locs hR' hP1 hP2 hS) (fun h => absurd rfl h)
theorem lz_c1 (F : lz_F X D dA b L sc) (hwC : lz_W X (YC D dA N adC bk)) (hwR : lz_W X (YM D dA adR)) (hd : lz_D (YC D dA N adC bk) (YM D dA adR)) (hN : 193 ≤ N) (hb : fm_isBk N bk) (hR : pb_R bk C R) (hi : i + 3 < L) (hL : L ≤ 256) (hcs : cs.1 ≤ 608630 ∧ cs.2 ≤ 7270213) (hP1 : fm_P (YC D dA N adC bk) C H) (hP2 : fm_P (YM D dA adR) R H) (hS : va_S (lz_A X) (xs X).heap H locs) (hl : lv_has ls 4 [(3, .int (nI i)), (2, .ref (adR 0)), (1, .ref (adC 0)), (0, .ref b)]) (kk : lz_K X D dA N bk adC adR cs ls) : W (xp X) (xl X) (xe X) (xR X) (xs X) (xm X) (xa X) (xb X) (xt X) (xc X) H locs cs.1 cs.2 (xQ X) (F0 (xm X) 187 ls []) := by
  obtain ⟨r, C', R', hf, hg, hR'⟩ := pb_clear (n := 50000) hR 
  refine lv_aload_n F.exec F.bytes dL_law_187 rfl (lv_at hl 2 rfl) ?_
  refine lz_callV (Y := YC D dA N adC bk) (Y2 := YM D dA adR) (As := []) (rest := []) F hwC hd 0 (by show 0 < N; omega) rfl (ci := 0) rfl (mX0_clear hN hb hwC.1 hf) q342 q343 q344 q39 q345 ⟨rfl, rfl⟩ (n := 0) (by decide +kernel) ⟨fm_le rfl, fm_le rfl⟩ hcs rfl rfl (fm_le rfl) dL_law_188 hP1 hP2 hS hl (fun H locs hP1 hP2 hS => ?_)
  refine lv_aload_n F.exec F.bytes dL_law_191 rfl (lv_at hl 1 rfl) ?_
  refine lz_callV (Y := YM D dA adR) (Y2 := YC D dA N adC bk) (As := []) (rest := [.int r]) F hwR hd.symm 0 (by show 0 < 20; omega) rfl (ci := 9) rfl (mX9_clear hwR.1 hg) q890 q891 q892 q50 q893 ⟨rfl, rfl⟩ (n := 0) (by decide +kernel) ⟨fm_le rfl, fm_le rfl⟩ hcs rfl rfl (fm_le rfl) dL_law_192 hP2 hP1 hS hl (fun H locs hP2 hP1 hS => ?_)
  exact lv_icmp_eq (tgt := 882) F.exec F.bytes dL_law_195 (by decide) (fun _ => kk C' R' H locs hR' hP1 hP2 hS) (fun h => absurd rfl h)
theorem lz_c3 (F : lz_F X D dA b L sc) (hwC : lz_W X (YC D dA N adC bk)) (hwR : lz_W X (YM D dA adR)) (hd : lz_D (YC D dA N adC bk) (YM D dA adR)) (hN : 193 ≤ N) (hb : fm_isBk N bk) (hR : pb_R bk C R) (hi : i + 3 < L) (hL : L ≤ 256) (hcs : cs.1 ≤ 608630 ∧ cs.2 ≤ 7270213) (hP1 : fm_P (YC D dA N adC bk) C H) (hP2 : fm_P (YM D dA adR) R H) (hS : va_S (lz_A X) (xs X).heap H locs) (hl : lv_has ls 4 [(3, .int (nI i)), (2, .ref (adR 0)), (1, .ref (adC 0)), (0, .ref b)]) (kk : lz_K X D dA N bk adC adR cs ls) : W (xp X) (xl X) (xe X) (xR X) (xs X) (xm X) (xa X) (xb X) (xt X) (xc X) H locs cs.1 cs.2 (xQ X) (F0 (xm X) 213 ls []) := by
  obtain ⟨r, C', R', hf, hg, hR'⟩ := pb_town (n := 50000) hR (by decide) (sc (nI i + 1).toNatClampNeg) (sc (nI i + 2).toNatClampNeg)
  refine lv_aload_n F.exec F.bytes dL_law_213 rfl (lv_at hl 2 rfl) ?_
  refine lv_aload_n F.exec F.bytes dL_law_214 rfl (lv_at hl 3 rfl) ?_
  refine lv_iload_n F.exec F.bytes dL_law_215 rfl (lv_at hl 0 rfl) ?_
  refine lv_iconst (v := 1) F.exec F.bytes dL_law_216 (by decide) ?_
  refine lv_iadd F.exec F.bytes dL_law_217 ?_
  refine va_sld F.exec F.bytes F.scr F.blt F.bA hS (lz_in (k := 1) (by omega) hL rfl) dL_law_218 ?_
  refine lv_aload_n F.exec F.bytes dL_law_219 rfl (lv_at hl 3 rfl) ?_
  refine lv_iload_n F.exec F.bytes dL_law_220 rfl (lv_at hl 0 rfl) ?_
  refine lv_iconst (v := 2) F.exec F.bytes dL_law_221 (by decide) ?_
  refine lv_iadd F.exec F.bytes dL_law_222 ?_
  refine va_sld F.exec F.bytes F.scr F.blt F.bA hS (lz_in (k := 2) (by omega) hL rfl) dL_law_223 ?_
  refine lz_callV (Y := YC D dA N adC bk) (Y2 := YM D dA adR) (As := [.int (sc (nI i + 1).toNatClampNeg), .int (sc (nI i + 2).toNatClampNeg)]) (rest := []) F hwC hd 0 (by show 0 < N; omega) rfl (ci := 0) rfl (mX0_town hN hb hwC.1 hf) q574 q575 q576 q39 q577 ⟨rfl, rfl⟩ (n := 2) (by decide +kernel) ⟨fm_le rfl, fm_le rfl⟩ hcs rfl rfl (fm_le rfl) dL_law_224 hP1 hP2 hS hl (fun H locs hP1 hP2 hS => ?_)
  refine lv_aload_n F.exec F.bytes dL_law_227 rfl (lv_at hl 1 rfl) ?_
  refine lv_aload_n F.exec F.bytes dL_law_228 rfl (lv_at hl 3 rfl) ?_
  refine lv_iload_n F.exec F.bytes dL_law_229 rfl (lv_at hl 0 rfl) ?_
  refine lv_iconst (v := 1) F.exec F.bytes dL_law_230 (by decide) ?_
  refine lv_iadd F.exec F.bytes dL_law_231 ?_
  refine va_sld F.exec F.bytes F.scr F.blt F.bA hS (lz_in (k := 1) (by omega) hL rfl) dL_law_232 ?_
  refine lv_aload_n F.exec F.bytes dL_law_233 rfl (lv_at hl 3 rfl) ?_
  refine lv_iload_n F.exec F.bytes dL_law_234 rfl (lv_at hl 0 rfl) ?_
  refine lv_iconst (v := 2) F.exec F.bytes dL_law_235 (by decide) ?_
  refine lv_iadd F.exec F.bytes dL_law_236 ?_
  refine va_sld F.exec F.bytes F.scr F.blt F.bA hS (lz_in (k := 2) (by omega) hL rfl) dL_law_237 ?_
  refine lz_callV (Y := YM D dA adR) (Y2 := YC D dA N adC bk) (As := [.int (sc (nI i + 1).toNatClampNeg), .int (sc (nI i + 2).toNatClampNeg)]) (rest := [.int r]) F hwR hd.symm 0 (by show 0 < 20; omega) rfl (ci := 9) rfl (mX9_town hwR.1 hg) q927 q928 q929 q50 q930 ⟨rfl, rfl⟩ (n := 2) (by decide +kernel) ⟨fm_le rfl, fm_le rfl⟩ hcs rfl rfl (fm_le rfl) dL_law_238 hP2 hP1 hS hl (fun H locs hP2 hP1 hS => ?_)
  exact lv_icmp_eq (tgt := 882) F.exec F.bytes dL_law_241 (by decide) (fun _ => kk C' R' H locs hR' hP1 hP2 hS) (fun h => absurd rfl h)
theorem lz_c4 (F : lz_F X D dA b L sc) (hwC : lz_W X (YC D dA N adC bk)) (hwR : lz_W X (YM D dA adR)) (hd : lz_D (YC D dA N adC bk) (YM D dA adR)) (hN : 193 ≤ N) (hb : fm_isBk N bk) (hR : pb_R bk C R) (hi : i + 3 < L) (hL : L ≤ 256) (hcs : cs.1 ≤ 608630 ∧ cs.2 ≤ 7270213) (hP1 : fm_P (YC D dA N adC bk) C H) (hP2 : fm_P (YM D dA adR) R H) (hS : va_S (lz_A X) (xs X).heap H locs) (hl : lv_has ls 4 [(3, .int (nI i)), (2, .ref (adR 0)), (1, .ref (adC 0)), (0, .ref b)]) (kk : lz_K X D dA N bk adC adR cs ls) : W (xp X) (xl X) (xe X) (xR X) (xs X) (xm X) (xa X) (xb X) (xt X) (xc X) H locs cs.1 cs.2 (xQ X) (F0 (xm X) 246 ls []) := by
  obtain ⟨r, C', R', hf, hg, hR'⟩ := pb_bell (n := 50000) hR (by decide) (sc (nI i + 1).toNatClampNeg) (sc (nI i + 2).toNatClampNeg)
  refine lv_aload_n F.exec F.bytes dL_law_246 rfl (lv_at hl 2 rfl) ?_
  refine lv_aload_n F.exec F.bytes dL_law_247 rfl (lv_at hl 3 rfl) ?_
  refine lv_iload_n F.exec F.bytes dL_law_248 rfl (lv_at hl 0 rfl) ?_
  refine lv_iconst (v := 1) F.exec F.bytes dL_law_249 (by decide) ?_
  refine lv_iadd F.exec F.bytes dL_law_250 ?_
  refine va_sld F.exec F.bytes F.scr F.blt F.bA hS (lz_in (k := 1) (by omega) hL rfl) dL_law_251 ?_
  refine lv_aload_n F.exec F.bytes dL_law_252 rfl (lv_at hl 3 rfl) ?_
  refine lv_iload_n F.exec F.bytes dL_law_253 rfl (lv_at hl 0 rfl) ?_
  refine lv_iconst (v := 2) F.exec F.bytes dL_law_254 (by decide) ?_
  refine lv_iadd F.exec F.bytes dL_law_255 ?_
  refine va_sld F.exec F.bytes F.scr F.blt F.bA hS (lz_in (k := 2) (by omega) hL rfl) dL_law_256 ?_
  refine lz_callV (Y := YC D dA N adC bk) (Y2 := YM D dA adR) (As := [.int (sc (nI i + 1).toNatClampNeg), .int (sc (nI i + 2).toNatClampNeg)]) (rest := []) F hwC hd 0 (by show 0 < N; omega) rfl (ci := 0) rfl (mX0_bell hN hb hwC.1 hf) q590 q591 q592 q39 q593 ⟨rfl, rfl⟩ (n := 2) (by decide +kernel) ⟨fm_le rfl, fm_le rfl⟩ hcs rfl rfl (fm_le rfl) dL_law_257 hP1 hP2 hS hl (fun H locs hP1 hP2 hS => ?_)
  refine lv_aload_n F.exec F.bytes dL_law_260 rfl (lv_at hl 1 rfl) ?_
  refine lv_aload_n F.exec F.bytes dL_law_261 rfl (lv_at hl 3 rfl) ?_
  refine lv_iload_n F.exec F.bytes dL_law_262 rfl (lv_at hl 0 rfl) ?_
  refine lv_iconst (v := 1) F.exec F.bytes dL_law_263 (by decide) ?_
  refine lv_iadd F.exec F.bytes dL_law_264 ?_
  refine va_sld F.exec F.bytes F.scr F.blt F.bA hS (lz_in (k := 1) (by omega) hL rfl) dL_law_265 ?_
  refine lv_aload_n F.exec F.bytes dL_law_266 rfl (lv_at hl 3 rfl) ?_
  refine lv_iload_n F.exec F.bytes dL_law_267 rfl (lv_at hl 0 rfl) ?_
  refine lv_iconst (v := 2) F.exec F.bytes dL_law_268 (by decide) ?_
  refine lv_iadd F.exec F.bytes dL_law_269 ?_
  refine va_sld F.exec F.bytes F.scr F.blt F.bA hS (lz_in (k := 2) (by omega) hL rfl) dL_law_270 ?_
  refine lz_callV (Y := YM D dA adR) (Y2 := YC D dA N adC bk) (As := [.int (sc (nI i + 1).toNatClampNeg), .int (sc (nI i + 2).toNatClampNeg)]) (rest := [.int r]) F hwR hd.symm 0 (by show 0 < 20; omega) rfl (ci := 9) rfl (mX9_bell hwR.1 hg) q942 q943 q944 q50 q945 ⟨rfl, rfl⟩ (n := 2) (by decide +kernel) ⟨fm_le rfl, fm_le rfl⟩ hcs rfl rfl (fm_le rfl) dL_law_271 hP2 hP1 hS hl (fun H locs hP2 hP1 hS => ?_)
  exact lv_icmp_eq (tgt := 882) F.exec F.bytes dL_law_274 (by decide) (fun _ => kk C' R' H locs hR' hP1 hP2 hS) (fun h => absurd rfl h)
theorem lz_c5 (F : lz_F X D dA b L sc) (hwC : lz_W X (YC D dA N adC bk)) (hwR : lz_W X (YM D dA adR)) (hd : lz_D (YC D dA N adC bk) (YM D dA adR)) (hN : 193 ≤ N) (hb : fm_isBk N bk) (hR : pb_R bk C R) (hi : i + 3 < L) (hL : L ≤ 256) (hcs : cs.1 ≤ 608630 ∧ cs.2 ≤ 7270213) (hP1 : fm_P (YC D dA N adC bk) C H) (hP2 : fm_P (YM D dA adR) R H) (hS : va_S (lz_A X) (xs X).heap H locs) (hl : lv_has ls 4 [(3, .int (nI i)), (2, .ref (adR 0)), (1, .ref (adC 0)), (0, .ref b)]) (kk : lz_K X D dA N bk adC adR cs ls) : W (xp X) (xl X) (xe X) (xR X) (xs X) (xm X) (xa X) (xb X) (xt X) (xc X) H locs cs.1 cs.2 (xQ X) (F0 (xm X) 279 ls []) := by
  obtain ⟨r, C', R', hf, hg, hR'⟩ := pb_farop (n := 50000) hR (sc (nI i + 1).toNatClampNeg) (sc (nI i + 2).toNatClampNeg)
  refine lv_aload_n F.exec F.bytes dL_law_279 rfl (lv_at hl 2 rfl) ?_
  refine lv_aload_n F.exec F.bytes dL_law_280 rfl (lv_at hl 3 rfl) ?_
  refine lv_iload_n F.exec F.bytes dL_law_281 rfl (lv_at hl 0 rfl) ?_
  refine lv_iconst (v := 1) F.exec F.bytes dL_law_282 (by decide) ?_
  refine lv_iadd F.exec F.bytes dL_law_283 ?_
  refine va_sld F.exec F.bytes F.scr F.blt F.bA hS (lz_in (k := 1) (by omega) hL rfl) dL_law_284 ?_
  refine lv_aload_n F.exec F.bytes dL_law_285 rfl (lv_at hl 3 rfl) ?_
  refine lv_iload_n F.exec F.bytes dL_law_286 rfl (lv_at hl 0 rfl) ?_
  refine lv_iconst (v := 2) F.exec F.bytes dL_law_287 (by decide) ?_
  refine lv_iadd F.exec F.bytes dL_law_288 ?_
  refine va_sld F.exec F.bytes F.scr F.blt F.bA hS (lz_in (k := 2) (by omega) hL rfl) dL_law_289 ?_
  refine lz_callV (Y := YC D dA N adC bk) (Y2 := YM D dA adR) (As := [.int (sc (nI i + 1).toNatClampNeg), .int (sc (nI i + 2).toNatClampNeg)]) (rest := []) F hwC hd 0 (by show 0 < N; omega) rfl (ci := 0) rfl (mX0_far hN hb hwC.1 hf) q598 q599 q600 q39 q601 ⟨rfl, rfl⟩ (n := 2) (by decide +kernel) ⟨fm_le rfl, fm_le rfl⟩ hcs rfl rfl (fm_le rfl) dL_law_290 hP1 hP2 hS hl (fun H locs hP1 hP2 hS => ?_)
  refine lv_aload_n F.exec F.bytes dL_law_293 rfl (lv_at hl 1 rfl) ?_
  refine lv_aload_n F.exec F.bytes dL_law_294 rfl (lv_at hl 3 rfl) ?_
  refine lv_iload_n F.exec F.bytes dL_law_295 rfl (lv_at hl 0 rfl) ?_
  refine lv_iconst (v := 1) F.exec F.bytes dL_law_296 (by decide) ?_
  refine lv_iadd F.exec F.bytes dL_law_297 ?_
  refine va_sld F.exec F.bytes F.scr F.blt F.bA hS (lz_in (k := 1) (by omega) hL rfl) dL_law_298 ?_
  refine lv_aload_n F.exec F.bytes dL_law_299 rfl (lv_at hl 3 rfl) ?_
  refine lv_iload_n F.exec F.bytes dL_law_300 rfl (lv_at hl 0 rfl) ?_
  refine lv_iconst (v := 2) F.exec F.bytes dL_law_301 (by decide) ?_
  refine lv_iadd F.exec F.bytes dL_law_302 ?_
  refine va_sld F.exec F.bytes F.scr F.blt F.bA hS (lz_in (k := 2) (by omega) hL rfl) dL_law_303 ?_
  refine lz_callV (Y := YM D dA adR) (Y2 := YC D dA N adC bk) (As := [.int (sc (nI i + 1).toNatClampNeg), .int (sc (nI i + 2).toNatClampNeg)]) (rest := [.int r]) F hwR hd.symm 0 (by show 0 < 20; omega) rfl (ci := 9) rfl (mX9_far hwR.1 hg) q950 q951 q952 q50 q953 ⟨rfl, rfl⟩ (n := 2) (by decide +kernel) ⟨fm_le rfl, fm_le rfl⟩ hcs rfl rfl (fm_le rfl) dL_law_304 hP2 hP1 hS hl (fun H locs hP2 hP1 hS => ?_)
  exact lv_icmp_eq (tgt := 882) F.exec F.bytes dL_law_307 (by decide) (fun _ => kk C' R' H locs hR' hP1 hP2 hS) (fun h => absurd rfl h)
theorem lz_c6 (F : lz_F X D dA b L sc) (hwC : lz_W X (YC D dA N adC bk)) (hwR : lz_W X (YM D dA adR)) (hd : lz_D (YC D dA N adC bk) (YM D dA adR)) (hN : 193 ≤ N) (hb : fm_isBk N bk) (hR : pb_R bk C R) (hi : i + 3 < L) (hL : L ≤ 256) (hcs : cs.1 ≤ 608630 ∧ cs.2 ≤ 7270213) (hP1 : fm_P (YC D dA N adC bk) C H) (hP2 : fm_P (YM D dA adR) R H) (hS : va_S (lz_A X) (xs X).heap H locs) (hl : lv_has ls 4 [(3, .int (nI i)), (2, .ref (adR 0)), (1, .ref (adC 0)), (0, .ref b)]) (kk : lz_K X D dA N bk adC adR cs ls) : W (xp X) (xl X) (xe X) (xR X) (xs X) (xm X) (xa X) (xb X) (xt X) (xc X) H locs cs.1 cs.2 (xQ X) (F0 (xm X) 312 ls []) := by
  obtain ⟨r, C', R', hf, hg, hR'⟩ := pb_oathop (n := 50000) hR (sc (nI i + 1).toNatClampNeg) (sc (nI i + 2).toNatClampNeg)
  refine lv_aload_n F.exec F.bytes dL_law_312 rfl (lv_at hl 2 rfl) ?_
  refine lv_aload_n F.exec F.bytes dL_law_313 rfl (lv_at hl 3 rfl) ?_
  refine lv_iload_n F.exec F.bytes dL_law_314 rfl (lv_at hl 0 rfl) ?_
  refine lv_iconst (v := 1) F.exec F.bytes dL_law_315 (by decide) ?_
  refine lv_iadd F.exec F.bytes dL_law_316 ?_
  refine va_sld F.exec F.bytes F.scr F.blt F.bA hS (lz_in (k := 1) (by omega) hL rfl) dL_law_317 ?_
  refine lv_aload_n F.exec F.bytes dL_law_318 rfl (lv_at hl 3 rfl) ?_
  refine lv_iload_n F.exec F.bytes dL_law_319 rfl (lv_at hl 0 rfl) ?_
  refine lv_iconst (v := 2) F.exec F.bytes dL_law_320 (by decide) ?_
  refine lv_iadd F.exec F.bytes dL_law_321 ?_
  refine va_sld F.exec F.bytes F.scr F.blt F.bA hS (lz_in (k := 2) (by omega) hL rfl) dL_law_322 ?_
  refine lz_callV (Y := YC D dA N adC bk) (Y2 := YM D dA adR) (As := [.int (sc (nI i + 1).toNatClampNeg), .int (sc (nI i + 2).toNatClampNeg)]) (rest := []) F hwC hd 0 (by show 0 < N; omega) rfl (ci := 0) rfl (mX0_oath hN hb hwC.1 hf) q603 q604 q605 q39 q606 ⟨rfl, rfl⟩ (n := 2) (by decide +kernel) ⟨fm_le rfl, fm_le rfl⟩ hcs rfl rfl (fm_le rfl) dL_law_323 hP1 hP2 hS hl (fun H locs hP1 hP2 hS => ?_)
  refine lv_aload_n F.exec F.bytes dL_law_326 rfl (lv_at hl 1 rfl) ?_
  refine lv_aload_n F.exec F.bytes dL_law_327 rfl (lv_at hl 3 rfl) ?_
  refine lv_iload_n F.exec F.bytes dL_law_328 rfl (lv_at hl 0 rfl) ?_
  refine lv_iconst (v := 1) F.exec F.bytes dL_law_329 (by decide) ?_
  refine lv_iadd F.exec F.bytes dL_law_330 ?_
  refine va_sld F.exec F.bytes F.scr F.blt F.bA hS (lz_in (k := 1) (by omega) hL rfl) dL_law_331 ?_
  refine lv_aload_n F.exec F.bytes dL_law_332 rfl (lv_at hl 3 rfl) ?_
  refine lv_iload_n F.exec F.bytes dL_law_333 rfl (lv_at hl 0 rfl) ?_
  refine lv_iconst (v := 2) F.exec F.bytes dL_law_334 (by decide) ?_
  refine lv_iadd F.exec F.bytes dL_law_335 ?_
  refine va_sld F.exec F.bytes F.scr F.blt F.bA hS (lz_in (k := 2) (by omega) hL rfl) dL_law_336 ?_
  refine lz_callV (Y := YM D dA adR) (Y2 := YC D dA N adC bk) (As := [.int (sc (nI i + 1).toNatClampNeg), .int (sc (nI i + 2).toNatClampNeg)]) (rest := [.int r]) F hwR hd.symm 0 (by show 0 < 20; omega) rfl (ci := 9) rfl (mX9_oath hwR.1 hg) q954 q955 q956 q50 q957 ⟨rfl, rfl⟩ (n := 2) (by decide +kernel) ⟨fm_le rfl, fm_le rfl⟩ hcs rfl rfl (fm_le rfl) dL_law_337 hP2 hP1 hS hl (fun H locs hP2 hP1 hS => ?_)
  exact lv_icmp_eq (tgt := 882) F.exec F.bytes dL_law_340 (by decide) (fun _ => kk C' R' H locs hR' hP1 hP2 hS) (fun h => absurd rfl h)
theorem lz_c7 (F : lz_F X D dA b L sc) (hwC : lz_W X (YC D dA N adC bk)) (hwR : lz_W X (YM D dA adR)) (hd : lz_D (YC D dA N adC bk) (YM D dA adR)) (hN : 193 ≤ N) (hb : fm_isBk N bk) (hR : pb_R bk C R) (hi : i + 3 < L) (hL : L ≤ 256) (hcs : cs.1 ≤ 608630 ∧ cs.2 ≤ 7270213) (hP1 : fm_P (YC D dA N adC bk) C H) (hP2 : fm_P (YM D dA adR) R H) (hS : va_S (lz_A X) (xs X).heap H locs) (hl : lv_has ls 4 [(3, .int (nI i)), (2, .ref (adR 0)), (1, .ref (adC 0)), (0, .ref b)]) (kk : lz_K X D dA N bk adC adR cs ls) : W (xp X) (xl X) (xe X) (xR X) (xs X) (xm X) (xa X) (xb X) (xt X) (xc X) H locs cs.1 cs.2 (xQ X) (F0 (xm X) 345 ls []) := by
  obtain ⟨r, C', R', hf, hg, hR'⟩ := pb_nowop (n := 50000) hR (by decide) (sc (nI i + 1).toNatClampNeg)
  refine lv_aload_n F.exec F.bytes dL_law_345 rfl (lv_at hl 2 rfl) ?_
  refine lv_aload_n F.exec F.bytes dL_law_346 rfl (lv_at hl 3 rfl) ?_
  refine lv_iload_n F.exec F.bytes dL_law_347 rfl (lv_at hl 0 rfl) ?_
  refine lv_iconst (v := 1) F.exec F.bytes dL_law_348 (by decide) ?_
  refine lv_iadd F.exec F.bytes dL_law_349 ?_
  refine va_sld F.exec F.bytes F.scr F.blt F.bA hS (lz_in (k := 1) (by omega) hL rfl) dL_law_350 ?_
  refine lz_callV (Y := YC D dA N adC bk) (Y2 := YM D dA adR) (As := [.int (sc (nI i + 1).toNatClampNeg)]) (rest := []) F hwC hd 0 (by show 0 < N; omega) rfl (ci := 0) rfl (mX0_now hN hb hwC.1 hf) q607 q608 q609 q39 q610 ⟨rfl, rfl⟩ (n := 1) (by decide +kernel) ⟨fm_le rfl, fm_le rfl⟩ hcs rfl rfl (fm_le rfl) dL_law_351 hP1 hP2 hS hl (fun H locs hP1 hP2 hS => ?_)
  refine lv_aload_n F.exec F.bytes dL_law_354 rfl (lv_at hl 1 rfl) ?_
  refine lv_aload_n F.exec F.bytes dL_law_355 rfl (lv_at hl 3 rfl) ?_
  refine lv_iload_n F.exec F.bytes dL_law_356 rfl (lv_at hl 0 rfl) ?_
  refine lv_iconst (v := 1) F.exec F.bytes dL_law_357 (by decide) ?_
  refine lv_iadd F.exec F.bytes dL_law_358 ?_
  refine va_sld F.exec F.bytes F.scr F.blt F.bA hS (lz_in (k := 1) (by omega) hL rfl) dL_law_359 ?_
  refine lz_callV (Y := YM D dA adR) (Y2 := YC D dA N adC bk) (As := [.int (sc (nI i + 1).toNatClampNeg)]) (rest := [.int r]) F hwR hd.symm 0 (by show 0 < 20; omega) rfl (ci := 9) rfl (mX9_now hwR.1 hg) q958 q959 q960 q50 q961 ⟨rfl, rfl⟩ (n := 1) (by decide +kernel) ⟨fm_le rfl, fm_le rfl⟩ hcs rfl rfl (fm_le rfl) dL_law_360 hP2 hP1 hS hl (fun H locs hP2 hP1 hS => ?_)
  exact lv_icmp_eq (tgt := 882) F.exec F.bytes dL_law_363 (by decide) (fun _ => kk C' R' H locs hR' hP1 hP2 hS) (fun h => absurd rfl h)
theorem lz_c8 (F : lz_F X D dA b L sc) (hwC : lz_W X (YC D dA N adC bk)) (hwR : lz_W X (YM D dA adR)) (hd : lz_D (YC D dA N adC bk) (YM D dA adR)) (hN : 193 ≤ N) (hb : fm_isBk N bk) (hR : pb_R bk C R) (hi : i + 3 < L) (hL : L ≤ 256) (hcs : cs.1 ≤ 608630 ∧ cs.2 ≤ 7270213) (hP1 : fm_P (YC D dA N adC bk) C H) (hP2 : fm_P (YM D dA adR) R H) (hS : va_S (lz_A X) (xs X).heap H locs) (hl : lv_has ls 4 [(3, .int (nI i)), (2, .ref (adR 0)), (1, .ref (adC 0)), (0, .ref b)]) (kk : lz_K X D dA N bk adC adR cs ls) : W (xp X) (xl X) (xe X) (xR X) (xs X) (xm X) (xa X) (xb X) (xt X) (xc X) H locs cs.1 cs.2 (xQ X) (F0 (xm X) 368 ls []) := by
  obtain ⟨r, C', R', hf, hg, hR'⟩ := pb_lotsop (n := 50000) hR (by decide) (sc (nI i + 1).toNatClampNeg)
  refine lv_aload_n F.exec F.bytes dL_law_368 rfl (lv_at hl 2 rfl) ?_
  refine lv_aload_n F.exec F.bytes dL_law_369 rfl (lv_at hl 3 rfl) ?_
  refine lv_iload_n F.exec F.bytes dL_law_370 rfl (lv_at hl 0 rfl) ?_
  refine lv_iconst (v := 1) F.exec F.bytes dL_law_371 (by decide) ?_
  refine lv_iadd F.exec F.bytes dL_law_372 ?_
  refine va_sld F.exec F.bytes F.scr F.blt F.bA hS (lz_in (k := 1) (by omega) hL rfl) dL_law_373 ?_
  refine lz_callV (Y := YC D dA N adC bk) (Y2 := YM D dA adR) (As := [.int (sc (nI i + 1).toNatClampNeg)]) (rest := []) F hwC hd 0 (by show 0 < N; omega) rfl (ci := 0) rfl (mX0_lots hN hb hwC.1 hf) q615 q616 q617 q39 q618 ⟨rfl, rfl⟩ (n := 1) (by decide +kernel) ⟨fm_le rfl, fm_le rfl⟩ hcs rfl rfl (fm_le rfl) dL_law_374 hP1 hP2 hS hl (fun H locs hP1 hP2 hS => ?_)
  refine lv_aload_n F.exec F.bytes dL_law_377 rfl (lv_at hl 1 rfl) ?_
  refine lv_aload_n F.exec F.bytes dL_law_378 rfl (lv_at hl 3 rfl) ?_
  refine lv_iload_n F.exec F.bytes dL_law_379 rfl (lv_at hl 0 rfl) ?_
  refine lv_iconst (v := 1) F.exec F.bytes dL_law_380 (by decide) ?_
  refine lv_iadd F.exec F.bytes dL_law_381 ?_
  refine va_sld F.exec F.bytes F.scr F.blt F.bA hS (lz_in (k := 1) (by omega) hL rfl) dL_law_382 ?_
  refine lz_callV (Y := YM D dA adR) (Y2 := YC D dA N adC bk) (As := [.int (sc (nI i + 1).toNatClampNeg)]) (rest := [.int r]) F hwR hd.symm 0 (by show 0 < 20; omega) rfl (ci := 9) rfl (mX9_lots hwR.1 hg) q962 q963 q964 q50 q965 ⟨rfl, rfl⟩ (n := 1) (by decide +kernel) ⟨fm_le rfl, fm_le rfl⟩ hcs rfl rfl (fm_le rfl) dL_law_383 hP2 hP1 hS hl (fun H locs hP2 hP1 hS => ?_)
  exact lv_icmp_eq (tgt := 882) F.exec F.bytes dL_law_386 (by decide) (fun _ => kk C' R' H locs hR' hP1 hP2 hS) (fun h => absurd rfl h)
theorem lz_c9 (F : lz_F X D dA b L sc) (hwC : lz_W X (YC D dA N adC bk)) (hwR : lz_W X (YM D dA adR)) (hd : lz_D (YC D dA N adC bk) (YM D dA adR)) (hN : 193 ≤ N) (hb : fm_isBk N bk) (hR : pb_R bk C R) (hi : i + 3 < L) (hL : L ≤ 256) (hcs : cs.1 ≤ 608630 ∧ cs.2 ≤ 7270213) (hP1 : fm_P (YC D dA N adC bk) C H) (hP2 : fm_P (YM D dA adR) R H) (hS : va_S (lz_A X) (xs X).heap H locs) (hl : lv_has ls 4 [(3, .int (nI i)), (2, .ref (adR 0)), (1, .ref (adC 0)), (0, .ref b)]) (kk : lz_K X D dA N bk adC adR cs ls) : W (xp X) (xl X) (xe X) (xR X) (xs X) (xm X) (xa X) (xb X) (xt X) (xc X) H locs cs.1 cs.2 (xQ X) (F0 (xm X) 391 ls []) := by
  obtain ⟨r, C', R', hf, hg, hR'⟩ := pb_tradesop (n := 50000) hR (by decide) (sc (nI i + 1).toNatClampNeg) (sc (nI i + 2).toNatClampNeg)
  refine lv_aload_n F.exec F.bytes dL_law_391 rfl (lv_at hl 2 rfl) ?_
  refine lv_aload_n F.exec F.bytes dL_law_392 rfl (lv_at hl 3 rfl) ?_
  refine lv_iload_n F.exec F.bytes dL_law_393 rfl (lv_at hl 0 rfl) ?_
  refine lv_iconst (v := 1) F.exec F.bytes dL_law_394 (by decide) ?_
  refine lv_iadd F.exec F.bytes dL_law_395 ?_
  refine va_sld F.exec F.bytes F.scr F.blt F.bA hS (lz_in (k := 1) (by omega) hL rfl) dL_law_396 ?_
  refine lv_aload_n F.exec F.bytes dL_law_397 rfl (lv_at hl 3 rfl) ?_
  refine lv_iload_n F.exec F.bytes dL_law_398 rfl (lv_at hl 0 rfl) ?_
  refine lv_iconst (v := 2) F.exec F.bytes dL_law_399 (by decide) ?_
  refine lv_iadd F.exec F.bytes dL_law_400 ?_
  refine va_sld F.exec F.bytes F.scr F.blt F.bA hS (lz_in (k := 2) (by omega) hL rfl) dL_law_401 ?_
  refine lz_callV (Y := YC D dA N adC bk) (Y2 := YM D dA adR) (As := [.int (sc (nI i + 1).toNatClampNeg), .int (sc (nI i + 2).toNatClampNeg)]) (rest := []) F hwC hd 0 (by show 0 < N; omega) rfl (ci := 0) rfl (mX0_trades hN hb hwC.1 hf) q653 q654 q655 q39 q656 ⟨rfl, rfl⟩ (n := 2) (by decide +kernel) ⟨fm_le rfl, fm_le rfl⟩ hcs rfl rfl (fm_le rfl) dL_law_402 hP1 hP2 hS hl (fun H locs hP1 hP2 hS => ?_)
  refine lv_aload_n F.exec F.bytes dL_law_405 rfl (lv_at hl 1 rfl) ?_
  refine lv_aload_n F.exec F.bytes dL_law_406 rfl (lv_at hl 3 rfl) ?_
  refine lv_iload_n F.exec F.bytes dL_law_407 rfl (lv_at hl 0 rfl) ?_
  refine lv_iconst (v := 1) F.exec F.bytes dL_law_408 (by decide) ?_
  refine lv_iadd F.exec F.bytes dL_law_409 ?_
  refine va_sld F.exec F.bytes F.scr F.blt F.bA hS (lz_in (k := 1) (by omega) hL rfl) dL_law_410 ?_
  refine lv_aload_n F.exec F.bytes dL_law_411 rfl (lv_at hl 3 rfl) ?_
  refine lv_iload_n F.exec F.bytes dL_law_412 rfl (lv_at hl 0 rfl) ?_
  refine lv_iconst (v := 2) F.exec F.bytes dL_law_413 (by decide) ?_
  refine lv_iadd F.exec F.bytes dL_law_414 ?_
  refine va_sld F.exec F.bytes F.scr F.blt F.bA hS (lz_in (k := 2) (by omega) hL rfl) dL_law_415 ?_
  refine lz_callV (Y := YM D dA adR) (Y2 := YC D dA N adC bk) (As := [.int (sc (nI i + 1).toNatClampNeg), .int (sc (nI i + 2).toNatClampNeg)]) (rest := [.int r]) F hwR hd.symm 0 (by show 0 < 20; omega) rfl (ci := 9) rfl (mX9_trades hwR.1 hg) q986 q987 q988 q50 q989 ⟨rfl, rfl⟩ (n := 2) (by decide +kernel) ⟨fm_le rfl, fm_le rfl⟩ hcs rfl rfl (fm_le rfl) dL_law_416 hP2 hP1 hS hl (fun H locs hP2 hP1 hS => ?_)
  exact lv_icmp_eq (tgt := 882) F.exec F.bytes dL_law_419 (by decide) (fun _ => kk C' R' H locs hR' hP1 hP2 hS) (fun h => absurd rfl h)
theorem lz_c10 (F : lz_F X D dA b L sc) (hwC : lz_W X (YC D dA N adC bk)) (hwR : lz_W X (YM D dA adR)) (hd : lz_D (YC D dA N adC bk) (YM D dA adR)) (hN : 193 ≤ N) (hb : fm_isBk N bk) (hR : pb_R bk C R) (hi : i + 3 < L) (hL : L ≤ 256) (hcs : cs.1 ≤ 608630 ∧ cs.2 ≤ 7270213) (hP1 : fm_P (YC D dA N adC bk) C H) (hP2 : fm_P (YM D dA adR) R H) (hS : va_S (lz_A X) (xs X).heap H locs) (hl : lv_has ls 4 [(3, .int (nI i)), (2, .ref (adR 0)), (1, .ref (adC 0)), (0, .ref b)]) (kk : lz_K X D dA N bk adC adR cs ls) : W (xp X) (xl X) (xe X) (xR X) (xs X) (xm X) (xa X) (xb X) (xt X) (xc X) H locs cs.1 cs.2 (xQ X) (F0 (xm X) 424 ls []) := by
  obtain ⟨r, C', R', hf, hg, hR'⟩ := pb_widensop (n := 50000) hR (by decide) (sc (nI i + 1).toNatClampNeg) (sc (nI i + 2).toNatClampNeg)
  refine lv_aload_n F.exec F.bytes dL_law_424 rfl (lv_at hl 2 rfl) ?_
  refine lv_aload_n F.exec F.bytes dL_law_425 rfl (lv_at hl 3 rfl) ?_
  refine lv_iload_n F.exec F.bytes dL_law_426 rfl (lv_at hl 0 rfl) ?_
  refine lv_iconst (v := 1) F.exec F.bytes dL_law_427 (by decide) ?_
  refine lv_iadd F.exec F.bytes dL_law_428 ?_
  refine va_sld F.exec F.bytes F.scr F.blt F.bA hS (lz_in (k := 1) (by omega) hL rfl) dL_law_429 ?_
  refine lv_aload_n F.exec F.bytes dL_law_430 rfl (lv_at hl 3 rfl) ?_
  refine lv_iload_n F.exec F.bytes dL_law_431 rfl (lv_at hl 0 rfl) ?_
  refine lv_iconst (v := 2) F.exec F.bytes dL_law_432 (by decide) ?_
  refine lv_iadd F.exec F.bytes dL_law_433 ?_
  refine va_sld F.exec F.bytes F.scr F.blt F.bA hS (lz_in (k := 2) (by omega) hL rfl) dL_law_434 ?_
  refine lz_callV (Y := YC D dA N adC bk) (Y2 := YM D dA adR) (As := [.int (sc (nI i + 1).toNatClampNeg), .int (sc (nI i + 2).toNatClampNeg)]) (rest := []) F hwC hd 0 (by show 0 < N; omega) rfl (ci := 0) rfl (mX0_widens hN hb hwC.1 hf) q661 q662 q663 q39 q664 ⟨rfl, rfl⟩ (n := 2) (by decide +kernel) ⟨fm_le rfl, fm_le rfl⟩ hcs rfl rfl (fm_le rfl) dL_law_435 hP1 hP2 hS hl (fun H locs hP1 hP2 hS => ?_)
  refine lv_aload_n F.exec F.bytes dL_law_438 rfl (lv_at hl 1 rfl) ?_
  refine lv_aload_n F.exec F.bytes dL_law_439 rfl (lv_at hl 3 rfl) ?_
  refine lv_iload_n F.exec F.bytes dL_law_440 rfl (lv_at hl 0 rfl) ?_
  refine lv_iconst (v := 1) F.exec F.bytes dL_law_441 (by decide) ?_
  refine lv_iadd F.exec F.bytes dL_law_442 ?_
  refine va_sld F.exec F.bytes F.scr F.blt F.bA hS (lz_in (k := 1) (by omega) hL rfl) dL_law_443 ?_
  refine lv_aload_n F.exec F.bytes dL_law_444 rfl (lv_at hl 3 rfl) ?_
  refine lv_iload_n F.exec F.bytes dL_law_445 rfl (lv_at hl 0 rfl) ?_
  refine lv_iconst (v := 2) F.exec F.bytes dL_law_446 (by decide) ?_
  refine lv_iadd F.exec F.bytes dL_law_447 ?_
  refine va_sld F.exec F.bytes F.scr F.blt F.bA hS (lz_in (k := 2) (by omega) hL rfl) dL_law_448 ?_
  refine lz_callV (Y := YM D dA adR) (Y2 := YC D dA N adC bk) (As := [.int (sc (nI i + 1).toNatClampNeg), .int (sc (nI i + 2).toNatClampNeg)]) (rest := [.int r]) F hwR hd.symm 0 (by show 0 < 20; omega) rfl (ci := 9) rfl (mX9_widens hwR.1 hg) q990 q991 q992 q50 q993 ⟨rfl, rfl⟩ (n := 2) (by decide +kernel) ⟨fm_le rfl, fm_le rfl⟩ hcs rfl rfl (fm_le rfl) dL_law_449 hP2 hP1 hS hl (fun H locs hP2 hP1 hS => ?_)
  exact lv_icmp_eq (tgt := 882) F.exec F.bytes dL_law_452 (by decide) (fun _ => kk C' R' H locs hR' hP1 hP2 hS) (fun h => absurd rfl h)
theorem lz_c11 (F : lz_F X D dA b L sc) (hwC : lz_W X (YC D dA N adC bk)) (hwR : lz_W X (YM D dA adR)) (hd : lz_D (YC D dA N adC bk) (YM D dA adR)) (hN : 193 ≤ N) (hb : fm_isBk N bk) (hR : pb_R bk C R) (hi : i + 3 < L) (hL : L ≤ 256) (hcs : cs.1 ≤ 608630 ∧ cs.2 ≤ 7270213) (hP1 : fm_P (YC D dA N adC bk) C H) (hP2 : fm_P (YM D dA adR) R H) (hS : va_S (lz_A X) (xs X).heap H locs) (hl : lv_has ls 4 [(3, .int (nI i)), (2, .ref (adR 0)), (1, .ref (adC 0)), (0, .ref b)]) (kk : lz_K X D dA N bk adC adR cs ls) : W (xp X) (xl X) (xe X) (xR X) (xs X) (xm X) (xa X) (xb X) (xt X) (xc X) H locs cs.1 cs.2 (xQ X) (F0 (xm X) 457 ls []) := by
  obtain ⟨r, C', R', hf, hg, hR'⟩ := pb_undoop (n := 50000) hR (by decide) 
  refine lv_aload_n F.exec F.bytes dL_law_457 rfl (lv_at hl 2 rfl) ?_
  refine lz_callV (Y := YC D dA N adC bk) (Y2 := YM D dA adR) (As := []) (rest := []) F hwC hd 0 (by show 0 < N; omega) rfl (ci := 0) rfl (mX0_undo hN hb hwC.1 hf) q665 q666 q667 q39 q668 ⟨rfl, rfl⟩ (n := 0) (by decide +kernel) ⟨fm_le rfl, fm_le rfl⟩ hcs rfl rfl (fm_le rfl) dL_law_458 hP1 hP2 hS hl (fun H locs hP1 hP2 hS => ?_)
  refine lv_aload_n F.exec F.bytes dL_law_461 rfl (lv_at hl 1 rfl) ?_
  refine lz_callV (Y := YM D dA adR) (Y2 := YC D dA N adC bk) (As := []) (rest := [.int r]) F hwR hd.symm 0 (by show 0 < 20; omega) rfl (ci := 9) rfl (mX9_undo hwR.1 hg) q994 q995 q996 q50 q997 ⟨rfl, rfl⟩ (n := 0) (by decide +kernel) ⟨fm_le rfl, fm_le rfl⟩ hcs rfl rfl (fm_le rfl) dL_law_462 hP2 hP1 hS hl (fun H locs hP2 hP1 hS => ?_)
  exact lv_icmp_eq (tgt := 882) F.exec F.bytes dL_law_465 (by decide) (fun _ => kk C' R' H locs hR' hP1 hP2 hS) (fun h => absurd rfl h)
theorem lz_c12 (F : lz_F X D dA b L sc) (hwC : lz_W X (YC D dA N adC bk)) (hwR : lz_W X (YM D dA adR)) (hd : lz_D (YC D dA N adC bk) (YM D dA adR)) (hN : 193 ≤ N) (hb : fm_isBk N bk) (hR : pb_R bk C R) (hi : i + 3 < L) (hL : L ≤ 256) (hcs : cs.1 ≤ 608630 ∧ cs.2 ≤ 7270213) (hP1 : fm_P (YC D dA N adC bk) C H) (hP2 : fm_P (YM D dA adR) R H) (hS : va_S (lz_A X) (xs X).heap H locs) (hl : lv_has ls 4 [(3, .int (nI i)), (2, .ref (adR 0)), (1, .ref (adC 0)), (0, .ref b)]) (kk : lz_K X D dA N bk adC adR cs ls) : W (xp X) (xl X) (xe X) (xR X) (xs X) (xm X) (xa X) (xb X) (xt X) (xc X) H locs cs.1 cs.2 (xQ X) (F0 (xm X) 470 ls []) := by
  obtain ⟨r, C', R', hf, hg, hR'⟩ := pb_inLotsop (n := 50000) hR (by decide) (sc (nI i + 1).toNatClampNeg) (sc (nI i + 2).toNatClampNeg) (sc (nI i + 3).toNatClampNeg)
  refine lv_aload_n F.exec F.bytes dL_law_470 rfl (lv_at hl 2 rfl) ?_
  refine lv_aload_n F.exec F.bytes dL_law_471 rfl (lv_at hl 3 rfl) ?_
  refine lv_iload_n F.exec F.bytes dL_law_472 rfl (lv_at hl 0 rfl) ?_
  refine lv_iconst (v := 1) F.exec F.bytes dL_law_473 (by decide) ?_
  refine lv_iadd F.exec F.bytes dL_law_474 ?_
  refine va_sld F.exec F.bytes F.scr F.blt F.bA hS (lz_in (k := 1) (by omega) hL rfl) dL_law_475 ?_
  refine lv_aload_n F.exec F.bytes dL_law_476 rfl (lv_at hl 3 rfl) ?_
  refine lv_iload_n F.exec F.bytes dL_law_477 rfl (lv_at hl 0 rfl) ?_
  refine lv_iconst (v := 2) F.exec F.bytes dL_law_478 (by decide) ?_
  refine lv_iadd F.exec F.bytes dL_law_479 ?_
  refine va_sld F.exec F.bytes F.scr F.blt F.bA hS (lz_in (k := 2) (by omega) hL rfl) dL_law_480 ?_
  refine lv_aload_n F.exec F.bytes dL_law_481 rfl (lv_at hl 3 rfl) ?_
  refine lv_iload_n F.exec F.bytes dL_law_482 rfl (lv_at hl 0 rfl) ?_
  refine lv_iconst (v := 3) F.exec F.bytes dL_law_483 (by decide) ?_
  refine lv_iadd F.exec F.bytes dL_law_484 ?_
  refine va_sld F.exec F.bytes F.scr F.blt F.bA hS (lz_in (k := 3) (by omega) hL rfl) dL_law_485 ?_
  refine lz_callV (Y := YC D dA N adC bk) (Y2 := YM D dA adR) (As := [.int (sc (nI i + 1).toNatClampNeg), .int (sc (nI i + 2).toNatClampNeg), .int (sc (nI i + 3).toNatClampNeg)]) (rest := []) F hwC hd 0 (by show 0 < N; omega) rfl (ci := 0) rfl (mX0_inLots hN hb hwC.1 hf) q669 q670 q671 q39 q672 ⟨rfl, rfl⟩ (n := 3) (by decide +kernel) ⟨fm_le rfl, fm_le rfl⟩ hcs rfl rfl (fm_le rfl) dL_law_486 hP1 hP2 hS hl (fun H locs hP1 hP2 hS => ?_)
  refine lv_aload_n F.exec F.bytes dL_law_489 rfl (lv_at hl 1 rfl) ?_
  refine lv_aload_n F.exec F.bytes dL_law_490 rfl (lv_at hl 3 rfl) ?_
  refine lv_iload_n F.exec F.bytes dL_law_491 rfl (lv_at hl 0 rfl) ?_
  refine lv_iconst (v := 1) F.exec F.bytes dL_law_492 (by decide) ?_
  refine lv_iadd F.exec F.bytes dL_law_493 ?_
  refine va_sld F.exec F.bytes F.scr F.blt F.bA hS (lz_in (k := 1) (by omega) hL rfl) dL_law_494 ?_
  refine lv_aload_n F.exec F.bytes dL_law_495 rfl (lv_at hl 3 rfl) ?_
  refine lv_iload_n F.exec F.bytes dL_law_496 rfl (lv_at hl 0 rfl) ?_
  refine lv_iconst (v := 2) F.exec F.bytes dL_law_497 (by decide) ?_
  refine lv_iadd F.exec F.bytes dL_law_498 ?_
  refine va_sld F.exec F.bytes F.scr F.blt F.bA hS (lz_in (k := 2) (by omega) hL rfl) dL_law_499 ?_
  refine lv_aload_n F.exec F.bytes dL_law_500 rfl (lv_at hl 3 rfl) ?_
  refine lv_iload_n F.exec F.bytes dL_law_501 rfl (lv_at hl 0 rfl) ?_
  refine lv_iconst (v := 3) F.exec F.bytes dL_law_502 (by decide) ?_
  refine lv_iadd F.exec F.bytes dL_law_503 ?_
  refine va_sld F.exec F.bytes F.scr F.blt F.bA hS (lz_in (k := 3) (by omega) hL rfl) dL_law_504 ?_
  refine lz_callV (Y := YM D dA adR) (Y2 := YC D dA N adC bk) (As := [.int (sc (nI i + 1).toNatClampNeg), .int (sc (nI i + 2).toNatClampNeg), .int (sc (nI i + 3).toNatClampNeg)]) (rest := [.int r]) F hwR hd.symm 0 (by show 0 < 20; omega) rfl (ci := 9) rfl (mX9_inLots hwR.1 hg) q998 q999 q1000 q50 q1001 ⟨rfl, rfl⟩ (n := 3) (by decide +kernel) ⟨fm_le rfl, fm_le rfl⟩ hcs rfl rfl (fm_le rfl) dL_law_505 hP2 hP1 hS hl (fun H locs hP2 hP1 hS => ?_)
  exact lv_icmp_eq (tgt := 882) F.exec F.bytes dL_law_508 (by decide) (fun _ => kk C' R' H locs hR' hP1 hP2 hS) (fun h => absurd rfl h)
theorem lz_c13 (F : lz_F X D dA b L sc) (hwC : lz_W X (YC D dA N adC bk)) (hwR : lz_W X (YM D dA adR)) (hd : lz_D (YC D dA N adC bk) (YM D dA adR)) (hN : 193 ≤ N) (hb : fm_isBk N bk) (hR : pb_R bk C R) (hi : i + 3 < L) (hL : L ≤ 256) (hcs : cs.1 ≤ 608630 ∧ cs.2 ≤ 7270213) (hP1 : fm_P (YC D dA N adC bk) C H) (hP2 : fm_P (YM D dA adR) R H) (hS : va_S (lz_A X) (xs X).heap H locs) (hl : lv_has ls 4 [(3, .int (nI i)), (2, .ref (adR 0)), (1, .ref (adC 0)), (0, .ref b)]) (kk : lz_K X D dA N bk adC adR cs ls) : W (xp X) (xl X) (xe X) (xR X) (xs X) (xm X) (xa X) (xb X) (xt X) (xc X) H locs cs.1 cs.2 (xQ X) (F0 (xm X) 513 ls []) := by
  obtain ⟨r, C', R', hf, hg, hR'⟩ := pb_costop (n := 50000) hR (by decide) (sc (nI i + 1).toNatClampNeg)
  refine lv_aload_n F.exec F.bytes dL_law_513 rfl (lv_at hl 2 rfl) ?_
  refine lv_aload_n F.exec F.bytes dL_law_514 rfl (lv_at hl 3 rfl) ?_
  refine lv_iload_n F.exec F.bytes dL_law_515 rfl (lv_at hl 0 rfl) ?_
  refine lv_iconst (v := 1) F.exec F.bytes dL_law_516 (by decide) ?_
  refine lv_iadd F.exec F.bytes dL_law_517 ?_
  refine va_sld F.exec F.bytes F.scr F.blt F.bA hS (lz_in (k := 1) (by omega) hL rfl) dL_law_518 ?_
  refine lz_callV (Y := YC D dA N adC bk) (Y2 := YM D dA adR) (As := [.int (sc (nI i + 1).toNatClampNeg)]) (rest := []) F hwC hd 0 (by show 0 < N; omega) rfl (ci := 0) rfl (mX0_cost hN hb hwC.1 hf) q673 q674 q675 q39 q676 ⟨rfl, rfl⟩ (n := 1) (by decide +kernel) ⟨fm_le rfl, fm_le rfl⟩ hcs rfl rfl (fm_le rfl) dL_law_519 hP1 hP2 hS hl (fun H locs hP1 hP2 hS => ?_)
  refine lv_aload_n F.exec F.bytes dL_law_522 rfl (lv_at hl 1 rfl) ?_
  refine lv_aload_n F.exec F.bytes dL_law_523 rfl (lv_at hl 3 rfl) ?_
  refine lv_iload_n F.exec F.bytes dL_law_524 rfl (lv_at hl 0 rfl) ?_
  refine lv_iconst (v := 1) F.exec F.bytes dL_law_525 (by decide) ?_
  refine lv_iadd F.exec F.bytes dL_law_526 ?_
  refine va_sld F.exec F.bytes F.scr F.blt F.bA hS (lz_in (k := 1) (by omega) hL rfl) dL_law_527 ?_
  refine lz_callV (Y := YM D dA adR) (Y2 := YC D dA N adC bk) (As := [.int (sc (nI i + 1).toNatClampNeg)]) (rest := [.int r]) F hwR hd.symm 0 (by show 0 < 20; omega) rfl (ci := 9) rfl (mX9_cost hwR.1 hg) q1006 q1007 q1008 q50 q1009 ⟨rfl, rfl⟩ (n := 1) (by decide +kernel) ⟨fm_le rfl, fm_le rfl⟩ hcs rfl rfl (fm_le rfl) dL_law_528 hP2 hP1 hS hl (fun H locs hP2 hP1 hS => ?_)
  exact lv_icmp_eq (tgt := 882) F.exec F.bytes dL_law_531 (by decide) (fun _ => kk C' R' H locs hR' hP1 hP2 hS) (fun h => absurd rfl h)
theorem lz_c14 (F : lz_F X D dA b L sc) (hwC : lz_W X (YC D dA N adC bk)) (hwR : lz_W X (YM D dA adR)) (hd : lz_D (YC D dA N adC bk) (YM D dA adR)) (hN : 193 ≤ N) (hb : fm_isBk N bk) (hR : pb_R bk C R) (hi : i + 3 < L) (hL : L ≤ 256) (hcs : cs.1 ≤ 608630 ∧ cs.2 ≤ 7270213) (hP1 : fm_P (YC D dA N adC bk) C H) (hP2 : fm_P (YM D dA adR) R H) (hS : va_S (lz_A X) (xs X).heap H locs) (hl : lv_has ls 4 [(3, .int (nI i)), (2, .ref (adR 0)), (1, .ref (adC 0)), (0, .ref b)]) (kk : lz_K X D dA N bk adC adR cs ls) : W (xp X) (xl X) (xe X) (xR X) (xs X) (xm X) (xa X) (xb X) (xt X) (xc X) H locs cs.1 cs.2 (xQ X) (F0 (xm X) 536 ls []) := by
  obtain ⟨r, C', R', hf, hg, hR'⟩ := pb_homeop (n := 50000) hR (by decide) (sc (nI i + 1).toNatClampNeg)
  refine lv_aload_n F.exec F.bytes dL_law_536 rfl (lv_at hl 2 rfl) ?_
  refine lv_aload_n F.exec F.bytes dL_law_537 rfl (lv_at hl 3 rfl) ?_
  refine lv_iload_n F.exec F.bytes dL_law_538 rfl (lv_at hl 0 rfl) ?_
  refine lv_iconst (v := 1) F.exec F.bytes dL_law_539 (by decide) ?_
  refine lv_iadd F.exec F.bytes dL_law_540 ?_
  refine va_sld F.exec F.bytes F.scr F.blt F.bA hS (lz_in (k := 1) (by omega) hL rfl) dL_law_541 ?_
  refine lz_callV (Y := YC D dA N adC bk) (Y2 := YM D dA adR) (As := [.int (sc (nI i + 1).toNatClampNeg)]) (rest := []) F hwC hd 0 (by show 0 < N; omega) rfl (ci := 0) rfl (mX0_home hN hb hwC.1 hf) q678 q679 q680 q39 q681 ⟨rfl, rfl⟩ (n := 1) (by decide +kernel) ⟨fm_le rfl, fm_le rfl⟩ hcs rfl rfl (fm_le rfl) dL_law_542 hP1 hP2 hS hl (fun H locs hP1 hP2 hS => ?_)
  refine lv_aload_n F.exec F.bytes dL_law_545 rfl (lv_at hl 1 rfl) ?_
  refine lv_aload_n F.exec F.bytes dL_law_546 rfl (lv_at hl 3 rfl) ?_
  refine lv_iload_n F.exec F.bytes dL_law_547 rfl (lv_at hl 0 rfl) ?_
  refine lv_iconst (v := 1) F.exec F.bytes dL_law_548 (by decide) ?_
  refine lv_iadd F.exec F.bytes dL_law_549 ?_
  refine va_sld F.exec F.bytes F.scr F.blt F.bA hS (lz_in (k := 1) (by omega) hL rfl) dL_law_550 ?_
  refine lz_callV (Y := YM D dA adR) (Y2 := YC D dA N adC bk) (As := [.int (sc (nI i + 1).toNatClampNeg)]) (rest := [.int r]) F hwR hd.symm 0 (by show 0 < 20; omega) rfl (ci := 9) rfl (mX9_home hwR.1 hg) q1010 q1011 q1012 q50 q1013 ⟨rfl, rfl⟩ (n := 1) (by decide +kernel) ⟨fm_le rfl, fm_le rfl⟩ hcs rfl rfl (fm_le rfl) dL_law_551 hP2 hP1 hS hl (fun H locs hP2 hP1 hS => ?_)
  exact lv_icmp_eq (tgt := 882) F.exec F.bytes dL_law_554 (by decide) (fun _ => kk C' R' H locs hR' hP1 hP2 hS) (fun h => absurd rfl h)
theorem lz_c15 (F : lz_F X D dA b L sc) (hwC : lz_W X (YC D dA N adC bk)) (hwR : lz_W X (YM D dA adR)) (hd : lz_D (YC D dA N adC bk) (YM D dA adR)) (hN : 193 ≤ N) (hb : fm_isBk N bk) (hR : pb_R bk C R) (hi : i + 3 < L) (hL : L ≤ 256) (hcs : cs.1 ≤ 608630 ∧ cs.2 ≤ 7270213) (hP1 : fm_P (YC D dA N adC bk) C H) (hP2 : fm_P (YM D dA adR) R H) (hS : va_S (lz_A X) (xs X).heap H locs) (hl : lv_has ls 4 [(3, .int (nI i)), (2, .ref (adR 0)), (1, .ref (adC 0)), (0, .ref b)]) (kk : lz_K X D dA N bk adC adR cs ls) : W (xp X) (xl X) (xe X) (xR X) (xs X) (xm X) (xa X) (xb X) (xt X) (xc X) H locs cs.1 cs.2 (xQ X) (F0 (xm X) 559 ls []) := by
  obtain ⟨r, C', R', hf, hg, hR'⟩ := pb_hangop (n := 50000) hR (by decide) (sc (nI i + 1).toNatClampNeg)
  refine lv_aload_n F.exec F.bytes dL_law_559 rfl (lv_at hl 2 rfl) ?_
  refine lv_aload_n F.exec F.bytes dL_law_560 rfl (lv_at hl 3 rfl) ?_
  refine lv_iload_n F.exec F.bytes dL_law_561 rfl (lv_at hl 0 rfl) ?_
  refine lv_iconst (v := 1) F.exec F.bytes dL_law_562 (by decide) ?_
  refine lv_iadd F.exec F.bytes dL_law_563 ?_
  refine va_sld F.exec F.bytes F.scr F.blt F.bA hS (lz_in (k := 1) (by omega) hL rfl) dL_law_564 ?_
  refine lz_callV (Y := YC D dA N adC bk) (Y2 := YM D dA adR) (As := [.int (sc (nI i + 1).toNatClampNeg)]) (rest := []) F hwC hd 0 (by show 0 < N; omega) rfl (ci := 0) rfl (mX0_hang hN hb hwC.1 hf) q682 q683 q684 q39 q685 ⟨rfl, rfl⟩ (n := 1) (by decide +kernel) ⟨fm_le rfl, fm_le rfl⟩ hcs rfl rfl (fm_le rfl) dL_law_565 hP1 hP2 hS hl (fun H locs hP1 hP2 hS => ?_)
  refine lv_aload_n F.exec F.bytes dL_law_568 rfl (lv_at hl 1 rfl) ?_
  refine lv_aload_n F.exec F.bytes dL_law_569 rfl (lv_at hl 3 rfl) ?_
  refine lv_iload_n F.exec F.bytes dL_law_570 rfl (lv_at hl 0 rfl) ?_
  refine lv_iconst (v := 1) F.exec F.bytes dL_law_571 (by decide) ?_
  refine lv_iadd F.exec F.bytes dL_law_572 ?_
  refine va_sld F.exec F.bytes F.scr F.blt F.bA hS (lz_in (k := 1) (by omega) hL rfl) dL_law_573 ?_
  refine lz_callV (Y := YM D dA adR) (Y2 := YC D dA N adC bk) (As := [.int (sc (nI i + 1).toNatClampNeg)]) (rest := [.int r]) F hwR hd.symm 0 (by show 0 < 20; omega) rfl (ci := 9) rfl (mX9_hang hwR.1 hg) q1014 q1015 q1016 q50 q1017 ⟨rfl, rfl⟩ (n := 1) (by decide +kernel) ⟨fm_le rfl, fm_le rfl⟩ hcs rfl rfl (fm_le rfl) dL_law_574 hP2 hP1 hS hl (fun H locs hP2 hP1 hS => ?_)
  exact lv_icmp_eq (tgt := 882) F.exec F.bytes dL_law_577 (by decide) (fun _ => kk C' R' H locs hR' hP1 hP2 hS) (fun h => absurd rfl h)
theorem lz_c16 (F : lz_F X D dA b L sc) (hwC : lz_W X (YC D dA N adC bk)) (hwR : lz_W X (YM D dA adR)) (hd : lz_D (YC D dA N adC bk) (YM D dA adR)) (hN : 193 ≤ N) (hb : fm_isBk N bk) (hR : pb_R bk C R) (hi : i + 3 < L) (hL : L ≤ 256) (hcs : cs.1 ≤ 608630 ∧ cs.2 ≤ 7270213) (hP1 : fm_P (YC D dA N adC bk) C H) (hP2 : fm_P (YM D dA adR) R H) (hS : va_S (lz_A X) (xs X).heap H locs) (hl : lv_has ls 4 [(3, .int (nI i)), (2, .ref (adR 0)), (1, .ref (adC 0)), (0, .ref b)]) (kk : lz_K X D dA N bk adC adR cs ls) : W (xp X) (xl X) (xe X) (xR X) (xs X) (xm X) (xa X) (xb X) (xt X) (xc X) H locs cs.1 cs.2 (xQ X) (F0 (xm X) 582 ls []) := by
  obtain ⟨r, C', R', hf, hg, hR'⟩ := pb_roundop (n := 50000) hR (by decide) (sc (nI i + 1).toNatClampNeg)
  refine lv_aload_n F.exec F.bytes dL_law_582 rfl (lv_at hl 2 rfl) ?_
  refine lv_aload_n F.exec F.bytes dL_law_583 rfl (lv_at hl 3 rfl) ?_
  refine lv_iload_n F.exec F.bytes dL_law_584 rfl (lv_at hl 0 rfl) ?_
  refine lv_iconst (v := 1) F.exec F.bytes dL_law_585 (by decide) ?_
  refine lv_iadd F.exec F.bytes dL_law_586 ?_
  refine va_sld F.exec F.bytes F.scr F.blt F.bA hS (lz_in (k := 1) (by omega) hL rfl) dL_law_587 ?_
  refine lz_callV (Y := YC D dA N adC bk) (Y2 := YM D dA adR) (As := [.int (sc (nI i + 1).toNatClampNeg)]) (rest := []) F hwC hd 0 (by show 0 < N; omega) rfl (ci := 0) rfl (mX0_round hN hb hwC.1 hf) q690 q691 q692 q39 q693 ⟨rfl, rfl⟩ (n := 1) (by decide +kernel) ⟨fm_le rfl, fm_le rfl⟩ hcs rfl rfl (fm_le rfl) dL_law_588 hP1 hP2 hS hl (fun H locs hP1 hP2 hS => ?_)
  refine lv_aload_n F.exec F.bytes dL_law_591 rfl (lv_at hl 1 rfl) ?_
  refine lv_aload_n F.exec F.bytes dL_law_592 rfl (lv_at hl 3 rfl) ?_
  refine lv_iload_n F.exec F.bytes dL_law_593 rfl (lv_at hl 0 rfl) ?_
  refine lv_iconst (v := 1) F.exec F.bytes dL_law_594 (by decide) ?_
  refine lv_iadd F.exec F.bytes dL_law_595 ?_
  refine va_sld F.exec F.bytes F.scr F.blt F.bA hS (lz_in (k := 1) (by omega) hL rfl) dL_law_596 ?_
  refine lz_callV (Y := YM D dA adR) (Y2 := YC D dA N adC bk) (As := [.int (sc (nI i + 1).toNatClampNeg)]) (rest := [.int r]) F hwR hd.symm 0 (by show 0 < 20; omega) rfl (ci := 9) rfl (mX9_round hwR.1 hg) q1034 q1035 q1036 q50 q1037 ⟨rfl, rfl⟩ (n := 1) (by decide +kernel) ⟨fm_le rfl, fm_le rfl⟩ hcs rfl rfl (fm_le rfl) dL_law_597 hP2 hP1 hS hl (fun H locs hP2 hP1 hS => ?_)
  exact lv_icmp_eq (tgt := 882) F.exec F.bytes dL_law_600 (by decide) (fun _ => kk C' R' H locs hR' hP1 hP2 hS) (fun h => absurd rfl h)
theorem lz_c17 (F : lz_F X D dA b L sc) (hwC : lz_W X (YC D dA N adC bk)) (hwR : lz_W X (YM D dA adR)) (hd : lz_D (YC D dA N adC bk) (YM D dA adR)) (hN : 193 ≤ N) (hb : fm_isBk N bk) (hR : pb_R bk C R) (hi : i + 3 < L) (hL : L ≤ 256) (hcs : cs.1 ≤ 608630 ∧ cs.2 ≤ 7270213) (hP1 : fm_P (YC D dA N adC bk) C H) (hP2 : fm_P (YM D dA adR) R H) (hS : va_S (lz_A X) (xs X).heap H locs) (hl : lv_has ls 4 [(3, .int (nI i)), (2, .ref (adR 0)), (1, .ref (adC 0)), (0, .ref b)]) (kk : lz_K X D dA N bk adC adR cs ls) : W (xp X) (xl X) (xe X) (xR X) (xs X) (xm X) (xa X) (xb X) (xt X) (xc X) H locs cs.1 cs.2 (xQ X) (F0 (xm X) 605 ls []) := by
  obtain ⟨r, C', R', hf, hg, hR'⟩ := pb_crossedop (n := 50000) hR (by decide) 
  refine lv_aload_n F.exec F.bytes dL_law_605 rfl (lv_at hl 2 rfl) ?_
  refine lz_callV (Y := YC D dA N adC bk) (Y2 := YM D dA adR) (As := []) (rest := []) F hwC hd 0 (by show 0 < N; omega) rfl (ci := 0) rfl (mX0_crossed hN hb hwC.1 hf) q694 q695 q696 q39 q697 ⟨rfl, rfl⟩ (n := 0) (by decide +kernel) ⟨fm_le rfl, fm_le rfl⟩ hcs rfl rfl (fm_le rfl) dL_law_606 hP1 hP2 hS hl (fun H locs hP1 hP2 hS => ?_)
  refine lv_aload_n F.exec F.bytes dL_law_609 rfl (lv_at hl 1 rfl) ?_
  refine lz_callV (Y := YM D dA adR) (Y2 := YC D dA N adC bk) (As := []) (rest := [.int r]) F hwR hd.symm 0 (by show 0 < 20; omega) rfl (ci := 9) rfl (mX9_crossed hwR.1 hg) q1038 q1039 q1040 q50 q1041 ⟨rfl, rfl⟩ (n := 0) (by decide +kernel) ⟨fm_le rfl, fm_le rfl⟩ hcs rfl rfl (fm_le rfl) dL_law_610 hP2 hP1 hS hl (fun H locs hP2 hP1 hS => ?_)
  exact lv_icmp_eq (tgt := 882) F.exec F.bytes dL_law_613 (by decide) (fun _ => kk C' R' H locs hR' hP1 hP2 hS) (fun h => absurd rfl h)
theorem lz_c18 (F : lz_F X D dA b L sc) (hwC : lz_W X (YC D dA N adC bk)) (hwR : lz_W X (YM D dA adR)) (hd : lz_D (YC D dA N adC bk) (YM D dA adR)) (hN : 193 ≤ N) (hb : fm_isBk N bk) (hR : pb_R bk C R) (hi : i + 3 < L) (hL : L ≤ 256) (hcs : cs.1 ≤ 608630 ∧ cs.2 ≤ 7270213) (hP1 : fm_P (YC D dA N adC bk) C H) (hP2 : fm_P (YM D dA adR) R H) (hS : va_S (lz_A X) (xs X).heap H locs) (hl : lv_has ls 4 [(3, .int (nI i)), (2, .ref (adR 0)), (1, .ref (adC 0)), (0, .ref b)]) (kk : lz_K X D dA N bk adC adR cs ls) : W (xp X) (xl X) (xe X) (xR X) (xs X) (xm X) (xa X) (xb X) (xt X) (xc X) H locs cs.1 cs.2 (xQ X) (F0 (xm X) 618 ls []) := by
  obtain ⟨r, C', R', hf, hg, hR'⟩ := pb_oathsop (n := 50000) hR (by decide) (sc (nI i + 1).toNatClampNeg)
  refine lv_aload_n F.exec F.bytes dL_law_618 rfl (lv_at hl 2 rfl) ?_
  refine lv_aload_n F.exec F.bytes dL_law_619 rfl (lv_at hl 3 rfl) ?_
  refine lv_iload_n F.exec F.bytes dL_law_620 rfl (lv_at hl 0 rfl) ?_
  refine lv_iconst (v := 1) F.exec F.bytes dL_law_621 (by decide) ?_
  refine lv_iadd F.exec F.bytes dL_law_622 ?_
  refine va_sld F.exec F.bytes F.scr F.blt F.bA hS (lz_in (k := 1) (by omega) hL rfl) dL_law_623 ?_
  refine lz_callV (Y := YC D dA N adC bk) (Y2 := YM D dA adR) (As := [.int (sc (nI i + 1).toNatClampNeg)]) (rest := []) F hwC hd 0 (by show 0 < N; omega) rfl (ci := 0) rfl (mX0_oaths hN hb hwC.1 hf) q702 q703 q704 q39 q705 ⟨rfl, rfl⟩ (n := 1) (by decide +kernel) ⟨fm_le rfl, fm_le rfl⟩ hcs rfl rfl (fm_le rfl) dL_law_624 hP1 hP2 hS hl (fun H locs hP1 hP2 hS => ?_)
  refine lv_aload_n F.exec F.bytes dL_law_627 rfl (lv_at hl 1 rfl) ?_
  refine lv_aload_n F.exec F.bytes dL_law_628 rfl (lv_at hl 3 rfl) ?_
  refine lv_iload_n F.exec F.bytes dL_law_629 rfl (lv_at hl 0 rfl) ?_
  refine lv_iconst (v := 1) F.exec F.bytes dL_law_630 (by decide) ?_
  refine lv_iadd F.exec F.bytes dL_law_631 ?_
  refine va_sld F.exec F.bytes F.scr F.blt F.bA hS (lz_in (k := 1) (by omega) hL rfl) dL_law_632 ?_
  refine lz_callV (Y := YM D dA adR) (Y2 := YC D dA N adC bk) (As := [.int (sc (nI i + 1).toNatClampNeg)]) (rest := [.int r]) F hwR hd.symm 0 (by show 0 < 20; omega) rfl (ci := 9) rfl (mX9_oaths hwR.1 hg) q1042 q1043 q1044 q50 q1045 ⟨rfl, rfl⟩ (n := 1) (by decide +kernel) ⟨fm_le rfl, fm_le rfl⟩ hcs rfl rfl (fm_le rfl) dL_law_633 hP2 hP1 hS hl (fun H locs hP2 hP1 hS => ?_)
  exact lv_icmp_eq (tgt := 882) F.exec F.bytes dL_law_636 (by decide) (fun _ => kk C' R' H locs hR' hP1 hP2 hS) (fun h => absurd rfl h)
theorem lz_c19 (F : lz_F X D dA b L sc) (hwC : lz_W X (YC D dA N adC bk)) (hwR : lz_W X (YM D dA adR)) (hd : lz_D (YC D dA N adC bk) (YM D dA adR)) (hN : 193 ≤ N) (hb : fm_isBk N bk) (hR : pb_R bk C R) (hi : i + 3 < L) (hL : L ≤ 256) (hcs : cs.1 ≤ 608630 ∧ cs.2 ≤ 7270213) (hP1 : fm_P (YC D dA N adC bk) C H) (hP2 : fm_P (YM D dA adR) R H) (hS : va_S (lz_A X) (xs X).heap H locs) (hl : lv_has ls 4 [(3, .int (nI i)), (2, .ref (adR 0)), (1, .ref (adC 0)), (0, .ref b)]) (kk : lz_K X D dA N bk adC adR cs ls) : W (xp X) (xl X) (xe X) (xR X) (xs X) (xm X) (xa X) (xb X) (xt X) (xc X) H locs cs.1 cs.2 (xQ X) (F0 (xm X) 641 ls []) := by
  obtain ⟨r, C', R', hf, hg, hR'⟩ := pb_strokes (n := 50000) hR (sc (nI i + 1).toNatClampNeg) (sc (nI i + 2).toNatClampNeg)
  refine lv_aload_n F.exec F.bytes dL_law_641 rfl (lv_at hl 2 rfl) ?_
  refine lv_aload_n F.exec F.bytes dL_law_642 rfl (lv_at hl 3 rfl) ?_
  refine lv_iload_n F.exec F.bytes dL_law_643 rfl (lv_at hl 0 rfl) ?_
  refine lv_iconst (v := 1) F.exec F.bytes dL_law_644 (by decide) ?_
  refine lv_iadd F.exec F.bytes dL_law_645 ?_
  refine va_sld F.exec F.bytes F.scr F.blt F.bA hS (lz_in (k := 1) (by omega) hL rfl) dL_law_646 ?_
  refine lv_aload_n F.exec F.bytes dL_law_647 rfl (lv_at hl 3 rfl) ?_
  refine lv_iload_n F.exec F.bytes dL_law_648 rfl (lv_at hl 0 rfl) ?_
  refine lv_iconst (v := 2) F.exec F.bytes dL_law_649 (by decide) ?_
  refine lv_iadd F.exec F.bytes dL_law_650 ?_
  refine va_sld F.exec F.bytes F.scr F.blt F.bA hS (lz_in (k := 2) (by omega) hL rfl) dL_law_651 ?_
  refine lz_callV (Y := YC D dA N adC bk) (Y2 := YM D dA adR) (As := [.int (sc (nI i + 1).toNatClampNeg), .int (sc (nI i + 2).toNatClampNeg)]) (rest := []) F hwC hd 0 (by show 0 < N; omega) rfl (ci := 0) rfl (mX0_strokes hN hb hwC.1 hf) q706 q707 q708 q39 q709 ⟨rfl, rfl⟩ (n := 2) (by decide +kernel) ⟨fm_le rfl, fm_le rfl⟩ hcs rfl rfl (fm_le rfl) dL_law_652 hP1 hP2 hS hl (fun H locs hP1 hP2 hS => ?_)
  refine lv_aload_n F.exec F.bytes dL_law_655 rfl (lv_at hl 1 rfl) ?_
  refine lv_aload_n F.exec F.bytes dL_law_656 rfl (lv_at hl 3 rfl) ?_
  refine lv_iload_n F.exec F.bytes dL_law_657 rfl (lv_at hl 0 rfl) ?_
  refine lv_iconst (v := 1) F.exec F.bytes dL_law_658 (by decide) ?_
  refine lv_iadd F.exec F.bytes dL_law_659 ?_
  refine va_sld F.exec F.bytes F.scr F.blt F.bA hS (lz_in (k := 1) (by omega) hL rfl) dL_law_660 ?_
  refine lv_aload_n F.exec F.bytes dL_law_661 rfl (lv_at hl 3 rfl) ?_
  refine lv_iload_n F.exec F.bytes dL_law_662 rfl (lv_at hl 0 rfl) ?_
  refine lv_iconst (v := 2) F.exec F.bytes dL_law_663 (by decide) ?_
  refine lv_iadd F.exec F.bytes dL_law_664 ?_
  refine va_sld F.exec F.bytes F.scr F.blt F.bA hS (lz_in (k := 2) (by omega) hL rfl) dL_law_665 ?_
  refine lz_callV (Y := YM D dA adR) (Y2 := YC D dA N adC bk) (As := [.int (sc (nI i + 1).toNatClampNeg), .int (sc (nI i + 2).toNatClampNeg)]) (rest := [.int r]) F hwR hd.symm 0 (by show 0 < 20; omega) rfl (ci := 9) rfl (mX9_strokes hwR.1 hg) q1046 q1047 q1048 q50 q1049 ⟨rfl, rfl⟩ (n := 2) (by decide +kernel) ⟨fm_le rfl, fm_le rfl⟩ hcs rfl rfl (fm_le rfl) dL_law_666 hP2 hP1 hS hl (fun H locs hP2 hP1 hS => ?_)
  exact lv_icmp_eq (tgt := 882) F.exec F.bytes dL_law_669 (by decide) (fun _ => kk C' R' H locs hR' hP1 hP2 hS) (fun h => absurd rfl h)
theorem lz_c20 (F : lz_F X D dA b L sc) (hwC : lz_W X (YC D dA N adC bk)) (hwR : lz_W X (YM D dA adR)) (hd : lz_D (YC D dA N adC bk) (YM D dA adR)) (hN : 193 ≤ N) (hb : fm_isBk N bk) (hR : pb_R bk C R) (hi : i + 3 < L) (hL : L ≤ 256) (hcs : cs.1 ≤ 608630 ∧ cs.2 ≤ 7270213) (hP1 : fm_P (YC D dA N adC bk) C H) (hP2 : fm_P (YM D dA adR) R H) (hS : va_S (lz_A X) (xs X).heap H locs) (hl : lv_has ls 4 [(3, .int (nI i)), (2, .ref (adR 0)), (1, .ref (adC 0)), (0, .ref b)]) (kk : lz_K X D dA N bk adC adR cs ls) : W (xp X) (xl X) (xe X) (xR X) (xs X) (xm X) (xa X) (xb X) (xt X) (xc X) H locs cs.1 cs.2 (xQ X) (F0 (xm X) 674 ls []) := by
  obtain ⟨r, C', R', hf, hg, hR'⟩ := pb_found (n := 50000) hR (sc (nI i + 1).toNatClampNeg) (sc (nI i + 2).toNatClampNeg)
  refine lv_aload_n F.exec F.bytes dL_law_674 rfl (lv_at hl 2 rfl) ?_
  refine lv_aload_n F.exec F.bytes dL_law_675 rfl (lv_at hl 3 rfl) ?_
  refine lv_iload_n F.exec F.bytes dL_law_676 rfl (lv_at hl 0 rfl) ?_
  refine lv_iconst (v := 1) F.exec F.bytes dL_law_677 (by decide) ?_
  refine lv_iadd F.exec F.bytes dL_law_678 ?_
  refine va_sld F.exec F.bytes F.scr F.blt F.bA hS (lz_in (k := 1) (by omega) hL rfl) dL_law_679 ?_
  refine lv_aload_n F.exec F.bytes dL_law_680 rfl (lv_at hl 3 rfl) ?_
  refine lv_iload_n F.exec F.bytes dL_law_681 rfl (lv_at hl 0 rfl) ?_
  refine lv_iconst (v := 2) F.exec F.bytes dL_law_682 (by decide) ?_
  refine lv_iadd F.exec F.bytes dL_law_683 ?_
  refine va_sld F.exec F.bytes F.scr F.blt F.bA hS (lz_in (k := 2) (by omega) hL rfl) dL_law_684 ?_
  refine lz_callV (Y := YC D dA N adC bk) (Y2 := YM D dA adR) (As := [.int (sc (nI i + 1).toNatClampNeg), .int (sc (nI i + 2).toNatClampNeg)]) (rest := []) F hwC hd 0 (by show 0 < N; omega) rfl (ci := 0) rfl (mX0_found hN hb hwC.1 hf) q710 q711 q712 q39 q713 ⟨rfl, rfl⟩ (n := 2) (by decide +kernel) ⟨fm_le rfl, fm_le rfl⟩ hcs rfl rfl (fm_le rfl) dL_law_685 hP1 hP2 hS hl (fun H locs hP1 hP2 hS => ?_)
  refine lv_aload_n F.exec F.bytes dL_law_688 rfl (lv_at hl 1 rfl) ?_
  refine lv_aload_n F.exec F.bytes dL_law_689 rfl (lv_at hl 3 rfl) ?_
  refine lv_iload_n F.exec F.bytes dL_law_690 rfl (lv_at hl 0 rfl) ?_
  refine lv_iconst (v := 1) F.exec F.bytes dL_law_691 (by decide) ?_
  refine lv_iadd F.exec F.bytes dL_law_692 ?_
  refine va_sld F.exec F.bytes F.scr F.blt F.bA hS (lz_in (k := 1) (by omega) hL rfl) dL_law_693 ?_
  refine lv_aload_n F.exec F.bytes dL_law_694 rfl (lv_at hl 3 rfl) ?_
  refine lv_iload_n F.exec F.bytes dL_law_695 rfl (lv_at hl 0 rfl) ?_
  refine lv_iconst (v := 2) F.exec F.bytes dL_law_696 (by decide) ?_
  refine lv_iadd F.exec F.bytes dL_law_697 ?_
  refine va_sld F.exec F.bytes F.scr F.blt F.bA hS (lz_in (k := 2) (by omega) hL rfl) dL_law_698 ?_
  refine lz_callV (Y := YM D dA adR) (Y2 := YC D dA N adC bk) (As := [.int (sc (nI i + 1).toNatClampNeg), .int (sc (nI i + 2).toNatClampNeg)]) (rest := [.int r]) F hwR hd.symm 0 (by show 0 < 20; omega) rfl (ci := 9) rfl (mX9_found hwR.1 hg) q1050 q1051 q1052 q50 q1053 ⟨rfl, rfl⟩ (n := 2) (by decide +kernel) ⟨fm_le rfl, fm_le rfl⟩ hcs rfl rfl (fm_le rfl) dL_law_699 hP2 hP1 hS hl (fun H locs hP2 hP1 hS => ?_)
  exact lv_icmp_eq (tgt := 882) F.exec F.bytes dL_law_702 (by decide) (fun _ => kk C' R' H locs hR' hP1 hP2 hS) (fun h => absurd rfl h)
theorem lz_c21 (F : lz_F X D dA b L sc) (hwC : lz_W X (YC D dA N adC bk)) (hwR : lz_W X (YM D dA adR)) (hd : lz_D (YC D dA N adC bk) (YM D dA adR)) (hN : 193 ≤ N) (hb : fm_isBk N bk) (hR : pb_R bk C R) (hi : i + 3 < L) (hL : L ≤ 256) (hcs : cs.1 ≤ 608630 ∧ cs.2 ≤ 7270213) (hP1 : fm_P (YC D dA N adC bk) C H) (hP2 : fm_P (YM D dA adR) R H) (hS : va_S (lz_A X) (xs X).heap H locs) (hl : lv_has ls 4 [(3, .int (nI i)), (2, .ref (adR 0)), (1, .ref (adC 0)), (0, .ref b)]) (kk : lz_K X D dA N bk adC adR cs ls) : W (xp X) (xl X) (xe X) (xR X) (xs X) (xm X) (xa X) (xb X) (xt X) (xc X) H locs cs.1 cs.2 (xQ X) (F0 (xm X) 707 ls []) := by
  obtain ⟨r, C', R', hf, hg, hR'⟩ := pb_forget (n := 50000) hR 
  refine lv_aload_n F.exec F.bytes dL_law_707 rfl (lv_at hl 2 rfl) ?_
  refine lz_callV (Y := YC D dA N adC bk) (Y2 := YM D dA adR) (As := []) (rest := []) F hwC hd 0 (by show 0 < N; omega) rfl (ci := 0) rfl (mX0_forget hN hb hwC.1 hf) q714 q715 q716 q39 q717 ⟨rfl, rfl⟩ (n := 0) (by decide +kernel) ⟨fm_le rfl, fm_le rfl⟩ hcs rfl rfl (fm_le rfl) dL_law_708 hP1 hP2 hS hl (fun H locs hP1 hP2 hS => ?_)
  refine lv_aload_n F.exec F.bytes dL_law_711 rfl (lv_at hl 1 rfl) ?_
  refine lz_callV (Y := YM D dA adR) (Y2 := YC D dA N adC bk) (As := []) (rest := [.int r]) F hwR hd.symm 0 (by show 0 < 20; omega) rfl (ci := 9) rfl (mX9_forget hwR.1 hg) q1054 q1055 q1056 q50 q1057 ⟨rfl, rfl⟩ (n := 0) (by decide +kernel) ⟨fm_le rfl, fm_le rfl⟩ hcs rfl rfl (fm_le rfl) dL_law_712 hP2 hP1 hS hl (fun H locs hP2 hP1 hS => ?_)
  exact lv_icmp_eq (tgt := 882) F.exec F.bytes dL_law_715 (by decide) (fun _ => kk C' R' H locs hR' hP1 hP2 hS) (fun h => absurd rfl h)
theorem lz_c22 (F : lz_F X D dA b L sc) (hwC : lz_W X (YC D dA N adC bk)) (hwR : lz_W X (YM D dA adR)) (hd : lz_D (YC D dA N adC bk) (YM D dA adR)) (hN : 193 ≤ N) (hb : fm_isBk N bk) (hR : pb_R bk C R) (hi : i + 3 < L) (hL : L ≤ 256) (hcs : cs.1 ≤ 608630 ∧ cs.2 ≤ 7270213) (hP1 : fm_P (YC D dA N adC bk) C H) (hP2 : fm_P (YM D dA adR) R H) (hS : va_S (lz_A X) (xs X).heap H locs) (hl : lv_has ls 4 [(3, .int (nI i)), (2, .ref (adR 0)), (1, .ref (adC 0)), (0, .ref b)]) (kk : lz_K X D dA N bk adC adR cs ls) : W (xp X) (xl X) (xe X) (xR X) (xs X) (xm X) (xa X) (xb X) (xt X) (xc X) H locs cs.1 cs.2 (xQ X) (F0 (xm X) 720 ls []) := by
  obtain ⟨r, C', R', hf, hg, hR'⟩ := pb_whichop (n := 50000) hR (by decide) (sc (nI i + 1).toNatClampNeg)
  refine lv_aload_n F.exec F.bytes dL_law_720 rfl (lv_at hl 2 rfl) ?_
  refine lv_aload_n F.exec F.bytes dL_law_721 rfl (lv_at hl 3 rfl) ?_
  refine lv_iload_n F.exec F.bytes dL_law_722 rfl (lv_at hl 0 rfl) ?_
  refine lv_iconst (v := 1) F.exec F.bytes dL_law_723 (by decide) ?_
  refine lv_iadd F.exec F.bytes dL_law_724 ?_
  refine va_sld F.exec F.bytes F.scr F.blt F.bA hS (lz_in (k := 1) (by omega) hL rfl) dL_law_725 ?_
  refine lz_callV (Y := YC D dA N adC bk) (Y2 := YM D dA adR) (As := [.int (sc (nI i + 1).toNatClampNeg)]) (rest := []) F hwC hd 0 (by show 0 < N; omega) rfl (ci := 0) rfl (mX0_which hN hb hwC.1 hf) q718 q719 q720 q39 q721 ⟨rfl, rfl⟩ (n := 1) (by decide +kernel) ⟨fm_le rfl, fm_le rfl⟩ hcs rfl rfl (fm_le rfl) dL_law_726 hP1 hP2 hS hl (fun H locs hP1 hP2 hS => ?_)
  refine lv_aload_n F.exec F.bytes dL_law_729 rfl (lv_at hl 1 rfl) ?_
  refine lv_aload_n F.exec F.bytes dL_law_730 rfl (lv_at hl 3 rfl) ?_
  refine lv_iload_n F.exec F.bytes dL_law_731 rfl (lv_at hl 0 rfl) ?_
  refine lv_iconst (v := 1) F.exec F.bytes dL_law_732 (by decide) ?_
  refine lv_iadd F.exec F.bytes dL_law_733 ?_
  refine va_sld F.exec F.bytes F.scr F.blt F.bA hS (lz_in (k := 1) (by omega) hL rfl) dL_law_734 ?_
  refine lz_callV (Y := YM D dA adR) (Y2 := YC D dA N adC bk) (As := [.int (sc (nI i + 1).toNatClampNeg)]) (rest := [.int r]) F hwR hd.symm 0 (by show 0 < 20; omega) rfl (ci := 9) rfl (mX9_which hwR.1 hg) q1058 q1059 q1060 q50 q1061 ⟨rfl, rfl⟩ (n := 1) (by decide +kernel) ⟨fm_le rfl, fm_le rfl⟩ hcs rfl rfl (fm_le rfl) dL_law_735 hP2 hP1 hS hl (fun H locs hP2 hP1 hS => ?_)
  exact lv_icmp_eq (tgt := 882) F.exec F.bytes dL_law_738 (by decide) (fun _ => kk C' R' H locs hR' hP1 hP2 hS) (fun h => absurd rfl h)
theorem lz_c23 (F : lz_F X D dA b L sc) (hwC : lz_W X (YC D dA N adC bk)) (hwR : lz_W X (YM D dA adR)) (hd : lz_D (YC D dA N adC bk) (YM D dA adR)) (hN : 193 ≤ N) (hb : fm_isBk N bk) (hR : pb_R bk C R) (hi : i + 3 < L) (hL : L ≤ 256) (hcs : cs.1 ≤ 608630 ∧ cs.2 ≤ 7270213) (hP1 : fm_P (YC D dA N adC bk) C H) (hP2 : fm_P (YM D dA adR) R H) (hS : va_S (lz_A X) (xs X).heap H locs) (hl : lv_has ls 4 [(3, .int (nI i)), (2, .ref (adR 0)), (1, .ref (adC 0)), (0, .ref b)]) (kk : lz_K X D dA N bk adC adR cs ls) : W (xp X) (xl X) (xe X) (xR X) (xs X) (xm X) (xa X) (xb X) (xt X) (xc X) H locs cs.1 cs.2 (xQ X) (F0 (xm X) 743 ls []) := by
  obtain ⟨r, C', R', hf, hg, hR'⟩ := pb_oddsop (n := 50000) hR (by decide) (sc (nI i + 1).toNatClampNeg)
  refine lv_aload_n F.exec F.bytes dL_law_743 rfl (lv_at hl 2 rfl) ?_
  refine lv_aload_n F.exec F.bytes dL_law_744 rfl (lv_at hl 3 rfl) ?_
  refine lv_iload_n F.exec F.bytes dL_law_745 rfl (lv_at hl 0 rfl) ?_
  refine lv_iconst (v := 1) F.exec F.bytes dL_law_746 (by decide) ?_
  refine lv_iadd F.exec F.bytes dL_law_747 ?_
  refine va_sld F.exec F.bytes F.scr F.blt F.bA hS (lz_in (k := 1) (by omega) hL rfl) dL_law_748 ?_
  refine lz_callV (Y := YC D dA N adC bk) (Y2 := YM D dA adR) (As := [.int (sc (nI i + 1).toNatClampNeg)]) (rest := []) F hwC hd 0 (by show 0 < N; omega) rfl (ci := 0) rfl (mX0_odds hN hb hwC.1 hf) q722 q723 q724 q39 q725 ⟨rfl, rfl⟩ (n := 1) (by decide +kernel) ⟨fm_le rfl, fm_le rfl⟩ hcs rfl rfl (fm_le rfl) dL_law_749 hP1 hP2 hS hl (fun H locs hP1 hP2 hS => ?_)
  refine lv_aload_n F.exec F.bytes dL_law_752 rfl (lv_at hl 1 rfl) ?_
  refine lv_aload_n F.exec F.bytes dL_law_753 rfl (lv_at hl 3 rfl) ?_
  refine lv_iload_n F.exec F.bytes dL_law_754 rfl (lv_at hl 0 rfl) ?_
  refine lv_iconst (v := 1) F.exec F.bytes dL_law_755 (by decide) ?_
  refine lv_iadd F.exec F.bytes dL_law_756 ?_
  refine va_sld F.exec F.bytes F.scr F.blt F.bA hS (lz_in (k := 1) (by omega) hL rfl) dL_law_757 ?_
  refine lz_callV (Y := YM D dA adR) (Y2 := YC D dA N adC bk) (As := [.int (sc (nI i + 1).toNatClampNeg)]) (rest := [.int r]) F hwR hd.symm 0 (by show 0 < 20; omega) rfl (ci := 9) rfl (mX9_odds hwR.1 hg) q1062 q1063 q1064 q50 q1065 ⟨rfl, rfl⟩ (n := 1) (by decide +kernel) ⟨fm_le rfl, fm_le rfl⟩ hcs rfl rfl (fm_le rfl) dL_law_758 hP2 hP1 hS hl (fun H locs hP2 hP1 hS => ?_)
  exact lv_icmp_eq (tgt := 882) F.exec F.bytes dL_law_761 (by decide) (fun _ => kk C' R' H locs hR' hP1 hP2 hS) (fun h => absurd rfl h)
theorem lz_c24 (F : lz_F X D dA b L sc) (hwC : lz_W X (YC D dA N adC bk)) (hwR : lz_W X (YM D dA adR)) (hd : lz_D (YC D dA N adC bk) (YM D dA adR)) (hN : 193 ≤ N) (hb : fm_isBk N bk) (hR : pb_R bk C R) (hi : i + 3 < L) (hL : L ≤ 256) (hcs : cs.1 ≤ 608630 ∧ cs.2 ≤ 7270213) (hP1 : fm_P (YC D dA N adC bk) C H) (hP2 : fm_P (YM D dA adR) R H) (hS : va_S (lz_A X) (xs X).heap H locs) (hl : lv_has ls 4 [(3, .int (nI i)), (2, .ref (adR 0)), (1, .ref (adC 0)), (0, .ref b)]) (kk : lz_K X D dA N bk adC adR cs ls) : W (xp X) (xl X) (xe X) (xR X) (xs X) (xm X) (xa X) (xb X) (xt X) (xc X) H locs cs.1 cs.2 (xQ X) (F0 (xm X) 766 ls []) := by
  obtain ⟨r, C', R', hf, hg, hR'⟩ := pb_rate (n := 50000) hR (by decide) (sc (nI i + 1).toNatClampNeg) (sc (nI i + 2).toNatClampNeg)
  refine lv_aload_n F.exec F.bytes dL_law_766 rfl (lv_at hl 2 rfl) ?_
  refine lv_aload_n F.exec F.bytes dL_law_767 rfl (lv_at hl 3 rfl) ?_
  refine lv_iload_n F.exec F.bytes dL_law_768 rfl (lv_at hl 0 rfl) ?_
  refine lv_iconst (v := 1) F.exec F.bytes dL_law_769 (by decide) ?_
  refine lv_iadd F.exec F.bytes dL_law_770 ?_
  refine va_sld F.exec F.bytes F.scr F.blt F.bA hS (lz_in (k := 1) (by omega) hL rfl) dL_law_771 ?_
  refine lv_aload_n F.exec F.bytes dL_law_772 rfl (lv_at hl 3 rfl) ?_
  refine lv_iload_n F.exec F.bytes dL_law_773 rfl (lv_at hl 0 rfl) ?_
  refine lv_iconst (v := 2) F.exec F.bytes dL_law_774 (by decide) ?_
  refine lv_iadd F.exec F.bytes dL_law_775 ?_
  refine va_sld F.exec F.bytes F.scr F.blt F.bA hS (lz_in (k := 2) (by omega) hL rfl) dL_law_776 ?_
  refine lz_callV (Y := YC D dA N adC bk) (Y2 := YM D dA adR) (As := [.int (sc (nI i + 1).toNatClampNeg), .int (sc (nI i + 2).toNatClampNeg)]) (rest := []) F hwC hd 0 (by show 0 < N; omega) rfl (ci := 0) rfl (mX0_rate hN hb hwC.1 hf) q733 q734 q735 q39 q736 ⟨rfl, rfl⟩ (n := 2) (by decide +kernel) ⟨fm_le rfl, fm_le rfl⟩ hcs rfl rfl (fm_le rfl) dL_law_777 hP1 hP2 hS hl (fun H locs hP1 hP2 hS => ?_)
  refine lv_aload_n F.exec F.bytes dL_law_780 rfl (lv_at hl 1 rfl) ?_
  refine lv_aload_n F.exec F.bytes dL_law_781 rfl (lv_at hl 3 rfl) ?_
  refine lv_iload_n F.exec F.bytes dL_law_782 rfl (lv_at hl 0 rfl) ?_
  refine lv_iconst (v := 1) F.exec F.bytes dL_law_783 (by decide) ?_
  refine lv_iadd F.exec F.bytes dL_law_784 ?_
  refine va_sld F.exec F.bytes F.scr F.blt F.bA hS (lz_in (k := 1) (by omega) hL rfl) dL_law_785 ?_
  refine lv_aload_n F.exec F.bytes dL_law_786 rfl (lv_at hl 3 rfl) ?_
  refine lv_iload_n F.exec F.bytes dL_law_787 rfl (lv_at hl 0 rfl) ?_
  refine lv_iconst (v := 2) F.exec F.bytes dL_law_788 (by decide) ?_
  refine lv_iadd F.exec F.bytes dL_law_789 ?_
  refine va_sld F.exec F.bytes F.scr F.blt F.bA hS (lz_in (k := 2) (by omega) hL rfl) dL_law_790 ?_
  refine lz_callV (Y := YM D dA adR) (Y2 := YC D dA N adC bk) (As := [.int (sc (nI i + 1).toNatClampNeg), .int (sc (nI i + 2).toNatClampNeg)]) (rest := [.int r]) F hwR hd.symm 0 (by show 0 < 20; omega) rfl (ci := 9) rfl (mX9_rate hwR.1 hg) q1069 q1070 q1071 q50 q1072 ⟨rfl, rfl⟩ (n := 2) (by decide +kernel) ⟨fm_le rfl, fm_le rfl⟩ hcs rfl rfl (fm_le rfl) dL_law_791 hP2 hP1 hS hl (fun H locs hP2 hP1 hS => ?_)
  exact lv_icmp_eq (tgt := 882) F.exec F.bytes dL_law_794 (by decide) (fun _ => kk C' R' H locs hR' hP1 hP2 hS) (fun h => absurd rfl h)
theorem lz_c25 (F : lz_F X D dA b L sc) (hwC : lz_W X (YC D dA N adC bk)) (hwR : lz_W X (YM D dA adR)) (hd : lz_D (YC D dA N adC bk) (YM D dA adR)) (hN : 193 ≤ N) (hb : fm_isBk N bk) (hR : pb_R bk C R) (hi : i + 3 < L) (hL : L ≤ 256) (hcs : cs.1 ≤ 608630 ∧ cs.2 ≤ 7270213) (hP1 : fm_P (YC D dA N adC bk) C H) (hP2 : fm_P (YM D dA adR) R H) (hS : va_S (lz_A X) (xs X).heap H locs) (hl : lv_has ls 4 [(3, .int (nI i)), (2, .ref (adR 0)), (1, .ref (adC 0)), (0, .ref b)]) (kk : lz_K X D dA N bk adC adR cs ls) : W (xp X) (xl X) (xe X) (xR X) (xs X) (xm X) (xa X) (xb X) (xt X) (xc X) H locs cs.1 cs.2 (xQ X) (F0 (xm X) 799 ls []) := by
  obtain ⟨r, C', R', hf, hg, hR'⟩ := pb_keepop (n := 50000) hR (by decide) (sc (nI i + 1).toNatClampNeg)
  refine lv_aload_n F.exec F.bytes dL_law_799 rfl (lv_at hl 2 rfl) ?_
  refine lv_aload_n F.exec F.bytes dL_law_800 rfl (lv_at hl 3 rfl) ?_
  refine lv_iload_n F.exec F.bytes dL_law_801 rfl (lv_at hl 0 rfl) ?_
  refine lv_iconst (v := 1) F.exec F.bytes dL_law_802 (by decide) ?_
  refine lv_iadd F.exec F.bytes dL_law_803 ?_
  refine va_sld F.exec F.bytes F.scr F.blt F.bA hS (lz_in (k := 1) (by omega) hL rfl) dL_law_804 ?_
  refine lz_callV (Y := YC D dA N adC bk) (Y2 := YM D dA adR) (As := [.int (sc (nI i + 1).toNatClampNeg)]) (rest := []) F hwC hd 0 (by show 0 < N; omega) rfl (ci := 0) rfl (mX0_keep hN hb hwC.1 hf) q769 q770 q771 q39 q772 ⟨rfl, rfl⟩ (n := 1) (by decide +kernel) ⟨fm_le rfl, fm_le rfl⟩ hcs rfl rfl (fm_le rfl) dL_law_805 hP1 hP2 hS hl (fun H locs hP1 hP2 hS => ?_)
  refine lv_aload_n F.exec F.bytes dL_law_808 rfl (lv_at hl 1 rfl) ?_
  refine lv_aload_n F.exec F.bytes dL_law_809 rfl (lv_at hl 3 rfl) ?_
  refine lv_iload_n F.exec F.bytes dL_law_810 rfl (lv_at hl 0 rfl) ?_
  refine lv_iconst (v := 1) F.exec F.bytes dL_law_811 (by decide) ?_
  refine lv_iadd F.exec F.bytes dL_law_812 ?_
  refine va_sld F.exec F.bytes F.scr F.blt F.bA hS (lz_in (k := 1) (by omega) hL rfl) dL_law_813 ?_
  refine lz_callV (Y := YM D dA adR) (Y2 := YC D dA N adC bk) (As := [.int (sc (nI i + 1).toNatClampNeg)]) (rest := [.int r]) F hwR hd.symm 0 (by show 0 < 20; omega) rfl (ci := 9) rfl (mX9_keep hwR.1 hg) q1079 q1080 q1081 q50 q1082 ⟨rfl, rfl⟩ (n := 1) (by decide +kernel) ⟨fm_le rfl, fm_le rfl⟩ hcs rfl rfl (fm_le rfl) dL_law_814 hP2 hP1 hS hl (fun H locs hP2 hP1 hS => ?_)
  exact lv_icmp_eq (tgt := 882) F.exec F.bytes dL_law_817 (by decide) (fun _ => kk C' R' H locs hR' hP1 hP2 hS) (fun h => absurd rfl h)
theorem lz_c26 (F : lz_F X D dA b L sc) (hwC : lz_W X (YC D dA N adC bk)) (hwR : lz_W X (YM D dA adR)) (hd : lz_D (YC D dA N adC bk) (YM D dA adR)) (hN : 193 ≤ N) (hb : fm_isBk N bk) (hR : pb_R bk C R) (hi : i + 3 < L) (hL : L ≤ 256) (hcs : cs.1 ≤ 608630 ∧ cs.2 ≤ 7270213) (hP1 : fm_P (YC D dA N adC bk) C H) (hP2 : fm_P (YM D dA adR) R H) (hS : va_S (lz_A X) (xs X).heap H locs) (hl : lv_has ls 4 [(3, .int (nI i)), (2, .ref (adR 0)), (1, .ref (adC 0)), (0, .ref b)]) (kk : lz_K X D dA N bk adC adR cs ls) : W (xp X) (xl X) (xe X) (xR X) (xs X) (xm X) (xa X) (xb X) (xt X) (xc X) H locs cs.1 cs.2 (xQ X) (F0 (xm X) 822 ls []) := by
  obtain ⟨r, C', R', hf, hg, hR'⟩ := pb_backop (n := 50000) hR (by decide) (sc (nI i + 1).toNatClampNeg)
  refine lv_aload_n F.exec F.bytes dL_law_822 rfl (lv_at hl 2 rfl) ?_
  refine lv_aload_n F.exec F.bytes dL_law_823 rfl (lv_at hl 3 rfl) ?_
  refine lv_iload_n F.exec F.bytes dL_law_824 rfl (lv_at hl 0 rfl) ?_
  refine lv_iconst (v := 1) F.exec F.bytes dL_law_825 (by decide) ?_
  refine lv_iadd F.exec F.bytes dL_law_826 ?_
  refine va_sld F.exec F.bytes F.scr F.blt F.bA hS (lz_in (k := 1) (by omega) hL rfl) dL_law_827 ?_
  refine lz_callV (Y := YC D dA N adC bk) (Y2 := YM D dA adR) (As := [.int (sc (nI i + 1).toNatClampNeg)]) (rest := []) F hwC hd 0 (by show 0 < N; omega) rfl (ci := 0) rfl (mX0_back hN hb hwC.1 hf) q773 q774 q775 q39 q776 ⟨rfl, rfl⟩ (n := 1) (by decide +kernel) ⟨fm_le rfl, fm_le rfl⟩ hcs rfl rfl (fm_le rfl) dL_law_828 hP1 hP2 hS hl (fun H locs hP1 hP2 hS => ?_)
  refine lv_aload_n F.exec F.bytes dL_law_831 rfl (lv_at hl 1 rfl) ?_
  refine lv_aload_n F.exec F.bytes dL_law_832 rfl (lv_at hl 3 rfl) ?_
  refine lv_iload_n F.exec F.bytes dL_law_833 rfl (lv_at hl 0 rfl) ?_
  refine lv_iconst (v := 1) F.exec F.bytes dL_law_834 (by decide) ?_
  refine lv_iadd F.exec F.bytes dL_law_835 ?_
  refine va_sld F.exec F.bytes F.scr F.blt F.bA hS (lz_in (k := 1) (by omega) hL rfl) dL_law_836 ?_
  refine lz_callV (Y := YM D dA adR) (Y2 := YC D dA N adC bk) (As := [.int (sc (nI i + 1).toNatClampNeg)]) (rest := [.int r]) F hwR hd.symm 0 (by show 0 < 20; omega) rfl (ci := 9) rfl (mX9_back hwR.1 hg) q1083 q1084 q1085 q50 q1086 ⟨rfl, rfl⟩ (n := 1) (by decide +kernel) ⟨fm_le rfl, fm_le rfl⟩ hcs rfl rfl (fm_le rfl) dL_law_837 hP2 hP1 hS hl (fun H locs hP2 hP1 hS => ?_)
  exact lv_icmp_eq (tgt := 882) F.exec F.bytes dL_law_840 (by decide) (fun _ => kk C' R' H locs hR' hP1 hP2 hS) (fun h => absurd rfl h)
theorem lz_c27 (F : lz_F X D dA b L sc) (hwC : lz_W X (YC D dA N adC bk)) (hwR : lz_W X (YM D dA adR)) (hd : lz_D (YC D dA N adC bk) (YM D dA adR)) (hN : 193 ≤ N) (hb : fm_isBk N bk) (hR : pb_R bk C R) (hi : i + 3 < L) (hL : L ≤ 256) (hcs : cs.1 ≤ 608630 ∧ cs.2 ≤ 7270213) (hP1 : fm_P (YC D dA N adC bk) C H) (hP2 : fm_P (YM D dA adR) R H) (hS : va_S (lz_A X) (xs X).heap H locs) (hl : lv_has ls 4 [(3, .int (nI i)), (2, .ref (adR 0)), (1, .ref (adC 0)), (0, .ref b)]) (kk : lz_K X D dA N bk adC adR cs ls) : W (xp X) (xl X) (xe X) (xR X) (xs X) (xm X) (xa X) (xb X) (xt X) (xc X) H locs cs.1 cs.2 (xQ X) (F0 (xm X) 845 ls []) := by
  obtain ⟨r, C', R', hf, hg, hR'⟩ := pb_countop (n := 50000) hR (by decide) (sc (nI i + 1).toNatClampNeg)
  refine lv_aload_n F.exec F.bytes dL_law_845 rfl (lv_at hl 2 rfl) ?_
  refine lv_aload_n F.exec F.bytes dL_law_846 rfl (lv_at hl 3 rfl) ?_
  refine lv_iload_n F.exec F.bytes dL_law_847 rfl (lv_at hl 0 rfl) ?_
  refine lv_iconst (v := 1) F.exec F.bytes dL_law_848 (by decide) ?_
  refine lv_iadd F.exec F.bytes dL_law_849 ?_
  refine va_sld F.exec F.bytes F.scr F.blt F.bA hS (lz_in (k := 1) (by omega) hL rfl) dL_law_850 ?_
  refine lz_callV (Y := YC D dA N adC bk) (Y2 := YM D dA adR) (As := [.int (sc (nI i + 1).toNatClampNeg)]) (rest := []) F hwC hd 0 (by show 0 < N; omega) rfl (ci := 0) rfl (mX0_count hN hb hwC.1 hf) q777 q778 q779 q39 q780 ⟨rfl, rfl⟩ (n := 1) (by decide +kernel) ⟨fm_le rfl, fm_le rfl⟩ hcs rfl rfl (fm_le rfl) dL_law_851 hP1 hP2 hS hl (fun H locs hP1 hP2 hS => ?_)
  refine lv_aload_n F.exec F.bytes dL_law_854 rfl (lv_at hl 1 rfl) ?_
  refine lv_aload_n F.exec F.bytes dL_law_855 rfl (lv_at hl 3 rfl) ?_
  refine lv_iload_n F.exec F.bytes dL_law_856 rfl (lv_at hl 0 rfl) ?_
  refine lv_iconst (v := 1) F.exec F.bytes dL_law_857 (by decide) ?_
  refine lv_iadd F.exec F.bytes dL_law_858 ?_
  refine va_sld F.exec F.bytes F.scr F.blt F.bA hS (lz_in (k := 1) (by omega) hL rfl) dL_law_859 ?_
  refine lz_callV (Y := YM D dA adR) (Y2 := YC D dA N adC bk) (As := [.int (sc (nI i + 1).toNatClampNeg)]) (rest := [.int r]) F hwR hd.symm 0 (by show 0 < 20; omega) rfl (ci := 9) rfl (mX9_count hwR.1 hg) q1087 q1088 q1089 q50 q1090 ⟨rfl, rfl⟩ (n := 1) (by decide +kernel) ⟨fm_le rfl, fm_le rfl⟩ hcs rfl rfl (fm_le rfl) dL_law_860 hP2 hP1 hS hl (fun H locs hP2 hP1 hS => ?_)
  exact lv_icmp_eq (tgt := 882) F.exec F.bytes dL_law_863 (by decide) (fun _ => kk C' R' H locs hR' hP1 hP2 hS) (fun h => absurd rfl h)
theorem lz_c28 (F : lz_F X D dA b L sc) (hwC : lz_W X (YC D dA N adC bk)) (hwR : lz_W X (YM D dA adR)) (hd : lz_D (YC D dA N adC bk) (YM D dA adR)) (hN : 193 ≤ N) (hb : fm_isBk N bk) (hR : pb_R bk C R) (hi : i + 3 < L) (hL : L ≤ 256) (hcs : cs.1 ≤ 608630 ∧ cs.2 ≤ 7270213) (hP1 : fm_P (YC D dA N adC bk) C H) (hP2 : fm_P (YM D dA adR) R H) (hS : va_S (lz_A X) (xs X).heap H locs) (hl : lv_has ls 4 [(3, .int (nI i)), (2, .ref (adR 0)), (1, .ref (adC 0)), (0, .ref b)]) (kk : lz_K X D dA N bk adC adR cs ls) : W (xp X) (xl X) (xe X) (xR X) (xs X) (xm X) (xa X) (xb X) (xt X) (xc X) H locs cs.1 cs.2 (xQ X) (F0 (xm X) 868 ls []) := by
  obtain ⟨r, C', R', hf, hg, hR'⟩ := pb_trace (n := 50000) hR 
  refine lv_aload_n F.exec F.bytes dL_law_868 rfl (lv_at hl 2 rfl) ?_
  refine lz_callV (Y := YC D dA N adC bk) (Y2 := YM D dA adR) (As := []) (rest := []) F hwC hd 0 (by show 0 < N; omega) rfl (ci := 0) rfl (mX0_trace hN hb hwC.1 hf) q785 q786 q787 q39 q788 ⟨rfl, rfl⟩ (n := 0) (by decide +kernel) ⟨fm_le rfl, fm_le rfl⟩ hcs rfl rfl (fm_le rfl) dL_law_869 hP1 hP2 hS hl (fun H locs hP1 hP2 hS => ?_)
  refine lv_aload_n F.exec F.bytes dL_law_872 rfl (lv_at hl 1 rfl) ?_
  refine lz_callV (Y := YM D dA adR) (Y2 := YC D dA N adC bk) (As := []) (rest := [.long r]) F hwR hd.symm 0 (by show 0 < 20; omega) rfl (ci := 9) rfl (mX9_trace hwR.1 hg) q1095 q1096 q1097 q50 q1098 ⟨rfl, rfl⟩ (n := 0) (by decide +kernel) ⟨fm_le rfl, fm_le rfl⟩ hcs rfl rfl (fm_le rfl) dL_law_873 hP2 hP1 hS hl (fun H locs hP2 hP1 hS => ?_)
  refine lz_lcmp F.exec F.bytes dL_law_876 ?_
  exact lv_if_eq (tgt := 882) F.exec F.bytes dL_law_877 (by decide) (fun _ => kk C' R' H locs hR' hP1 hP2 hS) (fun h => absurd rfl h)
end LZC
