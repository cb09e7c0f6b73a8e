set_option maxRecDepth 100000
def cells_plains10 (dA : Nat → ClassId) (o : Nat) (b : Nat) : List va_E := ((.inl (dA 3, 10, .inr (.inr (.inr (.inr (va_up (va_up (va_up (va_up (va_up (va_up (va_up (va_up (va_up (va_up (fun _ => none) 0 (some (b + 1))) 1 (some (b + 12))) 2 (some (b + 23))) 3 (some (b + 34))) 4 (some (b + 45))) 5 (some (b + 56))) 6 (some (b + 67))) 7 (some (b + 78))) 8 (some (b + 89))) 9 (some (b + 100))))))) : va_E) :: ((((((((((cells_X2 dA o (b + 1)) ++ (cells_X2 dA o (b + 12))) ++ (cells_X2 dA o (b + 23))) ++ (cells_X2 dA o (b + 34))) ++ (cells_X2 dA o (b + 45))) ++ (cells_X2 dA o (b + 56))) ++ (cells_X2 dA o (b + 67))) ++ (cells_X2 dA o (b + 78))) ++ (cells_X2 dA o (b + 89))) ++ (cells_X2 dA o (b + 100))))
abbrev rmX0_plains10 : Room := { frames := 2, cells := 111, slots := 680, locals := 51 }
set_option maxHeartbeats 4000000 in
theorem mX0_plains10 {l : Launch} {D : va_G} {dA : Nat → ClassId} {b : Nat} {o : Nat} : rg_C l yX0_plains (ws_ yX0_plains cX0_plains 4 (some (.array (.object "BellLots$Plain")))) rmX0_plains10 (D, dA, b) [.ref o, .int 10] ([] : List va_E) (some (.ref b)) (cells_plains10 dA o b) 111 680 := by
  refine rg_enter (by decide) rfl (fm_le rfl) ?_
  intro X hXl F E hinit
  subst hXl
  show rg_G X (D, dA, b) (0, 0) 4 ([] : List va_E) 0 [(0, .ref o), (1, .int 10)] []
  refine rg_iload_n (pc := 0) F dX0_plains_0 1 rfl ?_
  refine rg_anew (pc := 1) F dX0_plains_1 q140 F.ao.1 (rg_cB F.kn).1 10 (by decide) rfl (fm_le rfl) ⟨fm_le rfl, fm_le rfl⟩ (cs' := (1, 10)) rfl (a := b) rfl ?_
  refine rg_eq (C' := [.inl (dA 3, 10, .inr (.inr (.inr (.inr (fun _ => none)))))]) rfl ?_
  refine rg_astore_n (pc := 4) F dX0_plains_4 (i := 2) rfl (fm_lt rfl) (lv' := [(2, .ref b), (0, .ref o), (1, .int 10)]) rfl ?_
  refine rg_iconst (v := 0) (pc := 5) F dX0_plains_5 (by decide) ?_
  refine rg_istore_n (pc := 6) F dX0_plains_6 (i := 3) rfl (fm_lt rfl) (lv' := [(3, .int 0), (2, .ref b), (0, .ref o), (1, .int 10)]) rfl ?_
  refine rg_iload_n (pc := 7) F dX0_plains_7 0 rfl ?_
  refine rg_iload_n (pc := 8) F dX0_plains_8 3 rfl ?_
  refine rg_icmp_ge (tgt := 29) (pc := 9) F dX0_plains_9 (by decide) (fun c9 => absurd c9 (by decide)) (fun _ => ?_)
  refine rg_aload_n (pc := 12) F dX0_plains_12 1 rfl ?_
  refine rg_iload_n (pc := 13) F dX0_plains_13 0 rfl ?_
  refine rg_new (ci := 2) (fs := [.int 0, .int 0, .null, .null, .null, .null, .null]) (pc := 14) F rfl in_X2 tyX2 tyX2_ok dX0_plains_14 q140 q141 q41 (rg_all7 rfl rfl rfl rfl rfl rfl rfl) ⟨fm_le rfl, fm_le rfl⟩ (cs' := (2, 17)) rfl (a := (b + 1)) rfl ?_
  refine rg_eq (C' := ((.inl (dA 3, 10, .inr (.inr (.inr (.inr (fun _ => none))))) : va_E) :: rg_ob 2 [.int 0, .int 0, .null, .null, .null, .null, .null])) rfl ?_
  refine rg_dup (pc := 17) F dX0_plains_17 rfl ?_
  refine rg_aload_n (pc := 18) F dX0_plains_18 2 rfl ?_
  refine rg_callIN (As := [.ref o]) (rest := [.ref (b + 1), .int 0, .ref b]) (pc := 19) F [.inl (dA 3, 10, .inr (.inr (.inr (.inr (fun _ => none)))))] (C1 := rg_ob 2 [.int 0, .int 0, .null, .null, .null, .null, .null]) (C2 := (cells_X2 dA o (b + 1))) rfl (mX2_init (o := o) (b := (b + 1))) q142 q143 q41 q144 rfl ⟨rfl, rfl⟩ (n := 1) (by decide +kernel) ⟨fm_le rfl, fm_le rfl, fm_le rfl, fm_le rfl⟩ rfl rfl (fm_le rfl) dX0_plains_19 (cs' := (12, 77)) rfl ?_
  refine rg_eq (C' := ((.inl (dA 3, 10, .inr (.inr (.inr (.inr (fun _ => none))))) : va_E) :: (cells_X2 dA o (b + 1)))) rfl ?_
  refine rg_aast (pc := 22) F 3 rfl (ci := 2) rfl (Or.inl rfl) dX0_plains_22 0 rfl 1 rfl (by unfold vp_in; decide) rfl rfl ?_
  refine rg_eq (C' := ((.inl (dA 3, 10, .inr (.inr (.inr (.inr (va_up (fun _ => none) 0 (some (b + 1))))))) : va_E) :: (cells_X2 dA o (b + 1)))) rfl ?_
  refine rg_iinc (v := 1) (pc := 23) F dX0_plains_23 0 rfl (by decide) (fm_lt rfl) (lv' := [(3, .int 1), (2, .ref b), (0, .ref o), (1, .int 10)]) rfl ?_
  refine rg_goto (tgt := 7) (pc := 26) F dX0_plains_26 (by decide) ?_
  refine rg_iload_n (pc := 7) F dX0_plains_7 0 rfl ?_
  refine rg_iload_n (pc := 8) F dX0_plains_8 3 rfl ?_
  refine rg_icmp_ge (tgt := 29) (pc := 9) F dX0_plains_9 (by decide) (fun c9 => absurd c9 (by decide)) (fun _ => ?_)
  refine rg_aload_n (pc := 12) F dX0_plains_12 1 rfl ?_
  refine rg_iload_n (pc := 13) F dX0_plains_13 0 rfl ?_
  refine rg_new (ci := 2) (fs := [.int 0, .int 0, .null, .null, .null, .null, .null]) (pc := 14) F rfl in_X2 tyX2 tyX2_ok dX0_plains_14 q140 q141 q41 (rg_all7 rfl rfl rfl rfl rfl rfl rfl) ⟨fm_le rfl, fm_le rfl⟩ (cs' := (13, 84)) rfl (a := (b + 12)) rfl ?_
  refine rg_eq (C' := ((.inl (dA 3, 10, .inr (.inr (.inr (.inr (va_up (fun _ => none) 0 (some (b + 1))))))) : va_E) :: ((cells_X2 dA o (b + 1)) ++ rg_ob 2 [.int 0, .int 0, .null, .null, .null, .null, .null]))) rfl ?_
  refine rg_dup (pc := 17) F dX0_plains_17 rfl ?_
  refine rg_aload_n (pc := 18) F dX0_plains_18 2 rfl ?_
  refine rg_callIN (As := [.ref o]) (rest := [.ref (b + 12), .int 1, .ref b]) (pc := 19) F ((.inl (dA 3, 10, .inr (.inr (.inr (.inr (va_up (fun _ => none) 0 (some (b + 1))))))) : va_E) :: (cells_X2 dA o (b + 1))) (C1 := rg_ob 2 [.int 0, .int 0, .null, .null, .null, .null, .null]) (C2 := (cells_X2 dA o (b + 12))) rfl (mX2_init (o := o) (b := (b + 12))) q142 q143 q41 q144 rfl ⟨rfl, rfl⟩ (n := 1) (by decide +kernel) ⟨fm_le rfl, fm_le rfl, fm_le rfl, fm_le rfl⟩ rfl rfl (fm_le rfl) dX0_plains_19 (cs' := (23, 144)) rfl ?_
  refine rg_eq (C' := ((.inl (dA 3, 10, .inr (.inr (.inr (.inr (va_up (fun _ => none) 0 (some (b + 1))))))) : va_E) :: ((cells_X2 dA o (b + 1)) ++ (cells_X2 dA o (b + 12))))) rfl ?_
  refine rg_aast (pc := 22) F 3 rfl (ci := 2) rfl (Or.inl rfl) dX0_plains_22 0 rfl 12 rfl (by unfold vp_in; decide) rfl rfl ?_
  refine rg_eq (C' := ((.inl (dA 3, 10, .inr (.inr (.inr (.inr (va_up (va_up (fun _ => none) 0 (some (b + 1))) 1 (some (b + 12))))))) : va_E) :: ((cells_X2 dA o (b + 1)) ++ (cells_X2 dA o (b + 12))))) rfl ?_
  refine rg_iinc (v := 2) (pc := 23) F dX0_plains_23 0 rfl (by decide) (fm_lt rfl) (lv' := [(3, .int 2), (2, .ref b), (0, .ref o), (1, .int 10)]) rfl ?_
  refine rg_goto (tgt := 7) (pc := 26) F dX0_plains_26 (by decide) ?_
  refine rg_iload_n (pc := 7) F dX0_plains_7 0 rfl ?_
  refine rg_iload_n (pc := 8) F dX0_plains_8 3 rfl ?_
  refine rg_icmp_ge (tgt := 29) (pc := 9) F dX0_plains_9 (by decide) (fun c9 => absurd c9 (by decide)) (fun _ => ?_)
  refine rg_aload_n (pc := 12) F dX0_plains_12 1 rfl ?_
  refine rg_iload_n (pc := 13) F dX0_plains_13 0 rfl ?_
  refine rg_new (ci := 2) (fs := [.int 0, .int 0, .null, .null, .null, .null, .null]) (pc := 14) F rfl in_X2 tyX2 tyX2_ok dX0_plains_14 q140 q141 q41 (rg_all7 rfl rfl rfl rfl rfl rfl rfl) ⟨fm_le rfl, fm_le rfl⟩ (cs' := (24, 151)) rfl (a := (b + 23)) rfl ?_
  refine rg_eq (C' := ((.inl (dA 3, 10, .inr (.inr (.inr (.inr (va_up (va_up (fun _ => none) 0 (some (b + 1))) 1 (some (b + 12))))))) : va_E) :: (((cells_X2 dA o (b + 1)) ++ (cells_X2 dA o (b + 12))) ++ rg_ob 2 [.int 0, .int 0, .null, .null, .null, .null, .null]))) rfl ?_
  refine rg_dup (pc := 17) F dX0_plains_17 rfl ?_
  refine rg_aload_n (pc := 18) F dX0_plains_18 2 rfl ?_
  refine rg_callIN (As := [.ref o]) (rest := [.ref (b + 23), .int 2, .ref b]) (pc := 19) F ((.inl (dA 3, 10, .inr (.inr (.inr (.inr (va_up (va_up (fun _ => none) 0 (some (b + 1))) 1 (some (b + 12))))))) : va_E) :: ((cells_X2 dA o (b + 1)) ++ (cells_X2 dA o (b + 12)))) (C1 := rg_ob 2 [.int 0, .int 0, .null, .null, .null, .null, .null]) (C2 := (cells_X2 dA o (b + 23))) rfl (mX2_init (o := o) (b := (b + 23))) q142 q143 q41 q144 rfl ⟨rfl, rfl⟩ (n := 1) (by decide +kernel) ⟨fm_le rfl, fm_le rfl, fm_le rfl, fm_le rfl⟩ rfl rfl (fm_le rfl) dX0_plains_19 (cs' := (34, 211)) rfl ?_
  refine rg_eq (C' := ((.inl (dA 3, 10, .inr (.inr (.inr (.inr (va_up (va_up (fun _ => none) 0 (some (b + 1))) 1 (some (b + 12))))))) : va_E) :: (((cells_X2 dA o (b + 1)) ++ (cells_X2 dA o (b + 12))) ++ (cells_X2 dA o (b + 23))))) rfl ?_
  refine rg_aast (pc := 22) F 3 rfl (ci := 2) rfl (Or.inl rfl) dX0_plains_22 0 rfl 23 rfl (by unfold vp_in; decide) rfl rfl ?_
  refine rg_eq (C' := ((.inl (dA 3, 10, .inr (.inr (.inr (.inr (va_up (va_up (va_up (fun _ => none) 0 (some (b + 1))) 1 (some (b + 12))) 2 (some (b + 23))))))) : va_E) :: (((cells_X2 dA o (b + 1)) ++ (cells_X2 dA o (b + 12))) ++ (cells_X2 dA o (b + 23))))) rfl ?_
  refine rg_iinc (v := 3) (pc := 23) F dX0_plains_23 0 rfl (by decide) (fm_lt rfl) (lv' := [(3, .int 3), (2, .ref b), (0, .ref o), (1, .int 10)]) rfl ?_
  refine rg_goto (tgt := 7) (pc := 26) F dX0_plains_26 (by decide) ?_
  refine rg_iload_n (pc := 7) F dX0_plains_7 0 rfl ?_
  refine rg_iload_n (pc := 8) F dX0_plains_8 3 rfl ?_
  refine rg_icmp_ge (tgt := 29) (pc := 9) F dX0_plains_9 (by decide) (fun c9 => absurd c9 (by decide)) (fun _ => ?_)
  refine rg_aload_n (pc := 12) F dX0_plains_12 1 rfl ?_
  refine rg_iload_n (pc := 13) F dX0_plains_13 0 rfl ?_
  refine rg_new (ci := 2) (fs := [.int 0, .int 0, .null, .null, .null, .null, .null]) (pc := 14) F rfl in_X2 tyX2 tyX2_ok dX0_plains_14 q140 q141 q41 (rg_all7 rfl rfl rfl rfl rfl rfl rfl) ⟨fm_le rfl, fm_le rfl⟩ (cs' := (35, 218)) rfl (a := (b + 34)) rfl ?_
  refine rg_eq (C' := ((.inl (dA 3, 10, .inr (.inr (.inr (.inr (va_up (va_up (va_up (fun _ => none) 0 (some (b + 1))) 1 (some (b + 12))) 2 (some (b + 23))))))) : va_E) :: ((((cells_X2 dA o (b + 1)) ++ (cells_X2 dA o (b + 12))) ++ (cells_X2 dA o (b + 23))) ++ rg_ob 2 [.int 0, .int 0, .null, .null, .null, .null, .null]))) rfl ?_
  refine rg_dup (pc := 17) F dX0_plains_17 rfl ?_
  refine rg_aload_n (pc := 18) F dX0_plains_18 2 rfl ?_
  refine rg_callIN (As := [.ref o]) (rest := [.ref (b + 34), .int 3, .ref b]) (pc := 19) F ((.inl (dA 3, 10, .inr (.inr (.inr (.inr (va_up (va_up (va_up (fun _ => none) 0 (some (b + 1))) 1 (some (b + 12))) 2 (some (b + 23))))))) : va_E) :: (((cells_X2 dA o (b + 1)) ++ (cells_X2 dA o (b + 12))) ++ (cells_X2 dA o (b + 23)))) (C1 := rg_ob 2 [.int 0, .int 0, .null, .null, .null, .null, .null]) (C2 := (cells_X2 dA o (b + 34))) rfl (mX2_init (o := o) (b := (b + 34))) q142 q143 q41 q144 rfl ⟨rfl, rfl⟩ (n := 1) (by decide +kernel) ⟨fm_le rfl, fm_le rfl, fm_le rfl, fm_le rfl⟩ rfl rfl (fm_le rfl) dX0_plains_19 (cs' := (45, 278)) rfl ?_
  refine rg_eq (C' := ((.inl (dA 3, 10, .inr (.inr (.inr (.inr (va_up (va_up (va_up (fun _ => none) 0 (some (b + 1))) 1 (some (b + 12))) 2 (some (b + 23))))))) : va_E) :: ((((cells_X2 dA o (b + 1)) ++ (cells_X2 dA o (b + 12))) ++ (cells_X2 dA o (b + 23))) ++ (cells_X2 dA o (b + 34))))) rfl ?_
  refine rg_aast (pc := 22) F 3 rfl (ci := 2) rfl (Or.inl rfl) dX0_plains_22 0 rfl 34 rfl (by unfold vp_in; decide) rfl rfl ?_
  refine rg_eq (C' := ((.inl (dA 3, 10, .inr (.inr (.inr (.inr (va_up (va_up (va_up (va_up (fun _ => none) 0 (some (b + 1))) 1 (some (b + 12))) 2 (some (b + 23))) 3 (some (b + 34))))))) : va_E) :: ((((cells_X2 dA o (b + 1)) ++ (cells_X2 dA o (b + 12))) ++ (cells_X2 dA o (b + 23))) ++ (cells_X2 dA o (b + 34))))) rfl ?_
  refine rg_iinc (v := 4) (pc := 23) F dX0_plains_23 0 rfl (by decide) (fm_lt rfl) (lv' := [(3, .int 4), (2, .ref b), (0, .ref o), (1, .int 10)]) rfl ?_
  refine rg_goto (tgt := 7) (pc := 26) F dX0_plains_26 (by decide) ?_
  refine rg_iload_n (pc := 7) F dX0_plains_7 0 rfl ?_
  refine rg_iload_n (pc := 8) F dX0_plains_8 3 rfl ?_
  refine rg_icmp_ge (tgt := 29) (pc := 9) F dX0_plains_9 (by decide) (fun c9 => absurd c9 (by decide)) (fun _ => ?_)
  refine rg_aload_n (pc := 12) F dX0_plains_12 1 rfl ?_
  refine rg_iload_n (pc := 13) F dX0_plains_13 0 rfl ?_
  refine rg_new (ci := 2) (fs := [.int 0, .int 0, .null, .null, .null, .null, .null]) (pc := 14) F rfl in_X2 tyX2 tyX2_ok dX0_plains_14 q140 q141 q41 (rg_all7 rfl rfl rfl rfl rfl rfl rfl) ⟨fm_le rfl, fm_le rfl⟩ (cs' := (46, 285)) rfl (a := (b + 45)) rfl ?_
  refine rg_eq (C' := ((.inl (dA 3, 10, .inr (.inr (.inr (.inr (va_up (va_up (va_up (va_up (fun _ => none) 0 (some (b + 1))) 1 (some (b + 12))) 2 (some (b + 23))) 3 (some (b + 34))))))) : va_E) :: (((((cells_X2 dA o (b + 1)) ++ (cells_X2 dA o (b + 12))) ++ (cells_X2 dA o (b + 23))) ++ (cells_X2 dA o (b + 34))) ++ rg_ob 2 [.int 0, .int 0, .null, .null, .null, .null, .null]))) rfl ?_
  refine rg_dup (pc := 17) F dX0_plains_17 rfl ?_
  refine rg_aload_n (pc := 18) F dX0_plains_18 2 rfl ?_
  refine rg_callIN (As := [.ref o]) (rest := [.ref (b + 45), .int 4, .ref b]) (pc := 19) F ((.inl (dA 3, 10, .inr (.inr (.inr (.inr (va_up (va_up (va_up (va_up (fun _ => none) 0 (some (b + 1))) 1 (some (b + 12))) 2 (some (b + 23))) 3 (some (b + 34))))))) : va_E) :: ((((cells_X2 dA o (b + 1)) ++ (cells_X2 dA o (b + 12))) ++ (cells_X2 dA o (b + 23))) ++ (cells_X2 dA o (b + 34)))) (C1 := rg_ob 2 [.int 0, .int 0, .null, .null, .null, .null, .null]) (C2 := (cells_X2 dA o (b + 45))) rfl (mX2_init (o := o) (b := (b + 45))) q142 q143 q41 q144 rfl ⟨rfl, rfl⟩ (n := 1) (by decide +kernel) ⟨fm_le rfl, fm_le rfl, fm_le rfl, fm_le rfl⟩ rfl rfl (fm_le rfl) dX0_plains_19 (cs' := (56, 345)) rfl ?_
  refine rg_eq (C' := ((.inl (dA 3, 10, .inr (.inr (.inr (.inr (va_up (va_up (va_up (va_up (fun _ => none) 0 (some (b + 1))) 1 (some (b + 12))) 2 (some (b + 23))) 3 (some (b + 34))))))) : va_E) :: (((((cells_X2 dA o (b + 1)) ++ (cells_X2 dA o (b + 12))) ++ (cells_X2 dA o (b + 23))) ++ (cells_X2 dA o (b + 34))) ++ (cells_X2 dA o (b + 45))))) rfl ?_
  refine rg_aast (pc := 22) F 3 rfl (ci := 2) rfl (Or.inl rfl) dX0_plains_22 0 rfl 45 rfl (by unfold vp_in; decide) rfl rfl ?_
  refine rg_eq (C' := ((.inl (dA 3, 10, .inr (.inr (.inr (.inr (va_up (va_up (va_up (va_up (va_up (fun _ => none) 0 (some (b + 1))) 1 (some (b + 12))) 2 (some (b + 23))) 3 (some (b + 34))) 4 (some (b + 45))))))) : va_E) :: (((((cells_X2 dA o (b + 1)) ++ (cells_X2 dA o (b + 12))) ++ (cells_X2 dA o (b + 23))) ++ (cells_X2 dA o (b + 34))) ++ (cells_X2 dA o (b + 45))))) rfl ?_
  refine rg_iinc (v := 5) (pc := 23) F dX0_plains_23 0 rfl (by decide) (fm_lt rfl) (lv' := [(3, .int 5), (2, .ref b), (0, .ref o), (1, .int 10)]) rfl ?_
  refine rg_goto (tgt := 7) (pc := 26) F dX0_plains_26 (by decide) ?_
  refine rg_iload_n (pc := 7) F dX0_plains_7 0 rfl ?_
  refine rg_iload_n (pc := 8) F dX0_plains_8 3 rfl ?_
  refine rg_icmp_ge (tgt := 29) (pc := 9) F dX0_plains_9 (by decide) (fun c9 => absurd c9 (by decide)) (fun _ => ?_)
  refine rg_aload_n (pc := 12) F dX0_plains_12 1 rfl ?_
  refine rg_iload_n (pc := 13) F dX0_plains_13 0 rfl ?_
  refine rg_new (ci := 2) (fs := [.int 0, .int 0, .null, .null, .null, .null, .null]) (pc := 14) F rfl in_X2 tyX2 tyX2_ok dX0_plains_14 q140 q141 q41 (rg_all7 rfl rfl rfl rfl rfl rfl rfl) ⟨fm_le rfl, fm_le rfl⟩ (cs' := (57, 352)) rfl (a := (b + 56)) rfl ?_
  refine rg_eq (C' := ((.inl (dA 3, 10, .inr (.inr (.inr (.inr (va_up (va_up (va_up (va_up (va_up (fun _ => none) 0 (some (b + 1))) 1 (some (b + 12))) 2 (some (b + 23))) 3 (some (b + 34))) 4 (some (b + 45))))))) : va_E) :: ((((((cells_X2 dA o (b + 1)) ++ (cells_X2 dA o (b + 12))) ++ (cells_X2 dA o (b + 23))) ++ (cells_X2 dA o (b + 34))) ++ (cells_X2 dA o (b + 45))) ++ rg_ob 2 [.int 0, .int 0, .null, .null, .null, .null, .null]))) rfl ?_
  refine rg_dup (pc := 17) F dX0_plains_17 rfl ?_
  refine rg_aload_n (pc := 18) F dX0_plains_18 2 rfl ?_
  refine rg_callIN (As := [.ref o]) (rest := [.ref (b + 56), .int 5, .ref b]) (pc := 19) F ((.inl (dA 3, 10, .inr (.inr (.inr (.inr (va_up (va_up (va_up (va_up (va_up (fun _ => none) 0 (some (b + 1))) 1 (some (b + 12))) 2 (some (b + 23))) 3 (some (b + 34))) 4 (some (b + 45))))))) : va_E) :: (((((cells_X2 dA o (b + 1)) ++ (cells_X2 dA o (b + 12))) ++ (cells_X2 dA o (b + 23))) ++ (cells_X2 dA o (b + 34))) ++ (cells_X2 dA o (b + 45)))) (C1 := rg_ob 2 [.int 0, .int 0, .null, .null, .null, .null, .null]) (C2 := (cells_X2 dA o (b + 56))) rfl (mX2_init (o := o) (b := (b + 56))) q142 q143 q41 q144 rfl ⟨rfl, rfl⟩ (n := 1) (by decide +kernel) ⟨fm_le rfl, fm_le rfl, fm_le rfl, fm_le rfl⟩ rfl rfl (fm_le rfl) dX0_plains_19 (cs' := (67, 412)) rfl ?_
  refine rg_eq (C' := ((.inl (dA 3, 10, .inr (.inr (.inr (.inr (va_up (va_up (va_up (va_up (va_up (fun _ => none) 0 (some (b + 1))) 1 (some (b + 12))) 2 (some (b + 23))) 3 (some (b + 34))) 4 (some (b + 45))))))) : va_E) :: ((((((cells_X2 dA o (b + 1)) ++ (cells_X2 dA o (b + 12))) ++ (cells_X2 dA o (b + 23))) ++ (cells_X2 dA o (b + 34))) ++ (cells_X2 dA o (b + 45))) ++ (cells_X2 dA o (b + 56))))) rfl ?_
  refine rg_aast (pc := 22) F 3 rfl (ci := 2) rfl (Or.inl rfl) dX0_plains_22 0 rfl 56 rfl (by unfold vp_in; decide) rfl rfl ?_
  refine rg_eq (C' := ((.inl (dA 3, 10, .inr (.inr (.inr (.inr (va_up (va_up (va_up (va_up (va_up (va_up (fun _ => none) 0 (some (b + 1))) 1 (some (b + 12))) 2 (some (b + 23))) 3 (some (b + 34))) 4 (some (b + 45))) 5 (some (b + 56))))))) : va_E) :: ((((((cells_X2 dA o (b + 1)) ++ (cells_X2 dA o (b + 12))) ++ (cells_X2 dA o (b + 23))) ++ (cells_X2 dA o (b + 34))) ++ (cells_X2 dA o (b + 45))) ++ (cells_X2 dA o (b + 56))))) rfl ?_
  refine rg_iinc (v := 6) (pc := 23) F dX0_plains_23 0 rfl (by decide) (fm_lt rfl) (lv' := [(3, .int 6), (2, .ref b), (0, .ref o), (1, .int 10)]) rfl ?_
  refine rg_goto (tgt := 7) (pc := 26) F dX0_plains_26 (by decide) ?_
  refine rg_iload_n (pc := 7) F dX0_plains_7 0 rfl ?_
  refine rg_iload_n (pc := 8) F dX0_plains_8 3 rfl ?_
  refine rg_icmp_ge (tgt := 29) (pc := 9) F dX0_plains_9 (by decide) (fun c9 => absurd c9 (by decide)) (fun _ => ?_)
  refine rg_aload_n (pc := 12) F dX0_plains_12 1 rfl ?_
  refine rg_iload_n (pc := 13) F dX0_plains_13 0 rfl ?_
  refine rg_new (ci := 2) (fs := [.int 0, .int 0, .null, .null, .null, .null, .null]) (pc := 14) F rfl in_X2 tyX2 tyX2_ok dX0_plains_14 q140 q141 q41 (rg_all7 rfl rfl rfl rfl rfl rfl rfl) ⟨fm_le rfl, fm_le rfl⟩ (cs' := (68, 419)) rfl (a := (b + 67)) rfl ?_
  refine rg_eq (C' := ((.inl (dA 3, 10, .inr (.inr (.inr (.inr (va_up (va_up (va_up (va_up (va_up (va_up (fun _ => none) 0 (some (b + 1))) 1 (some (b + 12))) 2 (some (b + 23))) 3 (some (b + 34))) 4 (some (b + 45))) 5 (some (b + 56))))))) : va_E) :: (((((((cells_X2 dA o (b + 1)) ++ (cells_X2 dA o (b + 12))) ++ (cells_X2 dA o (b + 23))) ++ (cells_X2 dA o (b + 34))) ++ (cells_X2 dA o (b + 45))) ++ (cells_X2 dA o (b + 56))) ++ rg_ob 2 [.int 0, .int 0, .null, .null, .null, .null, .null]))) rfl ?_
  refine rg_dup (pc := 17) F dX0_plains_17 rfl ?_
  refine rg_aload_n (pc := 18) F dX0_plains_18 2 rfl ?_
  refine rg_callIN (As := [.ref o]) (rest := [.ref (b + 67), .int 6, .ref b]) (pc := 19) F ((.inl (dA 3, 10, .inr (.inr (.inr (.inr (va_up (va_up (va_up (va_up (va_up (va_up (fun _ => none) 0 (some (b + 1))) 1 (some (b + 12))) 2 (some (b + 23))) 3 (some (b + 34))) 4 (some (b + 45))) 5 (some (b + 56))))))) : va_E) :: ((((((cells_X2 dA o (b + 1)) ++ (cells_X2 dA o (b + 12))) ++ (cells_X2 dA o (b + 23))) ++ (cells_X2 dA o (b + 34))) ++ (cells_X2 dA o (b + 45))) ++ (cells_X2 dA o (b + 56)))) (C1 := rg_ob 2 [.int 0, .int 0, .null, .null, .null, .null, .null]) (C2 := (cells_X2 dA o (b + 67))) rfl (mX2_init (o := o) (b := (b + 67))) q142 q143 q41 q144 rfl ⟨rfl, rfl⟩ (n := 1) (by decide +kernel) ⟨fm_le rfl, fm_le rfl, fm_le rfl, fm_le rfl⟩ rfl rfl (fm_le rfl) dX0_plains_19 (cs' := (78, 479)) rfl ?_
  refine rg_eq (C' := ((.inl (dA 3, 10, .inr (.inr (.inr (.inr (va_up (va_up (va_up (va_up (va_up (va_up (fun _ => none) 0 (some (b + 1))) 1 (some (b + 12))) 2 (some (b + 23))) 3 (some (b + 34))) 4 (some (b + 45))) 5 (some (b + 56))))))) : va_E) :: (((((((cells_X2 dA o (b + 1)) ++ (cells_X2 dA o (b + 12))) ++ (cells_X2 dA o (b + 23))) ++ (cells_X2 dA o (b + 34))) ++ (cells_X2 dA o (b + 45))) ++ (cells_X2 dA o (b + 56))) ++ (cells_X2 dA o (b + 67))))) rfl ?_
  refine rg_aast (pc := 22) F 3 rfl (ci := 2) rfl (Or.inl rfl) dX0_plains_22 0 rfl 67 rfl (by unfold vp_in; decide) rfl rfl ?_
  refine rg_eq (C' := ((.inl (dA 3, 10, .inr (.inr (.inr (.inr (va_up (va_up (va_up (va_up (va_up (va_up (va_up (fun _ => none) 0 (some (b + 1))) 1 (some (b + 12))) 2 (some (b + 23))) 3 (some (b + 34))) 4 (some (b + 45))) 5 (some (b + 56))) 6 (some (b + 67))))))) : va_E) :: (((((((cells_X2 dA o (b + 1)) ++ (cells_X2 dA o (b + 12))) ++ (cells_X2 dA o (b + 23))) ++ (cells_X2 dA o (b + 34))) ++ (cells_X2 dA o (b + 45))) ++ (cells_X2 dA o (b + 56))) ++ (cells_X2 dA o (b + 67))))) rfl ?_
  refine rg_iinc (v := 7) (pc := 23) F dX0_plains_23 0 rfl (by decide) (fm_lt rfl) (lv' := [(3, .int 7), (2, .ref b), (0, .ref o), (1, .int 10)]) rfl ?_
  refine rg_goto (tgt := 7) (pc := 26) F dX0_plains_26 (by decide) ?_
  refine rg_iload_n (pc := 7) F dX0_plains_7 0 rfl ?_
  refine rg_iload_n (pc := 8) F dX0_plains_8 3 rfl ?_
  refine rg_icmp_ge (tgt := 29) (pc := 9) F dX0_plains_9 (by decide) (fun c9 => absurd c9 (by decide)) (fun _ => ?_)
  refine rg_aload_n (pc := 12) F dX0_plains_12 1 rfl ?_
  refine rg_iload_n (pc := 13) F dX0_plains_13 0 rfl ?_
  refine rg_new (ci := 2) (fs := [.int 0, .int 0, .null, .null, .null, .null, .null]) (pc := 14) F rfl in_X2 tyX2 tyX2_ok dX0_plains_14 q140 q141 q41 (rg_all7 rfl rfl rfl rfl rfl rfl rfl) ⟨fm_le rfl, fm_le rfl⟩ (cs' := (79, 486)) rfl (a := (b + 78)) rfl ?_
  refine rg_eq (C' := ((.inl (dA 3, 10, .inr (.inr (.inr (.inr (va_up (va_up (va_up (va_up (va_up (va_up (va_up (fun _ => none) 0 (some (b + 1))) 1 (some (b + 12))) 2 (some (b + 23))) 3 (some (b + 34))) 4 (some (b + 45))) 5 (some (b + 56))) 6 (some (b + 67))))))) : va_E) :: ((((((((cells_X2 dA o (b + 1)) ++ (cells_X2 dA o (b + 12))) ++ (cells_X2 dA o (b + 23))) ++ (cells_X2 dA o (b + 34))) ++ (cells_X2 dA o (b + 45))) ++ (cells_X2 dA o (b + 56))) ++ (cells_X2 dA o (b + 67))) ++ rg_ob 2 [.int 0, .int 0, .null, .null, .null, .null, .null]))) rfl ?_
  refine rg_dup (pc := 17) F dX0_plains_17 rfl ?_
  refine rg_aload_n (pc := 18) F dX0_plains_18 2 rfl ?_
  refine rg_callIN (As := [.ref o]) (rest := [.ref (b + 78), .int 7, .ref b]) (pc := 19) F ((.inl (dA 3, 10, .inr (.inr (.inr (.inr (va_up (va_up (va_up (va_up (va_up (va_up (va_up (fun _ => none) 0 (some (b + 1))) 1 (some (b + 12))) 2 (some (b + 23))) 3 (some (b + 34))) 4 (some (b + 45))) 5 (some (b + 56))) 6 (some (b + 67))))))) : va_E) :: (((((((cells_X2 dA o (b + 1)) ++ (cells_X2 dA o (b + 12))) ++ (cells_X2 dA o (b + 23))) ++ (cells_X2 dA o (b + 34))) ++ (cells_X2 dA o (b + 45))) ++ (cells_X2 dA o (b + 56))) ++ (cells_X2 dA o (b + 67)))) (C1 := rg_ob 2 [.int 0, .int 0, .null, .null, .null, .null, .null]) (C2 := (cells_X2 dA o (b + 78))) rfl (mX2_init (o := o) (b := (b + 78))) q142 q143 q41 q144 rfl ⟨rfl, rfl⟩ (n := 1) (by decide +kernel) ⟨fm_le rfl, fm_le rfl, fm_le rfl, fm_le rfl⟩ rfl rfl (fm_le rfl) dX0_plains_19 (cs' := (89, 546)) rfl ?_
  refine rg_eq (C' := ((.inl (dA 3, 10, .inr (.inr (.inr (.inr (va_up (va_up (va_up (va_up (va_up (va_up (va_up (fun _ => none) 0 (some (b + 1))) 1 (some (b + 12))) 2 (some (b + 23))) 3 (some (b + 34))) 4 (some (b + 45))) 5 (some (b + 56))) 6 (some (b + 67))))))) : va_E) :: ((((((((cells_X2 dA o (b + 1)) ++ (cells_X2 dA o (b + 12))) ++ (cells_X2 dA o (b + 23))) ++ (cells_X2 dA o (b + 34))) ++ (cells_X2 dA o (b + 45))) ++ (cells_X2 dA o (b + 56))) ++ (cells_X2 dA o (b + 67))) ++ (cells_X2 dA o (b + 78))))) rfl ?_
  refine rg_aast (pc := 22) F 3 rfl (ci := 2) rfl (Or.inl rfl) dX0_plains_22 0 rfl 78 rfl (by unfold vp_in; decide) rfl rfl ?_
  refine rg_eq (C' := ((.inl (dA 3, 10, .inr (.inr (.inr (.inr (va_up (va_up (va_up (va_up (va_up (va_up (va_up (va_up (fun _ => none) 0 (some (b + 1))) 1 (some (b + 12))) 2 (some (b + 23))) 3 (some (b + 34))) 4 (some (b + 45))) 5 (some (b + 56))) 6 (some (b + 67))) 7 (some (b + 78))))))) : va_E) :: ((((((((cells_X2 dA o (b + 1)) ++ (cells_X2 dA o (b + 12))) ++ (cells_X2 dA o (b + 23))) ++ (cells_X2 dA o (b + 34))) ++ (cells_X2 dA o (b + 45))) ++ (cells_X2 dA o (b + 56))) ++ (cells_X2 dA o (b + 67))) ++ (cells_X2 dA o (b + 78))))) rfl ?_
  refine rg_iinc (v := 8) (pc := 23) F dX0_plains_23 0 rfl (by decide) (fm_lt rfl) (lv' := [(3, .int 8), (2, .ref b), (0, .ref o), (1, .int 10)]) rfl ?_
  refine rg_goto (tgt := 7) (pc := 26) F dX0_plains_26 (by decide) ?_
  refine rg_iload_n (pc := 7) F dX0_plains_7 0 rfl ?_
  refine rg_iload_n (pc := 8) F dX0_plains_8 3 rfl ?_
  refine rg_icmp_ge (tgt := 29) (pc := 9) F dX0_plains_9 (by decide) (fun c9 => absurd c9 (by decide)) (fun _ => ?_)
  refine rg_aload_n (pc := 12) F dX0_plains_12 1 rfl ?_
  refine rg_iload_n (pc := 13) F dX0_plains_13 0 rfl ?_
  refine rg_new (ci := 2) (fs := [.int 0, .int 0, .null, .null, .null, .null, .null]) (pc := 14) F rfl in_X2 tyX2 tyX2_ok dX0_plains_14 q140 q141 q41 (rg_all7 rfl rfl rfl rfl rfl rfl rfl) ⟨fm_le rfl, fm_le rfl⟩ (cs' := (90, 553)) rfl (a := (b + 89)) rfl ?_
  refine rg_eq (C' := ((.inl (dA 3, 10, .inr (.inr (.inr (.inr (va_up (va_up (va_up (va_up (va_up (va_up (va_up (va_up (fun _ => none) 0 (some (b + 1))) 1 (some (b + 12))) 2 (some (b + 23))) 3 (some (b + 34))) 4 (some (b + 45))) 5 (some (b + 56))) 6 (some (b + 67))) 7 (some (b + 78))))))) : va_E) :: (((((((((cells_X2 dA o (b + 1)) ++ (cells_X2 dA o (b + 12))) ++ (cells_X2 dA o (b + 23))) ++ (cells_X2 dA o (b + 34))) ++ (cells_X2 dA o (b + 45))) ++ (cells_X2 dA o (b + 56))) ++ (cells_X2 dA o (b + 67))) ++ (cells_X2 dA o (b + 78))) ++ rg_ob 2 [.int 0, .int 0, .null, .null, .null, .null, .null]))) rfl ?_
  refine rg_dup (pc := 17) F dX0_plains_17 rfl ?_
  refine rg_aload_n (pc := 18) F dX0_plains_18 2 rfl ?_
  refine rg_callIN (As := [.ref o]) (rest := [.ref (b + 89), .int 8, .ref b]) (pc := 19) F ((.inl (dA 3, 10, .inr (.inr (.inr (.inr (va_up (va_up (va_up (va_up (va_up (va_up (va_up (va_up (fun _ => none) 0 (some (b + 1))) 1 (some (b + 12))) 2 (some (b + 23))) 3 (some (b + 34))) 4 (some (b + 45))) 5 (some (b + 56))) 6 (some (b + 67))) 7 (some (b + 78))))))) : va_E) :: ((((((((cells_X2 dA o (b + 1)) ++ (cells_X2 dA o (b + 12))) ++ (cells_X2 dA o (b + 23))) ++ (cells_X2 dA o (b + 34))) ++ (cells_X2 dA o (b + 45))) ++ (cells_X2 dA o (b + 56))) ++ (cells_X2 dA o (b + 67))) ++ (cells_X2 dA o (b + 78)))) (C1 := rg_ob 2 [.int 0, .int 0, .null, .null, .null, .null, .null]) (C2 := (cells_X2 dA o (b + 89))) rfl (mX2_init (o := o) (b := (b + 89))) q142 q143 q41 q144 rfl ⟨rfl, rfl⟩ (n := 1) (by decide +kernel) ⟨fm_le rfl, fm_le rfl, fm_le rfl, fm_le rfl⟩ rfl rfl (fm_le rfl) dX0_plains_19 (cs' := (100, 613)) rfl ?_
  refine rg_eq (C' := ((.inl (dA 3, 10, .inr (.inr (.inr (.inr (va_up (va_up (va_up (va_up (va_up (va_up (va_up (va_up (fun _ => none) 0 (some (b + 1))) 1 (some (b + 12))) 2 (some (b + 23))) 3 (some (b + 34))) 4 (some (b + 45))) 5 (some (b + 56))) 6 (some (b + 67))) 7 (some (b + 78))))))) : va_E) :: (((((((((cells_X2 dA o (b + 1)) ++ (cells_X2 dA o (b + 12))) ++ (cells_X2 dA o (b + 23))) ++ (cells_X2 dA o (b + 34))) ++ (cells_X2 dA o (b + 45))) ++ (cells_X2 dA o (b + 56))) ++ (cells_X2 dA o (b + 67))) ++ (cells_X2 dA o (b + 78))) ++ (cells_X2 dA o (b + 89))))) rfl ?_
  refine rg_aast (pc := 22) F 3 rfl (ci := 2) rfl (Or.inl rfl) dX0_plains_22 0 rfl 89 rfl (by unfold vp_in; decide) rfl rfl ?_
  refine rg_eq (C' := ((.inl (dA 3, 10, .inr (.inr (.inr (.inr (va_up (va_up (va_up (va_up (va_up (va_up (va_up (va_up (va_up (fun _ => none) 0 (some (b + 1))) 1 (some (b + 12))) 2 (some (b + 23))) 3 (some (b + 34))) 4 (some (b + 45))) 5 (some (b + 56))) 6 (some (b + 67))) 7 (some (b + 78))) 8 (some (b + 89))))))) : va_E) :: (((((((((cells_X2 dA o (b + 1)) ++ (cells_X2 dA o (b + 12))) ++ (cells_X2 dA o (b + 23))) ++ (cells_X2 dA o (b + 34))) ++ (cells_X2 dA o (b + 45))) ++ (cells_X2 dA o (b + 56))) ++ (cells_X2 dA o (b + 67))) ++ (cells_X2 dA o (b + 78))) ++ (cells_X2 dA o (b + 89))))) rfl ?_
  refine rg_iinc (v := 9) (pc := 23) F dX0_plains_23 0 rfl (by decide) (fm_lt rfl) (lv' := [(3, .int 9), (2, .ref b), (0, .ref o), (1, .int 10)]) rfl ?_
  refine rg_goto (tgt := 7) (pc := 26) F dX0_plains_26 (by decide) ?_
  refine rg_iload_n (pc := 7) F dX0_plains_7 0 rfl ?_
  refine rg_iload_n (pc := 8) F dX0_plains_8 3 rfl ?_
  refine rg_icmp_ge (tgt := 29) (pc := 9) F dX0_plains_9 (by decide) (fun c9 => absurd c9 (by decide)) (fun _ => ?_)
  refine rg_aload_n (pc := 12) F dX0_plains_12 1 rfl ?_
  refine rg_iload_n (pc := 13) F dX0_plains_13 0 rfl ?_
  refine rg_new (ci := 2) (fs := [.int 0, .int 0, .null, .null, .null, .null, .null]) (pc := 14) F rfl in_X2 tyX2 tyX2_ok dX0_plains_14 q140 q141 q41 (rg_all7 rfl rfl rfl rfl rfl rfl rfl) ⟨fm_le rfl, fm_le rfl⟩ (cs' := (101, 620)) rfl (a := (b + 100)) rfl ?_
  refine rg_eq (C' := ((.inl (dA 3, 10, .inr (.inr (.inr (.inr (va_up (va_up (va_up (va_up (va_up (va_up (va_up (va_up (va_up (fun _ => none) 0 (some (b + 1))) 1 (some (b + 12))) 2 (some (b + 23))) 3 (some (b + 34))) 4 (some (b + 45))) 5 (some (b + 56))) 6 (some (b + 67))) 7 (some (b + 78))) 8 (some (b + 89))))))) : va_E) :: ((((((((((cells_X2 dA o (b + 1)) ++ (cells_X2 dA o (b + 12))) ++ (cells_X2 dA o (b + 23))) ++ (cells_X2 dA o (b + 34))) ++ (cells_X2 dA o (b + 45))) ++ (cells_X2 dA o (b + 56))) ++ (cells_X2 dA o (b + 67))) ++ (cells_X2 dA o (b + 78))) ++ (cells_X2 dA o (b + 89))) ++ rg_ob 2 [.int 0, .int 0, .null, .null, .null, .null, .null]))) rfl ?_
  refine rg_dup (pc := 17) F dX0_plains_17 rfl ?_
  refine rg_aload_n (pc := 18) F dX0_plains_18 2 rfl ?_
  refine rg_callIN (As := [.ref o]) (rest := [.ref (b + 100), .int 9, .ref b]) (pc := 19) F ((.inl (dA 3, 10, .inr (.inr (.inr (.inr (va_up (va_up (va_up (va_up (va_up (va_up (va_up (va_up (va_up (fun _ => none) 0 (some (b + 1))) 1 (some (b + 12))) 2 (some (b + 23))) 3 (some (b + 34))) 4 (some (b + 45))) 5 (some (b + 56))) 6 (some (b + 67))) 7 (some (b + 78))) 8 (some (b + 89))))))) : va_E) :: (((((((((cells_X2 dA o (b + 1)) ++ (cells_X2 dA o (b + 12))) ++ (cells_X2 dA o (b + 23))) ++ (cells_X2 dA o (b + 34))) ++ (cells_X2 dA o (b + 45))) ++ (cells_X2 dA o (b + 56))) ++ (cells_X2 dA o (b + 67))) ++ (cells_X2 dA o (b + 78))) ++ (cells_X2 dA o (b + 89)))) (C1 := rg_ob 2 [.int 0, .int 0, .null, .null, .null, .null, .null]) (C2 := (cells_X2 dA o (b + 100))) rfl (mX2_init (o := o) (b := (b + 100))) q142 q143 q41 q144 rfl ⟨rfl, rfl⟩ (n := 1) (by decide +kernel) ⟨fm_le rfl, fm_le rfl, fm_le rfl, fm_le rfl⟩ rfl rfl (fm_le rfl) dX0_plains_19 (cs' := (111, 680)) rfl ?_
  refine rg_eq (C' := ((.inl (dA 3, 10, .inr (.inr (.inr (.inr (va_up (va_up (va_up (va_up (va_up (va_up (va_up (va_up (va_up (fun _ => none) 0 (some (b + 1))) 1 (some (b + 12))) 2 (some (b + 23))) 3 (some (b + 34))) 4 (some (b + 45))) 5 (some (b + 56))) 6 (some (b + 67))) 7 (some (b + 78))) 8 (some (b + 89))))))) : va_E) :: ((((((((((cells_X2 dA o (b + 1)) ++ (cells_X2 dA o (b + 12))) ++ (cells_X2 dA o (b + 23))) ++ (cells_X2 dA o (b + 34))) ++ (cells_X2 dA o (b + 45))) ++ (cells_X2 dA o (b + 56))) ++ (cells_X2 dA o (b + 67))) ++ (cells_X2 dA o (b + 78))) ++ (cells_X2 dA o (b + 89))) ++ (cells_X2 dA o (b + 100))))) rfl ?_
  refine rg_aast (pc := 22) F 3 rfl (ci := 2) rfl (Or.inl rfl) dX0_plains_22 0 rfl 100 rfl (by unfold vp_in; decide) rfl rfl ?_
  refine rg_eq (C' := ((.inl (dA 3, 10, .inr (.inr (.inr (.inr (va_up (va_up (va_up (va_up (va_up (va_up (va_up (va_up (va_up (va_up (fun _ => none) 0 (some (b + 1))) 1 (some (b + 12))) 2 (some (b + 23))) 3 (some (b + 34))) 4 (some (b + 45))) 5 (some (b + 56))) 6 (some (b + 67))) 7 (some (b + 78))) 8 (some (b + 89))) 9 (some (b + 100))))))) : va_E) :: ((((((((((cells_X2 dA o (b + 1)) ++ (cells_X2 dA o (b + 12))) ++ (cells_X2 dA o (b + 23))) ++ (cells_X2 dA o (b + 34))) ++ (cells_X2 dA o (b + 45))) ++ (cells_X2 dA o (b + 56))) ++ (cells_X2 dA o (b + 67))) ++ (cells_X2 dA o (b + 78))) ++ (cells_X2 dA o (b + 89))) ++ (cells_X2 dA o (b + 100))))) rfl ?_
  refine rg_iinc (v := 10) (pc := 23) F dX0_plains_23 0 rfl (by decide) (fm_lt rfl) (lv' := [(3, .int 10), (2, .ref b), (0, .ref o), (1, .int 10)]) rfl ?_
  refine rg_goto (tgt := 7) (pc := 26) F dX0_plains_26 (by decide) ?_
  refine rg_iload_n (pc := 7) F dX0_plains_7 0 rfl ?_
  refine rg_iload_n (pc := 8) F dX0_plains_8 3 rfl ?_
  refine rg_icmp_ge (tgt := 29) (pc := 9) F dX0_plains_9 (by decide) (fun _ => ?_) (fun c9 => absurd (by decide) c9)
  refine rg_aload_n (pc := 29) F dX0_plains_29 1 rfl ?_
  exact rg_aret (pc := 30) F E (Or.inr ⟨_, rfl⟩) rfl ⟨fm_le rfl, fm_le rfl⟩ dX0_plains_30
def cells_plains2 (dA : Nat → ClassId) (o : Nat) (b : Nat) : List va_E := ((.inl (dA 3, 2, .inr (.inr (.inr (.inr (va_up (va_up (fun _ => none) 0 (some (b + 1))) 1 (some (b + 12))))))) : va_E) :: ((cells_X2 dA o (b + 1)) ++ (cells_X2 dA o (b + 12))))
abbrev rmX0_plains2 : Room := { frames := 2, cells := 23, slots := 136, locals := 51 }
set_option maxHeartbeats 4000000 in
theorem mX0_plains2 {l : Launch} {D : va_G} {dA : Nat → ClassId} {b : Nat} {o : Nat} : rg_C l yX0_plains (ws_ yX0_plains cX0_plains 4 (some (.array (.object "BellLots$Plain")))) rmX0_plains2 (D, dA, b) [.ref o, .int 2] ([] : List va_E) (some (.ref b)) (cells_plains2 dA o b) 23 136 := by
  refine rg_enter (by decide) rfl (fm_le rfl) ?_
  intro X hXl F E hinit
  subst hXl
  show rg_G X (D, dA, b) (0, 0) 4 ([] : List va_E) 0 [(0, .ref o), (1, .int 2)] []
  refine rg_iload_n (pc := 0) F dX0_plains_0 1 rfl ?_
  refine rg_anew (pc := 1) F dX0_plains_1 q140 F.ao.1 (rg_cB F.kn).1 2 (by decide) rfl (fm_le rfl) ⟨fm_le rfl, fm_le rfl⟩ (cs' := (1, 2)) rfl (a := b) rfl ?_
  refine rg_eq (C' := [.inl (dA 3, 2, .inr (.inr (.inr (.inr (fun _ => none)))))]) rfl ?_
  refine rg_astore_n (pc := 4) F dX0_plains_4 (i := 2) rfl (fm_lt rfl) (lv' := [(2, .ref b), (0, .ref o), (1, .int 2)]) rfl ?_
  refine rg_iconst (v := 0) (pc := 5) F dX0_plains_5 (by decide) ?_
  refine rg_istore_n (pc := 6) F dX0_plains_6 (i := 3) rfl (fm_lt rfl) (lv' := [(3, .int 0), (2, .ref b), (0, .ref o), (1, .int 2)]) rfl ?_
  refine rg_iload_n (pc := 7) F dX0_plains_7 0 rfl ?_
  refine rg_iload_n (pc := 8) F dX0_plains_8 3 rfl ?_
  refine rg_icmp_ge (tgt := 29) (pc := 9) F dX0_plains_9 (by decide) (fun c9 => absurd c9 (by decide)) (fun _ => ?_)
  refine rg_aload_n (pc := 12) F dX0_plains_12 1 rfl ?_
  refine rg_iload_n (pc := 13) F dX0_plains_13 0 rfl ?_
  refine rg_new (ci := 2) (fs := [.int 0, .int 0, .null, .null, .null, .null, .null]) (pc := 14) F rfl in_X2 tyX2 tyX2_ok dX0_plains_14 q140 q141 q41 (rg_all7 rfl rfl rfl rfl rfl rfl rfl) ⟨fm_le rfl, fm_le rfl⟩ (cs' := (2, 9)) rfl (a := (b + 1)) rfl ?_
  refine rg_eq (C' := ((.inl (dA 3, 2, .inr (.inr (.inr (.inr (fun _ => none))))) : va_E) :: rg_ob 2 [.int 0, .int 0, .null, .null, .null, .null, .null])) rfl ?_
  refine rg_dup (pc := 17) F dX0_plains_17 rfl ?_
  refine rg_aload_n (pc := 18) F dX0_plains_18 2 rfl ?_
  refine rg_callIN (As := [.ref o]) (rest := [.ref (b + 1), .int 0, .ref b]) (pc := 19) F [.inl (dA 3, 2, .inr (.inr (.inr (.inr (fun _ => none)))))] (C1 := rg_ob 2 [.int 0, .int 0, .null, .null, .null, .null, .null]) (C2 := (cells_X2 dA o (b + 1))) rfl (mX2_init (o := o) (b := (b + 1))) q142 q143 q41 q144 rfl ⟨rfl, rfl⟩ (n := 1) (by decide +kernel) ⟨fm_le rfl, fm_le rfl, fm_le rfl, fm_le rfl⟩ rfl rfl (fm_le rfl) dX0_plains_19 (cs' := (12, 69)) rfl ?_
  refine rg_eq (C' := ((.inl (dA 3, 2, .inr (.inr (.inr (.inr (fun _ => none))))) : va_E) :: (cells_X2 dA o (b + 1)))) rfl ?_
  refine rg_aast (pc := 22) F 3 rfl (ci := 2) rfl (Or.inl rfl) dX0_plains_22 0 rfl 1 rfl (by unfold vp_in; decide) rfl rfl ?_
  refine rg_eq (C' := ((.inl (dA 3, 2, .inr (.inr (.inr (.inr (va_up (fun _ => none) 0 (some (b + 1))))))) : va_E) :: (cells_X2 dA o (b + 1)))) rfl ?_
  refine rg_iinc (v := 1) (pc := 23) F dX0_plains_23 0 rfl (by decide) (fm_lt rfl) (lv' := [(3, .int 1), (2, .ref b), (0, .ref o), (1, .int 2)]) rfl ?_
  refine rg_goto (tgt := 7) (pc := 26) F dX0_plains_26 (by decide) ?_
  refine rg_iload_n (pc := 7) F dX0_plains_7 0 rfl ?_
  refine rg_iload_n (pc := 8) F dX0_plains_8 3 rfl ?_
  refine rg_icmp_ge (tgt := 29) (pc := 9) F dX0_plains_9 (by decide) (fun c9 => absurd c9 (by decide)) (fun _ => ?_)
  refine rg_aload_n (pc := 12) F dX0_plains_12 1 rfl ?_
  refine rg_iload_n (pc := 13) F dX0_plains_13 0 rfl ?_
  refine rg_new (ci := 2) (fs := [.int 0, .int 0, .null, .null, .null, .null, .null]) (pc := 14) F rfl in_X2 tyX2 tyX2_ok dX0_plains_14 q140 q141 q41 (rg_all7 rfl rfl rfl rfl rfl rfl rfl) ⟨fm_le rfl, fm_le rfl⟩ (cs' := (13, 76)) rfl (a := (b + 12)) rfl ?_
  refine rg_eq (C' := ((.inl (dA 3, 2, .inr (.inr (.inr (.inr (va_up (fun _ => none) 0 (some (b + 1))))))) : va_E) :: ((cells_X2 dA o (b + 1)) ++ rg_ob 2 [.int 0, .int 0, .null, .null, .null, .null, .null]))) rfl ?_
  refine rg_dup (pc := 17) F dX0_plains_17 rfl ?_
  refine rg_aload_n (pc := 18) F dX0_plains_18 2 rfl ?_
  refine rg_callIN (As := [.ref o]) (rest := [.ref (b + 12), .int 1, .ref b]) (pc := 19) F ((.inl (dA 3, 2, .inr (.inr (.inr (.inr (va_up (fun _ => none) 0 (some (b + 1))))))) : va_E) :: (cells_X2 dA o (b + 1))) (C1 := rg_ob 2 [.int 0, .int 0, .null, .null, .null, .null, .null]) (C2 := (cells_X2 dA o (b + 12))) rfl (mX2_init (o := o) (b := (b + 12))) q142 q143 q41 q144 rfl ⟨rfl, rfl⟩ (n := 1) (by decide +kernel) ⟨fm_le rfl, fm_le rfl, fm_le rfl, fm_le rfl⟩ rfl rfl (fm_le rfl) dX0_plains_19 (cs' := (23, 136)) rfl ?_
  refine rg_eq (C' := ((.inl (dA 3, 2, .inr (.inr (.inr (.inr (va_up (fun _ => none) 0 (some (b + 1))))))) : va_E) :: ((cells_X2 dA o (b + 1)) ++ (cells_X2 dA o (b + 12))))) rfl ?_
  refine rg_aast (pc := 22) F 3 rfl (ci := 2) rfl (Or.inl rfl) dX0_plains_22 0 rfl 12 rfl (by unfold vp_in; decide) rfl rfl ?_
  refine rg_eq (C' := ((.inl (dA 3, 2, .inr (.inr (.inr (.inr (va_up (va_up (fun _ => none) 0 (some (b + 1))) 1 (some (b + 12))))))) : va_E) :: ((cells_X2 dA o (b + 1)) ++ (cells_X2 dA o (b + 12))))) rfl ?_
  refine rg_iinc (v := 2) (pc := 23) F dX0_plains_23 0 rfl (by decide) (fm_lt rfl) (lv' := [(3, .int 2), (2, .ref b), (0, .ref o), (1, .int 2)]) rfl ?_
  refine rg_goto (tgt := 7) (pc := 26) F dX0_plains_26 (by decide) ?_
  refine rg_iload_n (pc := 7) F dX0_plains_7 0 rfl ?_
  refine rg_iload_n (pc := 8) F dX0_plains_8 3 rfl ?_
  refine rg_icmp_ge (tgt := 29) (pc := 9) F dX0_plains_9 (by decide) (fun _ => ?_) (fun c9 => absurd (by decide) c9)
  refine rg_aload_n (pc := 29) F dX0_plains_29 1 rfl ?_
  exact rg_aret (pc := 30) F E (Or.inr ⟨_, rfl⟩) rfl ⟨fm_le rfl, fm_le rfl⟩ dX0_plains_30
