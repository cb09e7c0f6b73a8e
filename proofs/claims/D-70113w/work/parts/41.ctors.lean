/-! constructors (printed by gen/genR.py) -/
set_option maxRecDepth 100000
def rg_ai (c : ClassId) (n : Nat) : List va_E := [.inl (c, n, .inl (fun _ => 0))]
def rg_rf (c : ClassId) (n : Nat) (f : Nat → Option Nat) : List va_E := [.inl (c, n, .inr (.inr (.inr (.inr f))))]
def rg_ob (c : Nat) (fs : List Value) : List va_E := [.inr (c, fs)]
def cells_X1 (dA : Nat → ClassId) (b : Nat) : List va_E := ((.inr (1, [.ref (b + 1), .ref (b + 2), .ref (b + 3), .ref (b + 4), .ref (b + 11), .ref (b + 18), .ref (b + 19), .ref (b + 20), .int 0, .int 0, .int 0]) : va_E) :: (((((((rg_ai (dA 0) 6 ++ rg_ai (dA 0) 6) ++ rg_ai (dA 0) 6) ++ (rg_grid dA (b + 4))) ++ (rg_grid dA (b + 11))) ++ rg_ai (dA 0) 6) ++ rg_ai (dA 0) 6) ++ rg_ai (dA 0) 6))
abbrev rmX1_init : Room := { frames := 1, cells := 20, slots := 120, locals := 30 }
set_option maxHeartbeats 4000000 in
theorem mX1_init {l : Launch} {D : va_G} {dA : Nat → ClassId} {b : Nat}  : rg_C l yX1_init (ws_ yX1_init cX1_init 1 none) rmX1_init (D, dA, b) [.ref b] [.inr (1, [.null, .null, .null, .null, .null, .null, .null, .null, .int 0, .int 0, .int 0])] none (cells_X1 dA b) 20 120 := by
  refine rg_enter (by decide) rfl (fm_le rfl) ?_
  intro X hXl F E hinit
  subst hXl
  show rg_G X (D, dA, b) (0, 0) 1 [.inr (1, [.null, .null, .null, .null, .null, .null, .null, .null, .int 0, .int 0, .int 0])] 0 [(0, .ref b)] []
  refine rg_aload_n (pc := 0) F dX1_init_0 0 rfl ?_
  refine rg_obj (pc := 1) F dX1_init_1 q75 q68 q69 ⟨fm_le rfl, fm_le rfl⟩ ?_
  refine rg_aload_n (pc := 4) F dX1_init_4 0 rfl ?_
  refine rg_bipush (v := 6) (pc := 5) F dX1_init_5 (by decide) ?_
  refine rg_newI (pc := 7) F dX1_init_7 q139 6 (by decide) rfl (fm_le rfl) ⟨fm_le rfl, fm_le rfl⟩ (cs' := (1, 6)) rfl (a := (b + 1)) rfl ?_
  refine rg_eq (C' := ((.inr (1, [.null, .null, .null, .null, .null, .null, .null, .null, .int 0, .int 0, .int 0]) : va_E) :: rg_ai (dA 0) 6)) rfl ?_
  refine rg_put (v := .ref (b + 1)) (ty := tyX1 0) (pc := 9) F (ci := 1) rfl in_X1 (F.ap clX1) 0 (fm_lt rfl) dX1_init_9 q78 (Or.inr ⟨rfl, hinit, rfl⟩) (tyX1_ok 0 (fm_lt rfl)) rfl rfl 0 rfl (fm_lt rfl) rfl ?_
  refine rg_eq (C' := ((.inr (1, [.ref (b + 1), .null, .null, .null, .null, .null, .null, .null, .int 0, .int 0, .int 0]) : va_E) :: rg_ai (dA 0) 6)) rfl ?_
  refine rg_aload_n (pc := 12) F dX1_init_12 0 rfl ?_
  refine rg_bipush (v := 6) (pc := 13) F dX1_init_13 (by decide) ?_
  refine rg_newI (pc := 15) F dX1_init_15 q139 6 (by decide) rfl (fm_le rfl) ⟨fm_le rfl, fm_le rfl⟩ (cs' := (2, 12)) rfl (a := (b + 2)) rfl ?_
  refine rg_eq (C' := ((.inr (1, [.ref (b + 1), .null, .null, .null, .null, .null, .null, .null, .int 0, .int 0, .int 0]) : va_E) :: (rg_ai (dA 0) 6 ++ rg_ai (dA 0) 6))) rfl ?_
  refine rg_put (v := .ref (b + 2)) (ty := tyX1 1) (pc := 17) F (ci := 1) rfl in_X1 (F.ap clX1) 1 (fm_lt rfl) dX1_init_17 q81 (Or.inr ⟨rfl, hinit, rfl⟩) (tyX1_ok 1 (fm_lt rfl)) rfl rfl 0 rfl (fm_lt rfl) rfl ?_
  refine rg_eq (C' := ((.inr (1, [.ref (b + 1), .ref (b + 2), .null, .null, .null, .null, .null, .null, .int 0, .int 0, .int 0]) : va_E) :: (rg_ai (dA 0) 6 ++ rg_ai (dA 0) 6))) rfl ?_
  refine rg_aload_n (pc := 20) F dX1_init_20 0 rfl ?_
  refine rg_bipush (v := 6) (pc := 21) F dX1_init_21 (by decide) ?_
  refine rg_newI (pc := 23) F dX1_init_23 q139 6 (by decide) rfl (fm_le rfl) ⟨fm_le rfl, fm_le rfl⟩ (cs' := (3, 18)) rfl (a := (b + 3)) rfl ?_
  refine rg_eq (C' := ((.inr (1, [.ref (b + 1), .ref (b + 2), .null, .null, .null, .null, .null, .null, .int 0, .int 0, .int 0]) : va_E) :: ((rg_ai (dA 0) 6 ++ rg_ai (dA 0) 6) ++ rg_ai (dA 0) 6))) rfl ?_
  refine rg_put (v := .ref (b + 3)) (ty := tyX1 2) (pc := 25) F (ci := 1) rfl in_X1 (F.ap clX1) 2 (fm_lt rfl) dX1_init_25 q86 (Or.inr ⟨rfl, hinit, rfl⟩) (tyX1_ok 2 (fm_lt rfl)) rfl rfl 0 rfl (fm_lt rfl) rfl ?_
  refine rg_eq (C' := ((.inr (1, [.ref (b + 1), .ref (b + 2), .ref (b + 3), .null, .null, .null, .null, .null, .int 0, .int 0, .int 0]) : va_E) :: ((rg_ai (dA 0) 6 ++ rg_ai (dA 0) 6) ++ rg_ai (dA 0) 6))) rfl ?_
  refine rg_aload_n (pc := 28) F dX1_init_28 0 rfl ?_
  refine rg_bipush (v := 6) (pc := 29) F dX1_init_29 (by decide) ?_
  refine rg_bipush (v := 6) (pc := 31) F dX1_init_31 (by decide) ?_
  refine rg_multi (pc := 33) F dX1_init_33 q76 q139 ⟨fm_le rfl, fm_le rfl⟩ (cs' := (10, 60)) rfl (a := (b + 4)) rfl ?_
  refine rg_eq (C' := ((.inr (1, [.ref (b + 1), .ref (b + 2), .ref (b + 3), .null, .null, .null, .null, .null, .int 0, .int 0, .int 0]) : va_E) :: (((rg_ai (dA 0) 6 ++ rg_ai (dA 0) 6) ++ rg_ai (dA 0) 6) ++ (rg_grid dA (b + 4))))) rfl ?_
  refine rg_put (v := .ref (b + 4)) (ty := tyX1 3) (pc := 37) F (ci := 1) rfl in_X1 (F.ap clX1) 3 (fm_lt rfl) dX1_init_37 q91 (Or.inr ⟨rfl, hinit, rfl⟩) (tyX1_ok 3 (fm_lt rfl)) rfl rfl 0 rfl (fm_lt rfl) rfl ?_
  refine rg_eq (C' := ((.inr (1, [.ref (b + 1), .ref (b + 2), .ref (b + 3), .ref (b + 4), .null, .null, .null, .null, .int 0, .int 0, .int 0]) : va_E) :: (((rg_ai (dA 0) 6 ++ rg_ai (dA 0) 6) ++ rg_ai (dA 0) 6) ++ (rg_grid dA (b + 4))))) rfl ?_
  refine rg_aload_n (pc := 40) F dX1_init_40 0 rfl ?_
  refine rg_bipush (v := 6) (pc := 41) F dX1_init_41 (by decide) ?_
  refine rg_bipush (v := 6) (pc := 43) F dX1_init_43 (by decide) ?_
  refine rg_multi (pc := 45) F dX1_init_45 q76 q139 ⟨fm_le rfl, fm_le rfl⟩ (cs' := (17, 102)) rfl (a := (b + 11)) rfl ?_
  refine rg_eq (C' := ((.inr (1, [.ref (b + 1), .ref (b + 2), .ref (b + 3), .ref (b + 4), .null, .null, .null, .null, .int 0, .int 0, .int 0]) : va_E) :: ((((rg_ai (dA 0) 6 ++ rg_ai (dA 0) 6) ++ rg_ai (dA 0) 6) ++ (rg_grid dA (b + 4))) ++ (rg_grid dA (b + 11))))) rfl ?_
  refine rg_put (v := .ref (b + 11)) (ty := tyX1 4) (pc := 49) F (ci := 1) rfl in_X1 (F.ap clX1) 4 (fm_lt rfl) dX1_init_49 q94 (Or.inr ⟨rfl, hinit, rfl⟩) (tyX1_ok 4 (fm_lt rfl)) rfl rfl 0 rfl (fm_lt rfl) rfl ?_
  refine rg_eq (C' := ((.inr (1, [.ref (b + 1), .ref (b + 2), .ref (b + 3), .ref (b + 4), .ref (b + 11), .null, .null, .null, .int 0, .int 0, .int 0]) : va_E) :: ((((rg_ai (dA 0) 6 ++ rg_ai (dA 0) 6) ++ rg_ai (dA 0) 6) ++ (rg_grid dA (b + 4))) ++ (rg_grid dA (b + 11))))) rfl ?_
  refine rg_aload_n (pc := 52) F dX1_init_52 0 rfl ?_
  refine rg_bipush (v := 6) (pc := 53) F dX1_init_53 (by decide) ?_
  refine rg_newI (pc := 55) F dX1_init_55 q139 6 (by decide) rfl (fm_le rfl) ⟨fm_le rfl, fm_le rfl⟩ (cs' := (18, 108)) rfl (a := (b + 18)) rfl ?_
  refine rg_eq (C' := ((.inr (1, [.ref (b + 1), .ref (b + 2), .ref (b + 3), .ref (b + 4), .ref (b + 11), .null, .null, .null, .int 0, .int 0, .int 0]) : va_E) :: (((((rg_ai (dA 0) 6 ++ rg_ai (dA 0) 6) ++ rg_ai (dA 0) 6) ++ (rg_grid dA (b + 4))) ++ (rg_grid dA (b + 11))) ++ rg_ai (dA 0) 6))) rfl ?_
  refine rg_put (v := .ref (b + 18)) (ty := tyX1 5) (pc := 57) F (ci := 1) rfl in_X1 (F.ap clX1) 5 (fm_lt rfl) dX1_init_57 q96 (Or.inr ⟨rfl, hinit, rfl⟩) (tyX1_ok 5 (fm_lt rfl)) rfl rfl 0 rfl (fm_lt rfl) rfl ?_
  refine rg_eq (C' := ((.inr (1, [.ref (b + 1), .ref (b + 2), .ref (b + 3), .ref (b + 4), .ref (b + 11), .ref (b + 18), .null, .null, .int 0, .int 0, .int 0]) : va_E) :: (((((rg_ai (dA 0) 6 ++ rg_ai (dA 0) 6) ++ rg_ai (dA 0) 6) ++ (rg_grid dA (b + 4))) ++ (rg_grid dA (b + 11))) ++ rg_ai (dA 0) 6))) rfl ?_
  refine rg_aload_n (pc := 60) F dX1_init_60 0 rfl ?_
  refine rg_bipush (v := 6) (pc := 61) F dX1_init_61 (by decide) ?_
  refine rg_newI (pc := 63) F dX1_init_63 q139 6 (by decide) rfl (fm_le rfl) ⟨fm_le rfl, fm_le rfl⟩ (cs' := (19, 114)) rfl (a := (b + 19)) rfl ?_
  refine rg_eq (C' := ((.inr (1, [.ref (b + 1), .ref (b + 2), .ref (b + 3), .ref (b + 4), .ref (b + 11), .ref (b + 18), .null, .null, .int 0, .int 0, .int 0]) : va_E) :: ((((((rg_ai (dA 0) 6 ++ rg_ai (dA 0) 6) ++ rg_ai (dA 0) 6) ++ (rg_grid dA (b + 4))) ++ (rg_grid dA (b + 11))) ++ rg_ai (dA 0) 6) ++ rg_ai (dA 0) 6))) rfl ?_
  refine rg_put (v := .ref (b + 19)) (ty := tyX1 6) (pc := 65) F (ci := 1) rfl in_X1 (F.ap clX1) 6 (fm_lt rfl) dX1_init_65 q100 (Or.inr ⟨rfl, hinit, rfl⟩) (tyX1_ok 6 (fm_lt rfl)) rfl rfl 0 rfl (fm_lt rfl) rfl ?_
  refine rg_eq (C' := ((.inr (1, [.ref (b + 1), .ref (b + 2), .ref (b + 3), .ref (b + 4), .ref (b + 11), .ref (b + 18), .ref (b + 19), .null, .int 0, .int 0, .int 0]) : va_E) :: ((((((rg_ai (dA 0) 6 ++ rg_ai (dA 0) 6) ++ rg_ai (dA 0) 6) ++ (rg_grid dA (b + 4))) ++ (rg_grid dA (b + 11))) ++ rg_ai (dA 0) 6) ++ rg_ai (dA 0) 6))) rfl ?_
  refine rg_aload_n (pc := 68) F dX1_init_68 0 rfl ?_
  refine rg_bipush (v := 6) (pc := 69) F dX1_init_69 (by decide) ?_
  refine rg_newI (pc := 71) F dX1_init_71 q139 6 (by decide) rfl (fm_le rfl) ⟨fm_le rfl, fm_le rfl⟩ (cs' := (20, 120)) rfl (a := (b + 20)) rfl ?_
  refine rg_eq (C' := ((.inr (1, [.ref (b + 1), .ref (b + 2), .ref (b + 3), .ref (b + 4), .ref (b + 11), .ref (b + 18), .ref (b + 19), .null, .int 0, .int 0, .int 0]) : va_E) :: (((((((rg_ai (dA 0) 6 ++ rg_ai (dA 0) 6) ++ rg_ai (dA 0) 6) ++ (rg_grid dA (b + 4))) ++ (rg_grid dA (b + 11))) ++ rg_ai (dA 0) 6) ++ rg_ai (dA 0) 6) ++ rg_ai (dA 0) 6))) rfl ?_
  refine rg_put (v := .ref (b + 20)) (ty := tyX1 7) (pc := 73) F (ci := 1) rfl in_X1 (F.ap clX1) 7 (fm_lt rfl) dX1_init_73 q104 (Or.inr ⟨rfl, hinit, rfl⟩) (tyX1_ok 7 (fm_lt rfl)) rfl rfl 0 rfl (fm_lt rfl) rfl ?_
  refine rg_eq (C' := ((.inr (1, [.ref (b + 1), .ref (b + 2), .ref (b + 3), .ref (b + 4), .ref (b + 11), .ref (b + 18), .ref (b + 19), .ref (b + 20), .int 0, .int 0, .int 0]) : va_E) :: (((((((rg_ai (dA 0) 6 ++ rg_ai (dA 0) 6) ++ rg_ai (dA 0) 6) ++ (rg_grid dA (b + 4))) ++ (rg_grid dA (b + 11))) ++ rg_ai (dA 0) 6) ++ rg_ai (dA 0) 6) ++ rg_ai (dA 0) 6))) rfl ?_
  exact rg_vret (pc := 76) F E rfl ⟨fm_le rfl, fm_le rfl⟩ dX1_init_76
def cells_X2 (dA : Nat → ClassId) (o : Nat) (b : Nat) : List va_E := ((.inr (2, [.int 0, .int 0, .ref (b + 1), .ref (b + 2), .ref (b + 3), .ref (b + 4), .ref o]) : va_E) :: (((rg_ai (dA 0) 6 ++ rg_ai (dA 0) 6) ++ rg_ai (dA 0) 6) ++ (rg_grid dA (b + 4))))
abbrev rmX2_init : Room := { frames := 1, cells := 10, slots := 60, locals := 30 }
set_option maxHeartbeats 4000000 in
theorem mX2_init {l : Launch} {D : va_G} {dA : Nat → ClassId} {b : Nat} {o : Nat} : rg_C l yX2_init (ws_ yX2_init cX2_init 2 none) rmX2_init (D, dA, b) [.ref b, .ref o] [.inr (2, [.int 0, .int 0, .null, .null, .null, .null, .null])] none (cells_X2 dA o b) 10 60 := by
  refine rg_enter (by decide) rfl (fm_le rfl) ?_
  intro X hXl F E hinit
  subst hXl
  show rg_G X (D, dA, b) (0, 0) 2 [.inr (2, [.int 0, .int 0, .null, .null, .null, .null, .null])] 0 [(0, .ref b), (1, .ref o)] []
  refine rg_aload_n (pc := 0) F dX2_init_0 0 rfl ?_
  refine rg_aload_n (pc := 1) F dX2_init_1 1 rfl ?_
  refine rg_put (v := .ref o) (ty := tyX2 6) (pc := 2) F (ci := 2) rfl in_X2 (F.ap clX2) 6 (fm_lt rfl) dX2_init_2 q161 (Or.inr ⟨rfl, hinit, rfl⟩) (tyX2_ok 6 (fm_lt rfl)) rfl rfl 0 rfl (fm_lt rfl) rfl ?_
  refine rg_eq (C' := [.inr (2, [.int 0, .int 0, .null, .null, .null, .null, .ref o])]) rfl ?_
  refine rg_aload_n (pc := 5) F dX2_init_5 0 rfl ?_
  refine rg_obj (pc := 6) F dX2_init_6 q145 q68 q69 ⟨fm_le rfl, fm_le rfl⟩ ?_
  refine rg_aload_n (pc := 9) F dX2_init_9 0 rfl ?_
  refine rg_bipush (v := 6) (pc := 10) F dX2_init_10 (by decide) ?_
  refine rg_newI (pc := 12) F dX2_init_12 q139 6 (by decide) rfl (fm_le rfl) ⟨fm_le rfl, fm_le rfl⟩ (cs' := (1, 6)) rfl (a := (b + 1)) rfl ?_
  refine rg_eq (C' := ((.inr (2, [.int 0, .int 0, .null, .null, .null, .null, .ref o]) : va_E) :: rg_ai (dA 0) 6)) rfl ?_
  refine rg_put (v := .ref (b + 1)) (ty := tyX2 2) (pc := 14) F (ci := 2) rfl in_X2 (F.ap clX2) 2 (fm_lt rfl) dX2_init_14 q152 (Or.inr ⟨rfl, hinit, rfl⟩) (tyX2_ok 2 (fm_lt rfl)) rfl rfl 0 rfl (fm_lt rfl) rfl ?_
  refine rg_eq (C' := ((.inr (2, [.int 0, .int 0, .ref (b + 1), .null, .null, .null, .ref o]) : va_E) :: rg_ai (dA 0) 6)) rfl ?_
  refine rg_aload_n (pc := 17) F dX2_init_17 0 rfl ?_
  refine rg_bipush (v := 6) (pc := 18) F dX2_init_18 (by decide) ?_
  refine rg_newI (pc := 20) F dX2_init_20 q139 6 (by decide) rfl (fm_le rfl) ⟨fm_le rfl, fm_le rfl⟩ (cs' := (2, 12)) rfl (a := (b + 2)) rfl ?_
  refine rg_eq (C' := ((.inr (2, [.int 0, .int 0, .ref (b + 1), .null, .null, .null, .ref o]) : va_E) :: (rg_ai (dA 0) 6 ++ rg_ai (dA 0) 6))) rfl ?_
  refine rg_put (v := .ref (b + 2)) (ty := tyX2 3) (pc := 22) F (ci := 2) rfl in_X2 (F.ap clX2) 3 (fm_lt rfl) dX2_init_22 q154 (Or.inr ⟨rfl, hinit, rfl⟩) (tyX2_ok 3 (fm_lt rfl)) rfl rfl 0 rfl (fm_lt rfl) rfl ?_
  refine rg_eq (C' := ((.inr (2, [.int 0, .int 0, .ref (b + 1), .ref (b + 2), .null, .null, .ref o]) : va_E) :: (rg_ai (dA 0) 6 ++ rg_ai (dA 0) 6))) rfl ?_
  refine rg_aload_n (pc := 25) F dX2_init_25 0 rfl ?_
  refine rg_bipush (v := 6) (pc := 26) F dX2_init_26 (by decide) ?_
  refine rg_newI (pc := 28) F dX2_init_28 q139 6 (by decide) rfl (fm_le rfl) ⟨fm_le rfl, fm_le rfl⟩ (cs' := (3, 18)) rfl (a := (b + 3)) rfl ?_
  refine rg_eq (C' := ((.inr (2, [.int 0, .int 0, .ref (b + 1), .ref (b + 2), .null, .null, .ref o]) : va_E) :: ((rg_ai (dA 0) 6 ++ rg_ai (dA 0) 6) ++ rg_ai (dA 0) 6))) rfl ?_
  refine rg_put (v := .ref (b + 3)) (ty := tyX2 4) (pc := 30) F (ci := 2) rfl in_X2 (F.ap clX2) 4 (fm_lt rfl) dX2_init_30 q157 (Or.inr ⟨rfl, hinit, rfl⟩) (tyX2_ok 4 (fm_lt rfl)) rfl rfl 0 rfl (fm_lt rfl) rfl ?_
  refine rg_eq (C' := ((.inr (2, [.int 0, .int 0, .ref (b + 1), .ref (b + 2), .ref (b + 3), .null, .ref o]) : va_E) :: ((rg_ai (dA 0) 6 ++ rg_ai (dA 0) 6) ++ rg_ai (dA 0) 6))) rfl ?_
  refine rg_aload_n (pc := 33) F dX2_init_33 0 rfl ?_
  refine rg_bipush (v := 6) (pc := 34) F dX2_init_34 (by decide) ?_
  refine rg_bipush (v := 6) (pc := 36) F dX2_init_36 (by decide) ?_
  refine rg_multi (pc := 38) F dX2_init_38 q146 q139 ⟨fm_le rfl, fm_le rfl⟩ (cs' := (10, 60)) rfl (a := (b + 4)) rfl ?_
  refine rg_eq (C' := ((.inr (2, [.int 0, .int 0, .ref (b + 1), .ref (b + 2), .ref (b + 3), .null, .ref o]) : va_E) :: (((rg_ai (dA 0) 6 ++ rg_ai (dA 0) 6) ++ rg_ai (dA 0) 6) ++ (rg_grid dA (b + 4))))) rfl ?_
  refine rg_put (v := .ref (b + 4)) (ty := tyX2 5) (pc := 42) F (ci := 2) rfl in_X2 (F.ap clX2) 5 (fm_lt rfl) dX2_init_42 q159 (Or.inr ⟨rfl, hinit, rfl⟩) (tyX2_ok 5 (fm_lt rfl)) rfl rfl 0 rfl (fm_lt rfl) rfl ?_
  refine rg_eq (C' := ((.inr (2, [.int 0, .int 0, .ref (b + 1), .ref (b + 2), .ref (b + 3), .ref (b + 4), .ref o]) : va_E) :: (((rg_ai (dA 0) 6 ++ rg_ai (dA 0) 6) ++ rg_ai (dA 0) 6) ++ (rg_grid dA (b + 4))))) rfl ?_
  exact rg_vret (pc := 45) F E rfl ⟨fm_le rfl, fm_le rfl⟩ dX2_init_45
def cells_X10 (dA : Nat → ClassId) (o : Nat) (b : Nat) : List va_E := ((.inr (10, [.int 0, .int 0, .int 0, .int 0, .ref (b + 1), .ref o]) : va_E) :: (cells_X1 dA (b + 1)))
abbrev rmX10_init : Room := { frames := 2, cells := 21, slots := 131, locals := 50 }
set_option maxHeartbeats 4000000 in
theorem mX10_init {l : Launch} {D : va_G} {dA : Nat → ClassId} {b : Nat} {o : Nat} : rg_C l yX10_init (ws_ yX10_init cX10_init 2 none) rmX10_init (D, dA, b) [.ref b, .ref o] [.inr (10, [.int 0, .int 0, .int 0, .int 0, .null, .null])] none (cells_X10 dA o b) 21 131 := by
  refine rg_enter (by decide) rfl (fm_le rfl) ?_
  intro X hXl F E hinit
  subst hXl
  show rg_G X (D, dA, b) (0, 0) 2 [.inr (10, [.int 0, .int 0, .int 0, .int 0, .null, .null])] 0 [(0, .ref b), (1, .ref o)] []
  refine rg_aload_n (pc := 0) F dX10_init_0 0 rfl ?_
  refine rg_aload_n (pc := 1) F dX10_init_1 1 rfl ?_
  refine rg_put (v := .ref o) (ty := tyX10 5) (pc := 2) F (ci := 10) rfl in_X10 (F.ap clX10) 5 (fm_lt rfl) dX10_init_2 q364 (Or.inr ⟨rfl, hinit, rfl⟩) (tyX10_ok 5 (fm_lt rfl)) rfl rfl 0 rfl (fm_lt rfl) rfl ?_
  refine rg_eq (C' := [.inr (10, [.int 0, .int 0, .int 0, .int 0, .null, .ref o])]) rfl ?_
  refine rg_aload_n (pc := 5) F dX10_init_5 0 rfl ?_
  refine rg_obj (pc := 6) F dX10_init_6 q356 q68 q69 ⟨fm_le rfl, fm_le rfl⟩ ?_
  refine rg_aload_n (pc := 9) F dX10_init_9 0 rfl ?_
  refine rg_new (ci := 1) (fs := [.null, .null, .null, .null, .null, .null, .null, .null, .int 0, .int 0, .int 0]) (pc := 10) F rfl in_X1 tyX1 tyX1_ok dX10_init_10 q357 q71 q40 (rg_all11 rfl rfl rfl rfl rfl rfl rfl rfl rfl rfl rfl) ⟨fm_le rfl, fm_le rfl⟩ (cs' := (1, 11)) rfl (a := (b + 1)) rfl ?_
  refine rg_eq (C' := ((.inr (10, [.int 0, .int 0, .int 0, .int 0, .null, .ref o]) : va_E) :: rg_ob 1 [.null, .null, .null, .null, .null, .null, .null, .null, .int 0, .int 0, .int 0])) rfl ?_
  refine rg_dup (pc := 13) F dX10_init_13 rfl ?_
  refine rg_callIN (As := []) (rest := [.ref (b + 1), .ref b]) (pc := 14) F [.inr (10, [.int 0, .int 0, .int 0, .int 0, .null, .ref o])] (C1 := rg_ob 1 [.null, .null, .null, .null, .null, .null, .null, .null, .int 0, .int 0, .int 0]) (C2 := (cells_X1 dA (b + 1))) rfl (mX1_init (b := (b + 1))) q358 q73 q40 q74 rfl ⟨rfl, rfl⟩ (n := 0) (by decide +kernel) ⟨fm_le rfl, fm_le rfl, fm_le rfl, fm_le rfl⟩ rfl rfl (fm_le rfl) dX10_init_14 (cs' := (21, 131)) rfl ?_
  refine rg_eq (C' := ((.inr (10, [.int 0, .int 0, .int 0, .int 0, .null, .ref o]) : va_E) :: (cells_X1 dA (b + 1)))) rfl ?_
  refine rg_put (v := .ref (b + 1)) (ty := tyX10 4) (pc := 17) F (ci := 10) rfl in_X10 (F.ap clX10) 4 (fm_lt rfl) dX10_init_17 q363 (Or.inr ⟨rfl, hinit, rfl⟩) (tyX10_ok 4 (fm_lt rfl)) rfl rfl 0 rfl (fm_lt rfl) rfl ?_
  refine rg_eq (C' := ((.inr (10, [.int 0, .int 0, .int 0, .int 0, .ref (b + 1), .ref o]) : va_E) :: (cells_X1 dA (b + 1)))) rfl ?_
  exact rg_vret (pc := 20) F E rfl ⟨fm_le rfl, fm_le rfl⟩ dX10_init_20
