set_option maxRecDepth 100000
abbrev rmX3_init_X3 : Room := { frames := 1, cells := 0, slots := 0, locals := 30 }
set_option maxHeartbeats 4000000 in
theorem mX3_init_X3 {l : Launch} {D : va_G} {dA : Nat → ClassId} {b : Nat} {o : Nat} : rg_C l yX3_init (ws_ yX3_init cX3_init 2 none) rmX3_init_X3 (D, dA, b) [.ref b, .ref o] [.inr (3, [.null])] none [.inr (3, [.ref o])] 0 0 := by
  refine rg_enter (by decide) rfl (fm_le rfl) ?_
  intro X hXl F E hinit
  subst hXl
  show rg_G X (D, dA, b) (0, 0) 2 [.inr (3, [.null])] 0 [(0, .ref b), (1, .ref o)] []
  refine rg_aload_n (pc := 0) F dX3_init_0 0 rfl ?_
  refine rg_aload_n (pc := 1) F dX3_init_1 1 rfl ?_
  refine rg_put (v := .ref o) (ty := tyX3 0) (pc := 2) F (ci := 3) rfl in_X3 (F.apO (ci := 3) rfl in_X3 (by decide) (by decide)) 0 (fm_lt rfl) dX3_init_2 q189 (Or.inr ⟨rfl, hinit, rfl⟩) (tyX3_ok 0 (fm_lt rfl)) rfl rfl 0 rfl (fm_lt rfl) rfl ?_
  refine rg_eq (C' := [.inr (3, [.ref o])]) rfl ?_
  refine rg_aload_n (pc := 5) F dX3_init_5 0 rfl ?_
  refine rg_obj (pc := 6) F dX3_init_6 q188 q68 q69 ⟨fm_le rfl, fm_le rfl⟩ ?_
  exact rg_vret (pc := 9) F E rfl ⟨fm_le rfl, fm_le rfl⟩ dX3_init_9
abbrev rmX3_init_X4 : Room := { frames := 1, cells := 0, slots := 0, locals := 30 }
set_option maxHeartbeats 4000000 in
theorem mX3_init_X4 {l : Launch} {D : va_G} {dA : Nat → ClassId} {b : Nat} {o : Nat} : rg_C l yX3_init (ws_ yX3_init cX3_init 2 none) rmX3_init_X4 (D, dA, b) [.ref b, .ref o] [.inr (4, [.null, .ref o])] none [.inr (4, [.ref o, .ref o])] 0 0 := by
  refine rg_enter (by decide) rfl (fm_le rfl) ?_
  intro X hXl F E hinit
  subst hXl
  show rg_G X (D, dA, b) (0, 0) 2 [.inr (4, [.null, .ref o])] 0 [(0, .ref b), (1, .ref o)] []
  refine rg_aload_n (pc := 0) F dX3_init_0 0 rfl ?_
  refine rg_aload_n (pc := 1) F dX3_init_1 1 rfl ?_
  refine rg_put (v := .ref o) (ty := tyX4 0) (pc := 2) F (ci := 4) rfl in_X4 (F.apO (ci := 4) rfl in_X4 (by decide) (by decide)) 0 (fm_lt rfl) dX3_init_2 q189 (Or.inr ⟨rfl, hinit, rfl⟩) (tyX4_ok 0 (fm_lt rfl)) rfl rfl 0 rfl (fm_lt rfl) rfl ?_
  refine rg_eq (C' := [.inr (4, [.ref o, .ref o])]) rfl ?_
  refine rg_aload_n (pc := 5) F dX3_init_5 0 rfl ?_
  refine rg_obj (pc := 6) F dX3_init_6 q188 q68 q69 ⟨fm_le rfl, fm_le rfl⟩ ?_
  exact rg_vret (pc := 9) F E rfl ⟨fm_le rfl, fm_le rfl⟩ dX3_init_9
abbrev rmX4_init_X4 : Room := { frames := 2, cells := 0, slots := 0, locals := 51 }
set_option maxHeartbeats 4000000 in
theorem mX4_init_X4 {l : Launch} {D : va_G} {dA : Nat → ClassId} {b : Nat} {o : Nat} : rg_C l yX4_init (ws_ yX4_init cX4_init 2 none) rmX4_init_X4 (D, dA, b) [.ref b, .ref o] [.inr (4, [.null, .null])] none [.inr (4, [.ref o, .ref o])] 0 0 := by
  refine rg_enter (by decide) rfl (fm_le rfl) ?_
  intro X hXl F E hinit
  subst hXl
  show rg_G X (D, dA, b) (0, 0) 2 [.inr (4, [.null, .null])] 0 [(0, .ref b), (1, .ref o)] []
  refine rg_aload_n (pc := 0) F dX4_init_0 0 rfl ?_
  refine rg_aload_n (pc := 1) F dX4_init_1 1 rfl ?_
  refine rg_put (v := .ref o) (ty := tyX4 1) (pc := 2) F (ci := 4) rfl in_X4 (F.apO (ci := 4) rfl in_X4 (by decide) (by decide)) 1 (fm_lt rfl) dX4_init_2 q201 (Or.inr ⟨rfl, hinit, rfl⟩) (tyX4_ok 1 (fm_lt rfl)) rfl rfl 0 rfl (fm_lt rfl) rfl ?_
  refine rg_eq (C' := [.inr (4, [.null, .ref o])]) rfl ?_
  refine rg_aload_n (pc := 5) F dX4_init_5 0 rfl ?_
  refine rg_aload_n (pc := 6) F dX4_init_6 1 rfl ?_
  refine rg_callIN (As := [.ref o]) (rest := []) (pc := 7) F ([] : List va_E) (C1 := rg_ob 4 [.null, .ref o]) (C2 := rg_ob 4 [.ref o, .ref o]) rfl (mX3_init_X4 (o := o) (b := b)) q200 q186 q42 q187 rfl ⟨rfl, rfl⟩ (n := 1) (by decide +kernel) ⟨fm_le rfl, fm_le rfl, fm_le rfl, fm_le rfl⟩ rfl rfl (fm_le rfl) dX4_init_7 (cs' := (0, 0)) rfl ?_
  refine rg_eq (C' := [.inr (4, [.ref o, .ref o])]) rfl ?_
  exact rg_vret (pc := 10) F E rfl ⟨fm_le rfl, fm_le rfl⟩ dX4_init_10
abbrev rmX3_init_X5 : Room := { frames := 1, cells := 0, slots := 0, locals := 30 }
set_option maxHeartbeats 4000000 in
theorem mX3_init_X5 {l : Launch} {D : va_G} {dA : Nat → ClassId} {b : Nat} {o : Nat} : rg_C l yX3_init (ws_ yX3_init cX3_init 2 none) rmX3_init_X5 (D, dA, b) [.ref b, .ref o] [.inr (5, [.null, .ref o])] none [.inr (5, [.ref o, .ref o])] 0 0 := by
  refine rg_enter (by decide) rfl (fm_le rfl) ?_
  intro X hXl F E hinit
  subst hXl
  show rg_G X (D, dA, b) (0, 0) 2 [.inr (5, [.null, .ref o])] 0 [(0, .ref b), (1, .ref o)] []
  refine rg_aload_n (pc := 0) F dX3_init_0 0 rfl ?_
  refine rg_aload_n (pc := 1) F dX3_init_1 1 rfl ?_
  refine rg_put (v := .ref o) (ty := tyX5 0) (pc := 2) F (ci := 5) rfl in_X5 (F.apO (ci := 5) rfl in_X5 (by decide) (by decide)) 0 (fm_lt rfl) dX3_init_2 q189 (Or.inr ⟨rfl, hinit, rfl⟩) (tyX5_ok 0 (fm_lt rfl)) rfl rfl 0 rfl (fm_lt rfl) rfl ?_
  refine rg_eq (C' := [.inr (5, [.ref o, .ref o])]) rfl ?_
  refine rg_aload_n (pc := 5) F dX3_init_5 0 rfl ?_
  refine rg_obj (pc := 6) F dX3_init_6 q188 q68 q69 ⟨fm_le rfl, fm_le rfl⟩ ?_
  exact rg_vret (pc := 9) F E rfl ⟨fm_le rfl, fm_le rfl⟩ dX3_init_9
abbrev rmX5_init_X5 : Room := { frames := 2, cells := 0, slots := 0, locals := 51 }
set_option maxHeartbeats 4000000 in
theorem mX5_init_X5 {l : Launch} {D : va_G} {dA : Nat → ClassId} {b : Nat} {o : Nat} : rg_C l yX5_init (ws_ yX5_init cX5_init 2 none) rmX5_init_X5 (D, dA, b) [.ref b, .ref o] [.inr (5, [.null, .null])] none [.inr (5, [.ref o, .ref o])] 0 0 := by
  refine rg_enter (by decide) rfl (fm_le rfl) ?_
  intro X hXl F E hinit
  subst hXl
  show rg_G X (D, dA, b) (0, 0) 2 [.inr (5, [.null, .null])] 0 [(0, .ref b), (1, .ref o)] []
  refine rg_aload_n (pc := 0) F dX5_init_0 0 rfl ?_
  refine rg_aload_n (pc := 1) F dX5_init_1 1 rfl ?_
  refine rg_put (v := .ref o) (ty := tyX5 1) (pc := 2) F (ci := 5) rfl in_X5 (F.apO (ci := 5) rfl in_X5 (by decide) (by decide)) 1 (fm_lt rfl) dX5_init_2 q212 (Or.inr ⟨rfl, hinit, rfl⟩) (tyX5_ok 1 (fm_lt rfl)) rfl rfl 0 rfl (fm_lt rfl) rfl ?_
  refine rg_eq (C' := [.inr (5, [.null, .ref o])]) rfl ?_
  refine rg_aload_n (pc := 5) F dX5_init_5 0 rfl ?_
  refine rg_aload_n (pc := 6) F dX5_init_6 1 rfl ?_
  refine rg_callIN (As := [.ref o]) (rest := []) (pc := 7) F ([] : List va_E) (C1 := rg_ob 5 [.null, .ref o]) (C2 := rg_ob 5 [.ref o, .ref o]) rfl (mX3_init_X5 (o := o) (b := b)) q211 q186 q42 q187 rfl ⟨rfl, rfl⟩ (n := 1) (by decide +kernel) ⟨fm_le rfl, fm_le rfl, fm_le rfl, fm_le rfl⟩ rfl rfl (fm_le rfl) dX5_init_7 (cs' := (0, 0)) rfl ?_
  refine rg_eq (C' := [.inr (5, [.ref o, .ref o])]) rfl ?_
  exact rg_vret (pc := 10) F E rfl ⟨fm_le rfl, fm_le rfl⟩ dX5_init_10
abbrev rmX3_init_X6 : Room := { frames := 1, cells := 0, slots := 0, locals := 30 }
set_option maxHeartbeats 4000000 in
theorem mX3_init_X6 {l : Launch} {D : va_G} {dA : Nat → ClassId} {b : Nat} {o : Nat} : rg_C l yX3_init (ws_ yX3_init cX3_init 2 none) rmX3_init_X6 (D, dA, b) [.ref b, .ref o] [.inr (6, [.null, .ref o, .ref o])] none [.inr (6, [.ref o, .ref o, .ref o])] 0 0 := by
  refine rg_enter (by decide) rfl (fm_le rfl) ?_
  intro X hXl F E hinit
  subst hXl
  show rg_G X (D, dA, b) (0, 0) 2 [.inr (6, [.null, .ref o, .ref o])] 0 [(0, .ref b), (1, .ref o)] []
  refine rg_aload_n (pc := 0) F dX3_init_0 0 rfl ?_
  refine rg_aload_n (pc := 1) F dX3_init_1 1 rfl ?_
  refine rg_put (v := .ref o) (ty := tyX6 0) (pc := 2) F (ci := 6) rfl in_X6 (F.apO (ci := 6) rfl in_X6 (by decide) (by decide)) 0 (fm_lt rfl) dX3_init_2 q189 (Or.inr ⟨rfl, hinit, rfl⟩) (tyX6_ok 0 (fm_lt rfl)) rfl rfl 0 rfl (fm_lt rfl) rfl ?_
  refine rg_eq (C' := [.inr (6, [.ref o, .ref o, .ref o])]) rfl ?_
  refine rg_aload_n (pc := 5) F dX3_init_5 0 rfl ?_
  refine rg_obj (pc := 6) F dX3_init_6 q188 q68 q69 ⟨fm_le rfl, fm_le rfl⟩ ?_
  exact rg_vret (pc := 9) F E rfl ⟨fm_le rfl, fm_le rfl⟩ dX3_init_9
abbrev rmX4_init_X6 : Room := { frames := 2, cells := 0, slots := 0, locals := 51 }
set_option maxHeartbeats 4000000 in
theorem mX4_init_X6 {l : Launch} {D : va_G} {dA : Nat → ClassId} {b : Nat} {o : Nat} : rg_C l yX4_init (ws_ yX4_init cX4_init 2 none) rmX4_init_X6 (D, dA, b) [.ref b, .ref o] [.inr (6, [.null, .null, .ref o])] none [.inr (6, [.ref o, .ref o, .ref o])] 0 0 := by
  refine rg_enter (by decide) rfl (fm_le rfl) ?_
  intro X hXl F E hinit
  subst hXl
  show rg_G X (D, dA, b) (0, 0) 2 [.inr (6, [.null, .null, .ref o])] 0 [(0, .ref b), (1, .ref o)] []
  refine rg_aload_n (pc := 0) F dX4_init_0 0 rfl ?_
  refine rg_aload_n (pc := 1) F dX4_init_1 1 rfl ?_
  refine rg_put (v := .ref o) (ty := tyX6 1) (pc := 2) F (ci := 6) rfl in_X6 (F.apO (ci := 6) rfl in_X6 (by decide) (by decide)) 1 (fm_lt rfl) dX4_init_2 q201 (Or.inr ⟨rfl, hinit, rfl⟩) (tyX6_ok 1 (fm_lt rfl)) rfl rfl 0 rfl (fm_lt rfl) rfl ?_
  refine rg_eq (C' := [.inr (6, [.null, .ref o, .ref o])]) rfl ?_
  refine rg_aload_n (pc := 5) F dX4_init_5 0 rfl ?_
  refine rg_aload_n (pc := 6) F dX4_init_6 1 rfl ?_
  refine rg_callIN (As := [.ref o]) (rest := []) (pc := 7) F ([] : List va_E) (C1 := rg_ob 6 [.null, .ref o, .ref o]) (C2 := rg_ob 6 [.ref o, .ref o, .ref o]) rfl (mX3_init_X6 (o := o) (b := b)) q200 q186 q42 q187 rfl ⟨rfl, rfl⟩ (n := 1) (by decide +kernel) ⟨fm_le rfl, fm_le rfl, fm_le rfl, fm_le rfl⟩ rfl rfl (fm_le rfl) dX4_init_7 (cs' := (0, 0)) rfl ?_
  refine rg_eq (C' := [.inr (6, [.ref o, .ref o, .ref o])]) rfl ?_
  exact rg_vret (pc := 10) F E rfl ⟨fm_le rfl, fm_le rfl⟩ dX4_init_10
abbrev rmX6_init_X6 : Room := { frames := 3, cells := 0, slots := 0, locals := 72 }
set_option maxHeartbeats 4000000 in
theorem mX6_init_X6 {l : Launch} {D : va_G} {dA : Nat → ClassId} {b : Nat} {o : Nat} : rg_C l yX6_init (ws_ yX6_init cX6_init 2 none) rmX6_init_X6 (D, dA, b) [.ref b, .ref o] [.inr (6, [.null, .null, .null])] none [.inr (6, [.ref o, .ref o, .ref o])] 0 0 := by
  refine rg_enter (by decide) rfl (fm_le rfl) ?_
  intro X hXl F E hinit
  subst hXl
  show rg_G X (D, dA, b) (0, 0) 2 [.inr (6, [.null, .null, .null])] 0 [(0, .ref b), (1, .ref o)] []
  refine rg_aload_n (pc := 0) F dX6_init_0 0 rfl ?_
  refine rg_aload_n (pc := 1) F dX6_init_1 1 rfl ?_
  refine rg_put (v := .ref o) (ty := tyX6 2) (pc := 2) F (ci := 6) rfl in_X6 (F.apO (ci := 6) rfl in_X6 (by decide) (by decide)) 2 (fm_lt rfl) dX6_init_2 q223 (Or.inr ⟨rfl, hinit, rfl⟩) (tyX6_ok 2 (fm_lt rfl)) rfl rfl 0 rfl (fm_lt rfl) rfl ?_
  refine rg_eq (C' := [.inr (6, [.null, .null, .ref o])]) rfl ?_
  refine rg_aload_n (pc := 5) F dX6_init_5 0 rfl ?_
  refine rg_aload_n (pc := 6) F dX6_init_6 1 rfl ?_
  refine rg_callIN (As := [.ref o]) (rest := []) (pc := 7) F ([] : List va_E) (C1 := rg_ob 6 [.null, .null, .ref o]) (C2 := rg_ob 6 [.ref o, .ref o, .ref o]) rfl (mX4_init_X6 (o := o) (b := b)) q222 q198 q43 q199 rfl ⟨rfl, rfl⟩ (n := 1) (by decide +kernel) ⟨fm_le rfl, fm_le rfl, fm_le rfl, fm_le rfl⟩ rfl rfl (fm_le rfl) dX6_init_7 (cs' := (0, 0)) rfl ?_
  refine rg_eq (C' := [.inr (6, [.ref o, .ref o, .ref o])]) rfl ?_
  exact rg_vret (pc := 10) F E rfl ⟨fm_le rfl, fm_le rfl⟩ dX6_init_10
abbrev rmX3_init_X7 : Room := { frames := 1, cells := 0, slots := 0, locals := 30 }
set_option maxHeartbeats 4000000 in
theorem mX3_init_X7 {l : Launch} {D : va_G} {dA : Nat → ClassId} {b : Nat} {o : Nat} : rg_C l yX3_init (ws_ yX3_init cX3_init 2 none) rmX3_init_X7 (D, dA, b) [.ref b, .ref o] [.inr (7, [.null, .ref o, .ref o])] none [.inr (7, [.ref o, .ref o, .ref o])] 0 0 := by
  refine rg_enter (by decide) rfl (fm_le rfl) ?_
  intro X hXl F E hinit
  subst hXl
  show rg_G X (D, dA, b) (0, 0) 2 [.inr (7, [.null, .ref o, .ref o])] 0 [(0, .ref b), (1, .ref o)] []
  refine rg_aload_n (pc := 0) F dX3_init_0 0 rfl ?_
  refine rg_aload_n (pc := 1) F dX3_init_1 1 rfl ?_
  refine rg_put (v := .ref o) (ty := tyX7 0) (pc := 2) F (ci := 7) rfl in_X7 (F.apO (ci := 7) rfl in_X7 (by decide) (by decide)) 0 (fm_lt rfl) dX3_init_2 q189 (Or.inr ⟨rfl, hinit, rfl⟩) (tyX7_ok 0 (fm_lt rfl)) rfl rfl 0 rfl (fm_lt rfl) rfl ?_
  refine rg_eq (C' := [.inr (7, [.ref o, .ref o, .ref o])]) rfl ?_
  refine rg_aload_n (pc := 5) F dX3_init_5 0 rfl ?_
  refine rg_obj (pc := 6) F dX3_init_6 q188 q68 q69 ⟨fm_le rfl, fm_le rfl⟩ ?_
  exact rg_vret (pc := 9) F E rfl ⟨fm_le rfl, fm_le rfl⟩ dX3_init_9
abbrev rmX5_init_X7 : Room := { frames := 2, cells := 0, slots := 0, locals := 51 }
set_option maxHeartbeats 4000000 in
theorem mX5_init_X7 {l : Launch} {D : va_G} {dA : Nat → ClassId} {b : Nat} {o : Nat} : rg_C l yX5_init (ws_ yX5_init cX5_init 2 none) rmX5_init_X7 (D, dA, b) [.ref b, .ref o] [.inr (7, [.null, .null, .ref o])] none [.inr (7, [.ref o, .ref o, .ref o])] 0 0 := by
  refine rg_enter (by decide) rfl (fm_le rfl) ?_
  intro X hXl F E hinit
  subst hXl
  show rg_G X (D, dA, b) (0, 0) 2 [.inr (7, [.null, .null, .ref o])] 0 [(0, .ref b), (1, .ref o)] []
  refine rg_aload_n (pc := 0) F dX5_init_0 0 rfl ?_
  refine rg_aload_n (pc := 1) F dX5_init_1 1 rfl ?_
  refine rg_put (v := .ref o) (ty := tyX7 1) (pc := 2) F (ci := 7) rfl in_X7 (F.apO (ci := 7) rfl in_X7 (by decide) (by decide)) 1 (fm_lt rfl) dX5_init_2 q212 (Or.inr ⟨rfl, hinit, rfl⟩) (tyX7_ok 1 (fm_lt rfl)) rfl rfl 0 rfl (fm_lt rfl) rfl ?_
  refine rg_eq (C' := [.inr (7, [.null, .ref o, .ref o])]) rfl ?_
  refine rg_aload_n (pc := 5) F dX5_init_5 0 rfl ?_
  refine rg_aload_n (pc := 6) F dX5_init_6 1 rfl ?_
  refine rg_callIN (As := [.ref o]) (rest := []) (pc := 7) F ([] : List va_E) (C1 := rg_ob 7 [.null, .ref o, .ref o]) (C2 := rg_ob 7 [.ref o, .ref o, .ref o]) rfl (mX3_init_X7 (o := o) (b := b)) q211 q186 q42 q187 rfl ⟨rfl, rfl⟩ (n := 1) (by decide +kernel) ⟨fm_le rfl, fm_le rfl, fm_le rfl, fm_le rfl⟩ rfl rfl (fm_le rfl) dX5_init_7 (cs' := (0, 0)) rfl ?_
  refine rg_eq (C' := [.inr (7, [.ref o, .ref o, .ref o])]) rfl ?_
  exact rg_vret (pc := 10) F E rfl ⟨fm_le rfl, fm_le rfl⟩ dX5_init_10
abbrev rmX7_init_X7 : Room := { frames := 3, cells := 0, slots := 0, locals := 72 }
set_option maxHeartbeats 4000000 in
theorem mX7_init_X7 {l : Launch} {D : va_G} {dA : Nat → ClassId} {b : Nat} {o : Nat} : rg_C l yX7_init (ws_ yX7_init cX7_init 2 none) rmX7_init_X7 (D, dA, b) [.ref b, .ref o] [.inr (7, [.null, .null, .null])] none [.inr (7, [.ref o, .ref o, .ref o])] 0 0 := by
  refine rg_enter (by decide) rfl (fm_le rfl) ?_
  intro X hXl F E hinit
  subst hXl
  show rg_G X (D, dA, b) (0, 0) 2 [.inr (7, [.null, .null, .null])] 0 [(0, .ref b), (1, .ref o)] []
  refine rg_aload_n (pc := 0) F dX7_init_0 0 rfl ?_
  refine rg_aload_n (pc := 1) F dX7_init_1 1 rfl ?_
  refine rg_put (v := .ref o) (ty := tyX7 2) (pc := 2) F (ci := 7) rfl in_X7 (F.apO (ci := 7) rfl in_X7 (by decide) (by decide)) 2 (fm_lt rfl) dX7_init_2 q235 (Or.inr ⟨rfl, hinit, rfl⟩) (tyX7_ok 2 (fm_lt rfl)) rfl rfl 0 rfl (fm_lt rfl) rfl ?_
  refine rg_eq (C' := [.inr (7, [.null, .null, .ref o])]) rfl ?_
  refine rg_aload_n (pc := 5) F dX7_init_5 0 rfl ?_
  refine rg_aload_n (pc := 6) F dX7_init_6 1 rfl ?_
  refine rg_callIN (As := [.ref o]) (rest := []) (pc := 7) F ([] : List va_E) (C1 := rg_ob 7 [.null, .null, .ref o]) (C2 := rg_ob 7 [.ref o, .ref o, .ref o]) rfl (mX5_init_X7 (o := o) (b := b)) q234 q209 q44 q210 rfl ⟨rfl, rfl⟩ (n := 1) (by decide +kernel) ⟨fm_le rfl, fm_le rfl, fm_le rfl, fm_le rfl⟩ rfl rfl (fm_le rfl) dX7_init_7 (cs' := (0, 0)) rfl ?_
  refine rg_eq (C' := [.inr (7, [.ref o, .ref o, .ref o])]) rfl ?_
  exact rg_vret (pc := 10) F E rfl ⟨fm_le rfl, fm_le rfl⟩ dX7_init_10
abbrev rmX3_init_X8 : Room := { frames := 1, cells := 0, slots := 0, locals := 30 }
set_option maxHeartbeats 4000000 in
theorem mX3_init_X8 {l : Launch} {D : va_G} {dA : Nat → ClassId} {b : Nat} {o : Nat} : rg_C l yX3_init (ws_ yX3_init cX3_init 2 none) rmX3_init_X8 (D, dA, b) [.ref b, .ref o] [.inr (8, [.null, .ref o])] none [.inr (8, [.ref o, .ref o])] 0 0 := by
  refine rg_enter (by decide) rfl (fm_le rfl) ?_
  intro X hXl F E hinit
  subst hXl
  show rg_G X (D, dA, b) (0, 0) 2 [.inr (8, [.null, .ref o])] 0 [(0, .ref b), (1, .ref o)] []
  refine rg_aload_n (pc := 0) F dX3_init_0 0 rfl ?_
  refine rg_aload_n (pc := 1) F dX3_init_1 1 rfl ?_
  refine rg_put (v := .ref o) (ty := tyX8 0) (pc := 2) F (ci := 8) rfl in_X8 (F.apO (ci := 8) rfl in_X8 (by decide) (by decide)) 0 (fm_lt rfl) dX3_init_2 q189 (Or.inr ⟨rfl, hinit, rfl⟩) (tyX8_ok 0 (fm_lt rfl)) rfl rfl 0 rfl (fm_lt rfl) rfl ?_
  refine rg_eq (C' := [.inr (8, [.ref o, .ref o])]) rfl ?_
  refine rg_aload_n (pc := 5) F dX3_init_5 0 rfl ?_
  refine rg_obj (pc := 6) F dX3_init_6 q188 q68 q69 ⟨fm_le rfl, fm_le rfl⟩ ?_
  exact rg_vret (pc := 9) F E rfl ⟨fm_le rfl, fm_le rfl⟩ dX3_init_9
abbrev rmX8_init_X8 : Room := { frames := 2, cells := 0, slots := 0, locals := 51 }
set_option maxHeartbeats 4000000 in
theorem mX8_init_X8 {l : Launch} {D : va_G} {dA : Nat → ClassId} {b : Nat} {o : Nat} : rg_C l yX8_init (ws_ yX8_init cX8_init 2 none) rmX8_init_X8 (D, dA, b) [.ref b, .ref o] [.inr (8, [.null, .null])] none [.inr (8, [.ref o, .ref o])] 0 0 := by
  refine rg_enter (by decide) rfl (fm_le rfl) ?_
  intro X hXl F E hinit
  subst hXl
  show rg_G X (D, dA, b) (0, 0) 2 [.inr (8, [.null, .null])] 0 [(0, .ref b), (1, .ref o)] []
  refine rg_aload_n (pc := 0) F dX8_init_0 0 rfl ?_
  refine rg_aload_n (pc := 1) F dX8_init_1 1 rfl ?_
  refine rg_put (v := .ref o) (ty := tyX8 1) (pc := 2) F (ci := 8) rfl in_X8 (F.apO (ci := 8) rfl in_X8 (by decide) (by decide)) 1 (fm_lt rfl) dX8_init_2 q247 (Or.inr ⟨rfl, hinit, rfl⟩) (tyX8_ok 1 (fm_lt rfl)) rfl rfl 0 rfl (fm_lt rfl) rfl ?_
  refine rg_eq (C' := [.inr (8, [.null, .ref o])]) rfl ?_
  refine rg_aload_n (pc := 5) F dX8_init_5 0 rfl ?_
  refine rg_aload_n (pc := 6) F dX8_init_6 1 rfl ?_
  refine rg_callIN (As := [.ref o]) (rest := []) (pc := 7) F ([] : List va_E) (C1 := rg_ob 8 [.null, .ref o]) (C2 := rg_ob 8 [.ref o, .ref o]) rfl (mX3_init_X8 (o := o) (b := b)) q246 q186 q42 q187 rfl ⟨rfl, rfl⟩ (n := 1) (by decide +kernel) ⟨fm_le rfl, fm_le rfl, fm_le rfl, fm_le rfl⟩ rfl rfl (fm_le rfl) dX8_init_7 (cs' := (0, 0)) rfl ?_
  refine rg_eq (C' := [.inr (8, [.ref o, .ref o])]) rfl ?_
  exact rg_vret (pc := 10) F E rfl ⟨fm_le rfl, fm_le rfl⟩ dX8_init_10
