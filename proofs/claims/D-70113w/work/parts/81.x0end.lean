/-! the end of BellLots.<init>: now.begin() over the component's world -/
set_option maxRecDepth 100000
theorem x0ro_le {i : Nat} (h : i < 193) : x0ro i < 193 := by
  unfold x0ro
  cases h1 : Nat.beq i 0 with
  | true => simp
  | false =>
    cases h2 : Nat.blt i 3 with
    | true => simp only [cond_true, cond_false]; have := fm_lt h2; omega
    | false =>
      cases h3 : Nat.beq i 3 with
      | true => simp
      | false =>
        cases h4 : Nat.beq i 4 with
        | true => simp
        | false =>
          cases h5 : Nat.blt i 18 with
          | true => simp only [cond_true, cond_false]; have := fm_lt h5; omega
          | false =>
            cases h6 : Nat.blt i 39 with
            | true => simp only [cond_true, cond_false]; omega
            | false =>
              cases h7 : Nat.blt i 61 with
              | true => simp only [cond_true, cond_false]; omega
              | false =>
                cases h8 : Nat.blt i 171 with
                | true => simp only [cond_true, cond_false]; omega
                | false => simp only [cond_false]; omega
theorem x0ro_dec : ∀ i : Fin 193, ∀ j : Fin 193, x0ro i.val = x0ro j.val → i = j := by decide +kernel
theorem x0ad_inj {b : Nat} : ∀ i j, i < 193 → j < 193 → x0ad b i = x0ad b j → i = j := by
  intro i j hi hj h
  have h1 : x0ro i = x0ro j := by unfold x0ad at h; omega
  exact congrArg Fin.val (x0ro_dec ⟨i, hi⟩ ⟨j, hj⟩ h1)
theorem x0_A {b sz : Nat} (h : sz = b + 1) {q : Nat} : fm_A 193 (x0ad b) sz q ↔ b ≤ q := by
  constructor
  · intro h1
    rcases h1 with ⟨i, -, rfl⟩ | h1
    · exact Nat.le_add_right _ _
    · omega
  · intro h1
    by_cases h2 : q = b
    · exact Or.inl ⟨0, by decide, h2⟩
    · exact Or.inr (by omega)
def x0_Q (D : va_G) (dA : Nat → ClassId) (b : Nat) (M : fm_M) : Array Value → State → Outcome → State → Prop := fun _ st oc t => oc = .returned none ∧ fm_P (YC D dA 193 (x0ad b) 18) M t.heap ∧ va_F (fun q => b ≤ q) st t
abbrev x0_0 : List va_E := [.inr (0, [.null, .null, .null, .null, .null, .null, .int 0, .null, .null, .null, .int 0, .int 0, .null, .null, .null, .null, .int 0, .long 0, .null])]
set_option maxHeartbeats 4000000 in
theorem mX0_init {l : Launch} {D : va_G} {dA : Nat → ClassId} {b n : Nat} {M' : fm_M} (hf : fX2_begin n 18 39 x0M = some M') : Met l yX0_init (ws_ yX0_init cX0_init 1 none) rmX0_init (rg_Pc (D, dA, b) [.ref b] x0_0) (x0_Q D dA b M') 192 1336 (fun q => b ≤ q) := by
  refine Met.ofW (cc := cX0_init) (maxL := 1) (ret := none) (by decide) rfl ?_
  intro p e s m args below meth c s₁ B hml hv
  obtain ⟨rfl, hsz, hP, hK, hN, hT, hO⟩ := hv
  have hts := atoms_spec (ws := ws_ yX0_init cX0_init 1 none) B.pre
  have hts : ∀ w ∈ lw_all, w.before _ s = true := fun w h => hts w (List.mem_cons_of_mem _ h)
  have hown : s.vm.findClass yX0_init.cls = some m.cls := findClass_of_methodNamed B.named
  have hl := lv_entry [Value.ref b] (n := 1) (fm_le rfl)
  rw [lg_entry_eq]
  generalize hX : ((p, l, e, rmX0_init, s, m, [Value.ref b].toArray, below, meth, c, MQ below (x0_Q D dA b M') [Value.ref b].toArray s 192 1336 (fun q => b ≤ q)) : fm_X) = X
  have F : rg_F X (D, dA, b) cX0_init 1 "BellLots" rmX0_init := by
    subst hX
    exact ⟨B.exec, B.bytes, hml, hown, hts, hK, hN, B.notSynchronized, rfl, hT, by show b ≤ s.heap.size; have h9 : s.heap.size = b + 1 := hsz; omega, hO⟩
  have hsz1 : (xs X).heap.size = b + 1 := by subst hX; exact hsz
  have hret : (xt X).sig.returnType = none := by subst hX; exact B.returns
  have hQ : xQ X = MQ (xb X) (x0_Q D dA b M') (xa X) (xs X) 192 1336 (fun q => b ≤ q) := by subst hX; rfl
  have hinit : (xt X).name = "<init>" := by subst hX; exact (name_of_methodNamed B.named B.method).1
  have hG : rg_G X (D, dA, b) (0, 0) 1 x0_0 0 [(0, .ref b)] [] := by
    refine wX0_init F hinit ?_
    rw [x0flat_eq]
    intro H locs ls hz hP hS hl
    have hA : ∀ q, fm_A 193 (x0ad b) (xs X).heap.size q ↔ b ≤ q := fun q => x0_A hsz1
    have FF : fm_F X (YC D dA 193 (x0ad b) 18) cX0_init 1 "BellLots" rmX0_init := ⟨F.exec, F.bytes, F.maxL, F.ownC, F.words, F.kn, x0ad_inj, F.nw, F.locks, F.room, F.stc.narrow (fun q h => (hA q).mp h), F.ao⟩
    have hG2 : fm_G X (YC D dA 193 (x0ad b) 18) (192, 1336) 1 x0M 195 [(0, .ref (x0ad b 0))] [] := by
      refine fm_aload_n (pc := 195) FF dX0_init_195 0 rfl ?_
      refine fm_get (v := .ref (x0ad b 39)) (pc := 196) FF (ci := 0) rfl in_X0 3 (fm_lt rfl) dX0_init_196 q272 0 (fm_lt rfl) rfl rfl ?_
      refine fm_callV (As := []) (rest := []) (pc := 199) FF (ci := 2) 39 (fm_lt rfl) (fm_isPl.now.mk0 (ad := x0ad b) (dA := dA) (bk := 18) _ x0M.2) rfl (mX2_begin fm_isPl.now (Nat.le_refl _) (Or.inl ⟨rfl, by decide⟩) x0ad_inj hf) q252 q253 q254 q41 q255 ⟨rfl, rfl⟩ (n := 0) (by decide +kernel) ⟨fm_le rfl, fm_le rfl, fm_le rfl, fm_le rfl⟩ rfl rfl (fm_le rfl) dX0_init_199 ?_
      intro H locs ls hP hS hl
      have hlocks := F.locks
      rw [hQ]
      exact W.vret F.exec F.bytes hret (fun t ht hW => ⟨rfl, by rw [ht]; exact hP, ⟨(hS.F ht).1, fun q a1 a2 => (hS.F ht).2 q a1 (fun z => a2 ((hA q).mp z))⟩⟩) (fun q hq => (hA _).mp (hS.2.2 q hq)) dX0_init_202
    exact hG2 H locs ls (x0_world hP) ⟨hS.1, fun x h1 h2 => hS.2.1 x h1 (fun h => h2 ((hA x).mpr h)), fun q hq => (hA _).mpr (hS.2.2 q hq)⟩ hl
  subst hX
  exact hG s.heap [] _ hsz hP va_S.rf hl
