/-! the constants of the start; the reference's cells as its world -/
set_option maxRecDepth 100000
theorem st_ST {s : State} {b : Nat} (hts : ∀ w ∈ lw_tbl, w.before #[Value.ref b] s = true) (hg : (Jvm.Cond.and given_1 narrow_1).before #[Value.ref b] s = true) : ∃ k6 k7 : Nat, ∀ dA : Nat → ClassId, dA 6 = k6 → dA 7 = k7 → fm_ST dA (fun q => s.heap.size ≤ q) s s.heap := by
  have htA : ∀ w ∈ lw_all, w.before #[Value.ref b] s = true := fun w h => hts w (lw_all_tbl h)
  have hs := flat_of_before _ hg
  have hA : ∀ a : Nat, a < s.heap.size → ¬ (fun q => s.heap.size ≤ q) a := fun a h => Nat.not_le.mpr h
  obtain ⟨adK, adV, hE, hev⟩ := vk_Sof (args := #[Value.ref b]) (s := s) (N := 1) (tm := fun _ => .string "BellLots$Reader" 56) (len := [3]) (byt := [[116, 100, 111]]) (A := fun q => s.heap.size ≤ q)
    (fun i hi => by rcases (show i = 0 by omega) with rfl; decide)
    (fun i hi => hs _ (by decide +kernel)) (fun i hi => hs _ (by decide +kernel)) (fun i hi => hs _ (by decide +kernel))
    (fun i hi => by rcases (show i = 0 by omega) with rfl; exact hs _ (by decide +kernel))
    (fun i hi j hj => by
      rcases (show i = 0 by omega) with rfl
      have hj : j < 3 := hj
      match j, hj with
      | 0, _ => exact hs _ (by decide +kernel)
      | 1, _ => exact hs _ (by decide +kernel)
      | 2, _ => exact hs _ (by decide +kernel))
    (fun i j hi hj h => absurd (by omega) h) hA
  refine ⟨adK 0, adV 0, fun dA h6 h7 => ⟨⟨?_, ?_⟩, ?_, ?_, ?_⟩⟩
  · rw [h6]
    exact vk_R.of (hts _ q394) (hev 0 (by decide))
  · rw [h6, h7]
    refine ⟨fun i hi => ?_, fun i j hi hj _ => by omega⟩
    rcases (show i = 0 by omega) with rfl
    exact hE.1 0 (by decide)
  · exact va_Zof (hts _ q408) (htA _ q52) (va_eqt (hs _ (by decide +kernel))) hA
  · exact va_Zqof (hts _ q512) (htA _ q57) (hs _ (by decide +kernel)) hA
  · exact va_Zqof (hts _ q514) (htA _ q57) (hs _ (by decide +kernel)) hA
