/-! ===== mean ===== -/
theorem ow_mean {TX : Mu → Zt → Prop} (L : Nat) (xs : Nat → Int32) : Ow_mean (Inv TX L xs) := by
  intro n μ z s hs hI
  obtain ⟨-, -, -, -, ⟨-, -, -, p7, pb, -, -⟩, ⟨rb, -, -, -, -, pt⟩, -⟩ := hI.1
  have hb : bd (μ 403 12) 0 8 := rb.2.2.2.2.2.2.2.2.2.2.2.2
  have h8 : bd (μ 403 8) 0 9999 := rb.2.2.2.2.2.2.2.2.1
  have p7' : μ 538 7 = μ 403 12 := p7
  have hb7 : (μ 538 7).toInt ≤ 8 := by rw [p7']; exact hb.2
  have c1 : (1 : Int32).toInt = 1 := rfl
  have em : (μ 403 12 - 1).toInt = (μ 403 12).toInt - 1 := I32_sub rfl c1 (by have := hb.1; have := hb.2; omega)
  by_cases hc : 1 ≤ μ 403 12 - 1
  · have hc' := hc
    rw [Int32.le_iff_toInt_le, em, c1] at hc'
    obtain ⟨m, hm⟩ : ∃ m : Nat, (μ 403 12 - 1).toInt = (m : Int) := ⟨(μ 403 12).toInt.toNat - 1, by rw [em]; omega⟩
    have hm7 : m ≤ 7 := by have := hb.2; omega
    have hm1 : 1 ≤ m := by omega
    have pt' : 0 ≤ (μ 403 14).toInt ∧ (μ 403 14).toInt ≤ (μ 403 (14 + 2 * m)).toInt ∧ (μ 403 (14 + 2 * m)).toInt ≤ (μ 403 8).toInt := pt m (by show (m : Int) < (μ 403 12).toInt; omega)
    have e0 : μ 538 (474 + 2 * 0 + 1) = μ 403 14 := pb 0 (by show ((0 : Nat) : Int) < (μ 403 12).toInt; omega) 1 (by omega)
    have e1 : μ 538 (474 + 2 * m + 1) = μ 403 (14 + 2 * m) := (pb m (by show (m : Int) < (μ 403 12).toInt; omega) 1 (by omega)).trans (by show μ 403 _ = _; congr 1; omega)
    have hd : (μ 403 (14 + 2 * m) - μ 403 14).toInt = (μ 403 (14 + 2 * m)).toInt - (μ 403 14).toInt := I32_sub rfl rfl (by have := h8.2; omega)
    obtain ⟨u, hu⟩ : ∃ u : Nat, ((μ 403 (14 + 2 * m) - μ 403 14 : Int32).toInt64).toInt = (u : Int) := ⟨((μ 403 (14 + 2 * m)).toInt - (μ 403 14).toInt).toNat, by rw [toI64, hd]; omega⟩
    have hu9 : u < 1000000000000 := by
      rw [toI64, hd] at hu
      have := h8.2
      omega
    have hv : ((μ 403 12 - 1 : Int32).toInt64).toInt = (m : Int) := by rw [toI64]; exact hm
    obtain ⟨g, g1, g2, g3⟩ := low_E (w := E μ z) (w' := E μ z) hu hv hu9 (by omega) (by omega)
    refine Agr_ro hI (((if s = 0 then (μ 403 (14 + 2 * m) - μ 403 14 : Int32).toInt64 else (μ 403 12 - 1 : Int32).toInt64) / g).toInt32) ?_ ?_
    · show mX0_mean 400 s (E μ z) = _
      unfold mX0_mean
      refine bind_step (gR_400_0 554 (by omega) _ _) ?_
      refine bind_step (gR_401_1 554 (by omega) _ _) ?_
      refine bind_step (ia_E (n := 12) isI_403 rfl (by omega)) ?_
      refine (if_pos hc).trans ?_
      refine bind_step (gR_400_0 554 (by omega) _ _) ?_
      refine bind_step (gR_401_1 554 (by omega) _ _) ?_
      have hi : (13 + 2 * (μ 403 12 - 1) + 1).toInt = ((14 + 2 * m : Nat) : Int) := by
        rw [addN (addN (x := 13) rfl (mulN (x := 2) rfl hm (by omega)) (by omega)) (y := 1) rfl (by omega)]
        omega
      refine bind_step (ia_E (n := 14 + 2 * m) isI_403 hi (by omega)) ?_
      refine bind_step (gR_400_0 554 (by omega) _ _) ?_
      refine bind_step (gR_401_1 554 (by omega) _ _) ?_
      refine bind_step (ia_E (n := 14) isI_403 rfl (by omega)) ?_
      refine bind_step (cal_w (g2 s)) ?_
      rfl
    · show mX2_mean 537 s (E μ z) = _
      unfold mX2_mean
      refine bind_step (recv_537 554 (by omega) _ _) ?_
      refine bind_step (cal_w (shown_E hb7)) ?_
      rw [p7']
      refine (if_pos hc).trans ?_
      refine bind_step (recv_537 554 (by omega) _ _) ?_
      refine bind_step (cal_w (downOf_E (ni := m) (nj := 1) hb7 hm rfl (by omega) (by omega))) ?_
      refine bind_step (recv_537 554 (by omega) _ _) ?_
      refine bind_step (cal_w (downOf_E (ni := 0) (nj := 1) hb7 rfl rfl (by omega) (by omega))) ?_
      rw [e0, e1]
      refine bind_step rfl ?_
      by_cases h0 : s = 0
      · refine (if_pos h0).trans ?_
        rw [if_pos h0]
        unfold mX2_mean_p39
        refine bind_step (cal_w g3) ?_
        refine bind_step (ldv_ne g1) ?_
        rfl
      · refine (if_neg h0).trans ?_
        rw [if_neg h0]
        unfold mX2_mean_p39
        refine bind_step (cal_w g3) ?_
        refine bind_step (ldv_ne g1) ?_
        rfl
  · refine Agr_ro hI (-1) ?_ ?_
    · show mX0_mean 400 s (E μ z) = _
      unfold mX0_mean
      refine bind_step (gR_400_0 554 (by omega) _ _) ?_
      refine bind_step (gR_401_1 554 (by omega) _ _) ?_
      refine bind_step (ia_E (n := 12) isI_403 rfl (by omega)) ?_
      exact if_neg hc
    · show mX2_mean 537 s (E μ z) = _
      unfold mX2_mean
      refine bind_step (recv_537 554 (by omega) _ _) ?_
      refine bind_step (cal_w (shown_E hb7)) ?_
      rw [p7']
      exact if_neg hc
