/-! ===== jib, hour, ago ===== -/
theorem CQ_403 {μ : Mu} {N : Nat → Int32} : CQ μ (fC μ 403 (μ 400) N (μ 403)) := by
  refine ⟨fun k hk => ?_, fun j _ => rfl⟩
  unfold fC
  rw [if_neg (by omega), if_neg (by omega)]
  by_cases h : k = 403
  · rw [if_pos h, h]
  · rw [if_neg h]
theorem ow_jib (L : Nat) (xs : Nat → Int32) : Ow_jib (Inv (TX TT) L xs) := by
  intro n μ z a hI
  obtain ⟨t, ht, ht9, hgo, hTc, hn1, h4, h2, hc7, hf25⟩ := Inv_q hI
  have hgo' := hgo
  obtain ⟨hr, hm, hb, hn, -⟩ := hgo'
  have hB := Inv_Both hI
  have p17 : μ 538 17 = μ 403 10 := hB.1.2.2.2.2.1.2.2.1
  by_cases c0 : a = 0
  · subst c0
    refine Agr_ro hI (μ 403 0) ?_ ?_
    · show mX0_jib 400 0 (E μ z) = _
      unfold mX0_jib
      refine bind_step (gR_400_0 554 (by omega) _ _) ?_
      refine bind_step (gR_401_1 554 (by omega) _ _) ?_
      refine (if_pos rfl).trans ?_
      refine bind_step (ia_E (n := 0) isI_403 rfl (by omega)) ?_
      rfl
    · show mX2_jib 537 0 (E μ z) = _
      unfold mX2_jib
      refine (if_pos rfl).trans ?_
      refine bind_step (gR_537_0 554 (by omega) _ _) ?_
      refine bind_step (ia_E (n := 8) isI_538 rfl (by omega)) ?_
      rw [show μ 538 8 = μ 403 0 from hm 0 (by omega)]
  by_cases c1 : a = 1
  · subst c1
    refine Agr_ro hI (μ 403 1) ?_ ?_
    · show mX0_jib 400 1 (E μ z) = _
      unfold mX0_jib
      refine bind_step (gR_400_0 554 (by omega) _ _) ?_
      refine bind_step (gR_401_1 554 (by omega) _ _) ?_
      refine (if_neg (show ¬ (1 : Int32) = 0 by decide)).trans ?_
      refine (if_pos rfl).trans ?_
      refine bind_step (ia_E (n := 1) isI_403 rfl (by omega)) ?_
      rfl
    · show mX2_jib 537 1 (E μ z) = _
      unfold mX2_jib
      refine (if_neg (show ¬ (1 : Int32) = 0 by decide)).trans ?_
      refine (if_pos rfl).trans ?_
      refine bind_step (gR_537_0 554 (by omega) _ _) ?_
      refine bind_step (ia_E (n := 9) isI_538 rfl (by omega)) ?_
      rw [show μ 538 9 = μ 403 1 from hm 1 (by omega)]
  by_cases c2 : a = 2
  · subst c2
    refine Agr_ro hI (μ 403 2) ?_ ?_
    · show mX0_jib 400 2 (E μ z) = _
      unfold mX0_jib
      refine bind_step (gR_400_0 554 (by omega) _ _) ?_
      refine bind_step (gR_401_1 554 (by omega) _ _) ?_
      refine (if_neg (show ¬ (2 : Int32) = 0 by decide)).trans ?_
      refine (if_neg (show ¬ (2 : Int32) = 1 by decide)).trans ?_
      refine (if_pos rfl).trans ?_
      refine bind_step (ia_E (n := 2) isI_403 rfl (by omega)) ?_
      rfl
    · show mX2_jib 537 2 (E μ z) = _
      unfold mX2_jib
      refine (if_neg (show ¬ (2 : Int32) = 0 by decide)).trans ?_
      refine (if_neg (show ¬ (2 : Int32) = 1 by decide)).trans ?_
      refine (if_pos rfl).trans ?_
      refine bind_step (gR_537_0 554 (by omega) _ _) ?_
      refine bind_step (ia_E (n := 10) isI_538 rfl (by omega)) ?_
      rw [show μ 538 10 = μ 403 2 from hm 2 (by omega)]
  by_cases c3 : a = 3
  · subst c3
    refine Agr_ro hI (μ 403 3) ?_ ?_
    · show mX0_jib 400 3 (E μ z) = _
      unfold mX0_jib
      refine bind_step (gR_400_0 554 (by omega) _ _) ?_
      refine bind_step (gR_401_1 554 (by omega) _ _) ?_
      refine (if_neg (show ¬ (3 : Int32) = 0 by decide)).trans ?_
      refine (if_neg (show ¬ (3 : Int32) = 1 by decide)).trans ?_
      refine (if_neg (show ¬ (3 : Int32) = 2 by decide)).trans ?_
      refine (if_pos rfl).trans ?_
      refine bind_step (ia_E (n := 3) isI_403 rfl (by omega)) ?_
      rfl
    · show mX2_jib 537 3 (E μ z) = _
      unfold mX2_jib
      refine (if_neg (show ¬ (3 : Int32) = 0 by decide)).trans ?_
      refine (if_neg (show ¬ (3 : Int32) = 1 by decide)).trans ?_
      refine (if_neg (show ¬ (3 : Int32) = 2 by decide)).trans ?_
      refine (if_pos rfl).trans ?_
      refine bind_step (gR_537_0 554 (by omega) _ _) ?_
      refine bind_step (ia_E (n := 11) isI_538 rfl (by omega)) ?_
      rw [show μ 538 11 = μ 403 3 from hm 3 (by omega)]
  by_cases c4 : a = 4
  · subst c4
    refine Agr_ro hI (μ 403 0 - μ 403 2) ?_ ?_
    · show mX0_jib 400 4 (E μ z) = _
      unfold mX0_jib
      refine bind_step (gR_400_0 554 (by omega) _ _) ?_
      refine bind_step (gR_401_1 554 (by omega) _ _) ?_
      refine (if_neg (show ¬ (4 : Int32) = 0 by decide)).trans ?_
      refine (if_neg (show ¬ (4 : Int32) = 1 by decide)).trans ?_
      refine (if_neg (show ¬ (4 : Int32) = 2 by decide)).trans ?_
      refine (if_neg (show ¬ (4 : Int32) = 3 by decide)).trans ?_
      refine (if_pos rfl).trans ?_
      refine bind_step (ia_E (n := 0) isI_403 rfl (by omega)) ?_
      refine bind_step (ia_E (n := 2) isI_403 rfl (by omega)) ?_
      rfl
    · show mX2_jib 537 4 (E μ z) = _
      unfold mX2_jib
      refine (if_neg (show ¬ (4 : Int32) = 0 by decide)).trans ?_
      refine (if_neg (show ¬ (4 : Int32) = 1 by decide)).trans ?_
      refine (if_neg (show ¬ (4 : Int32) = 2 by decide)).trans ?_
      refine (if_neg (show ¬ (4 : Int32) = 3 by decide)).trans ?_
      refine (if_pos rfl).trans ?_
      refine bind_step (recv_537 554 (by omega) _ _) ?_
      rw [WM_0]
      refine bind_step (cal_w away_E) ?_
      show some (μ 538 8 - μ 538 10, _) = _
      rw [show μ 538 8 = μ 403 0 from hm 0 (by omega), show μ 538 10 = μ 403 2 from hm 2 (by omega)]
  by_cases c5 : a = 5
  · subst c5
    refine Agr_ro hI (μ 403 4) ?_ ?_
    · show mX0_jib 400 5 (E μ z) = _
      unfold mX0_jib
      refine bind_step (gR_400_0 554 (by omega) _ _) ?_
      refine bind_step (gR_401_1 554 (by omega) _ _) ?_
      refine (if_neg (show ¬ (5 : Int32) = 0 by decide)).trans ?_
      refine (if_neg (show ¬ (5 : Int32) = 1 by decide)).trans ?_
      refine (if_neg (show ¬ (5 : Int32) = 2 by decide)).trans ?_
      refine (if_neg (show ¬ (5 : Int32) = 3 by decide)).trans ?_
      refine (if_neg (show ¬ (5 : Int32) = 4 by decide)).trans ?_
      refine (if_pos rfl).trans ?_
      refine bind_step (ia_E (n := 4) isI_403 rfl (by omega)) ?_
      rfl
    · show mX2_jib 537 5 (E μ z) = _
      unfold mX2_jib
      refine (if_neg (show ¬ (5 : Int32) = 0 by decide)).trans ?_
      refine (if_neg (show ¬ (5 : Int32) = 1 by decide)).trans ?_
      refine (if_neg (show ¬ (5 : Int32) = 2 by decide)).trans ?_
      refine (if_neg (show ¬ (5 : Int32) = 3 by decide)).trans ?_
      refine (if_neg (show ¬ (5 : Int32) = 4 by decide)).trans ?_
      refine (if_pos rfl).trans ?_
      refine bind_step (gR_537_0 554 (by omega) _ _) ?_
      refine bind_step (ia_E (n := 12) isI_538 rfl (by omega)) ?_
      rw [show μ 538 12 = μ 403 4 from hm 4 (by omega)]
  by_cases c6 : a = 6
  · subst c6
    refine Agr_ro hI (μ 403 5) ?_ ?_
    · show mX0_jib 400 6 (E μ z) = _
      unfold mX0_jib
      refine bind_step (gR_400_0 554 (by omega) _ _) ?_
      refine bind_step (gR_401_1 554 (by omega) _ _) ?_
      refine (if_neg (show ¬ (6 : Int32) = 0 by decide)).trans ?_
      refine (if_neg (show ¬ (6 : Int32) = 1 by decide)).trans ?_
      refine (if_neg (show ¬ (6 : Int32) = 2 by decide)).trans ?_
      refine (if_neg (show ¬ (6 : Int32) = 3 by decide)).trans ?_
      refine (if_neg (show ¬ (6 : Int32) = 4 by decide)).trans ?_
      refine (if_neg (show ¬ (6 : Int32) = 5 by decide)).trans ?_
      refine (if_pos rfl).trans ?_
      refine bind_step (ia_E (n := 5) isI_403 rfl (by omega)) ?_
      rfl
    · show mX2_jib 537 6 (E μ z) = _
      unfold mX2_jib
      refine (if_neg (show ¬ (6 : Int32) = 0 by decide)).trans ?_
      refine (if_neg (show ¬ (6 : Int32) = 1 by decide)).trans ?_
      refine (if_neg (show ¬ (6 : Int32) = 2 by decide)).trans ?_
      refine (if_neg (show ¬ (6 : Int32) = 3 by decide)).trans ?_
      refine (if_neg (show ¬ (6 : Int32) = 4 by decide)).trans ?_
      refine (if_neg (show ¬ (6 : Int32) = 5 by decide)).trans ?_
      refine (if_pos rfl).trans ?_
      refine bind_step (gR_537_0 554 (by omega) _ _) ?_
      refine bind_step (ia_E (n := 13) isI_538 rfl (by omega)) ?_
      rw [show μ 538 13 = μ 403 5 from hm 5 (by omega)]
  by_cases c7 : a = 7
  · subst c7
    refine Agr_ro hI (μ 403 6) ?_ ?_
    · show mX0_jib 400 7 (E μ z) = _
      unfold mX0_jib
      refine bind_step (gR_400_0 554 (by omega) _ _) ?_
      refine bind_step (gR_401_1 554 (by omega) _ _) ?_
      refine (if_neg (show ¬ (7 : Int32) = 0 by decide)).trans ?_
      refine (if_neg (show ¬ (7 : Int32) = 1 by decide)).trans ?_
      refine (if_neg (show ¬ (7 : Int32) = 2 by decide)).trans ?_
      refine (if_neg (show ¬ (7 : Int32) = 3 by decide)).trans ?_
      refine (if_neg (show ¬ (7 : Int32) = 4 by decide)).trans ?_
      refine (if_neg (show ¬ (7 : Int32) = 5 by decide)).trans ?_
      refine (if_neg (show ¬ (7 : Int32) = 6 by decide)).trans ?_
      refine (if_pos rfl).trans ?_
      refine bind_step (ia_E (n := 6) isI_403 rfl (by omega)) ?_
      rfl
    · show mX2_jib 537 7 (E μ z) = _
      unfold mX2_jib
      refine (if_neg (show ¬ (7 : Int32) = 0 by decide)).trans ?_
      refine (if_neg (show ¬ (7 : Int32) = 1 by decide)).trans ?_
      refine (if_neg (show ¬ (7 : Int32) = 2 by decide)).trans ?_
      refine (if_neg (show ¬ (7 : Int32) = 3 by decide)).trans ?_
      refine (if_neg (show ¬ (7 : Int32) = 4 by decide)).trans ?_
      refine (if_neg (show ¬ (7 : Int32) = 5 by decide)).trans ?_
      refine (if_neg (show ¬ (7 : Int32) = 6 by decide)).trans ?_
      refine (if_pos rfl).trans ?_
      refine bind_step (gR_537_0 554 (by omega) _ _) ?_
      refine bind_step (ia_E (n := 14) isI_538 rfl (by omega)) ?_
      rw [show μ 538 14 = μ 403 6 from hm 6 (by omega)]
  by_cases c8 : a = 8
  · subst c8
    refine Agr_ro hI (μ 403 7) ?_ ?_
    · show mX0_jib 400 8 (E μ z) = _
      unfold mX0_jib
      refine bind_step (gR_400_0 554 (by omega) _ _) ?_
      refine bind_step (gR_401_1 554 (by omega) _ _) ?_
      refine (if_neg (show ¬ (8 : Int32) = 0 by decide)).trans ?_
      refine (if_neg (show ¬ (8 : Int32) = 1 by decide)).trans ?_
      refine (if_neg (show ¬ (8 : Int32) = 2 by decide)).trans ?_
      refine (if_neg (show ¬ (8 : Int32) = 3 by decide)).trans ?_
      refine (if_neg (show ¬ (8 : Int32) = 4 by decide)).trans ?_
      refine (if_neg (show ¬ (8 : Int32) = 5 by decide)).trans ?_
      refine (if_neg (show ¬ (8 : Int32) = 6 by decide)).trans ?_
      refine (if_neg (show ¬ (8 : Int32) = 7 by decide)).trans ?_
      refine (if_pos rfl).trans ?_
      refine bind_step (ia_E (n := 7) isI_403 rfl (by omega)) ?_
      rfl
    · show mX2_jib 537 8 (E μ z) = _
      unfold mX2_jib
      refine (if_neg (show ¬ (8 : Int32) = 0 by decide)).trans ?_
      refine (if_neg (show ¬ (8 : Int32) = 1 by decide)).trans ?_
      refine (if_neg (show ¬ (8 : Int32) = 2 by decide)).trans ?_
      refine (if_neg (show ¬ (8 : Int32) = 3 by decide)).trans ?_
      refine (if_neg (show ¬ (8 : Int32) = 4 by decide)).trans ?_
      refine (if_neg (show ¬ (8 : Int32) = 5 by decide)).trans ?_
      refine (if_neg (show ¬ (8 : Int32) = 6 by decide)).trans ?_
      refine (if_neg (show ¬ (8 : Int32) = 7 by decide)).trans ?_
      refine (if_pos rfl).trans ?_
      refine bind_step (gR_537_0 554 (by omega) _ _) ?_
      refine bind_step (ia_E (n := 15) isI_538 rfl (by omega)) ?_
      rw [show μ 538 15 = μ 403 7 from hm 7 (by omega)]
  by_cases c9 : a = 9
  · subst c9
    refine Agr_ro hI (μ 403 8) ?_ ?_
    · show mX0_jib 400 9 (E μ z) = _
      unfold mX0_jib
      refine bind_step (gR_400_0 554 (by omega) _ _) ?_
      refine bind_step (gR_401_1 554 (by omega) _ _) ?_
      refine (if_neg (show ¬ (9 : Int32) = 0 by decide)).trans ?_
      refine (if_neg (show ¬ (9 : Int32) = 1 by decide)).trans ?_
      refine (if_neg (show ¬ (9 : Int32) = 2 by decide)).trans ?_
      refine (if_neg (show ¬ (9 : Int32) = 3 by decide)).trans ?_
      refine (if_neg (show ¬ (9 : Int32) = 4 by decide)).trans ?_
      refine (if_neg (show ¬ (9 : Int32) = 5 by decide)).trans ?_
      refine (if_neg (show ¬ (9 : Int32) = 6 by decide)).trans ?_
      refine (if_neg (show ¬ (9 : Int32) = 7 by decide)).trans ?_
      refine (if_neg (show ¬ (9 : Int32) = 8 by decide)).trans ?_
      refine (if_pos rfl).trans ?_
      refine bind_step (ia_E (n := 8) isI_403 rfl (by omega)) ?_
      rfl
    · show mX2_jib 537 9 (E μ z) = _
      unfold mX2_jib
      refine (if_neg (show ¬ (9 : Int32) = 0 by decide)).trans ?_
      refine (if_neg (show ¬ (9 : Int32) = 1 by decide)).trans ?_
      refine (if_neg (show ¬ (9 : Int32) = 2 by decide)).trans ?_
      refine (if_neg (show ¬ (9 : Int32) = 3 by decide)).trans ?_
      refine (if_neg (show ¬ (9 : Int32) = 4 by decide)).trans ?_
      refine (if_neg (show ¬ (9 : Int32) = 5 by decide)).trans ?_
      refine (if_neg (show ¬ (9 : Int32) = 6 by decide)).trans ?_
      refine (if_neg (show ¬ (9 : Int32) = 7 by decide)).trans ?_
      refine (if_neg (show ¬ (9 : Int32) = 8 by decide)).trans ?_
      refine (if_pos rfl).trans ?_
      refine bind_step (gR_537_0 554 (by omega) _ _) ?_
      refine bind_step (ia_E (n := 16) isI_538 rfl (by omega)) ?_
      rw [show μ 538 16 = μ 403 8 from hm 8 (by omega)]
  by_cases c10 : a = 10
  · subst c10
    refine Agr_ro hI (if hsF (μ 402 1) (μ 403) = 0 then 0 else 1) ?_ ?_
    · show mX0_jib 400 10 (E μ z) = _
      unfold mX0_jib
      refine bind_step (gR_400_0 554 (by omega) _ _) ?_
      refine bind_step (gR_401_1 554 (by omega) _ _) ?_
      refine (if_neg (show ¬ (10 : Int32) = 0 by decide)).trans ?_
      refine (if_neg (show ¬ (10 : Int32) = 1 by decide)).trans ?_
      refine (if_neg (show ¬ (10 : Int32) = 2 by decide)).trans ?_
      refine (if_neg (show ¬ (10 : Int32) = 3 by decide)).trans ?_
      refine (if_neg (show ¬ (10 : Int32) = 4 by decide)).trans ?_
      refine (if_neg (show ¬ (10 : Int32) = 5 by decide)).trans ?_
      refine (if_neg (show ¬ (10 : Int32) = 6 by decide)).trans ?_
      refine (if_neg (show ¬ (10 : Int32) = 7 by decide)).trans ?_
      refine (if_neg (show ¬ (10 : Int32) = 8 by decide)).trans ?_
      refine (if_neg (show ¬ (10 : Int32) = 9 by decide)).trans ?_
      refine (if_pos rfl).trans ?_
      refine bind_step (recv_400 554 (by omega) _ _) ?_
      rw [WC_00 μ z 403]
      refine bind_step (cal_w (hangsStill_E okl_403)) ?_
      by_cases hq : hsF (μ 402 1) (μ 403) = 0
      · refine (if_pos hq).trans ?_
        rw [if_pos hq]
      · refine (if_neg hq).trans ?_
        rw [if_neg hq]
    · show mX2_jib 537 10 (E μ z) = _
      unfold mX2_jib
      refine (if_neg (show ¬ (10 : Int32) = 0 by decide)).trans ?_
      refine (if_neg (show ¬ (10 : Int32) = 1 by decide)).trans ?_
      refine (if_neg (show ¬ (10 : Int32) = 2 by decide)).trans ?_
      refine (if_neg (show ¬ (10 : Int32) = 3 by decide)).trans ?_
      refine (if_neg (show ¬ (10 : Int32) = 4 by decide)).trans ?_
      refine (if_neg (show ¬ (10 : Int32) = 5 by decide)).trans ?_
      refine (if_neg (show ¬ (10 : Int32) = 6 by decide)).trans ?_
      refine (if_neg (show ¬ (10 : Int32) = 7 by decide)).trans ?_
      refine (if_neg (show ¬ (10 : Int32) = 8 by decide)).trans ?_
      refine (if_neg (show ¬ (10 : Int32) = 9 by decide)).trans ?_
      refine (if_pos rfl).trans ?_
      refine bind_step (recv_537 554 (by omega) _ _) ?_
      rw [WM_0]
      refine bind_step (cal_w hsM_E) ?_
      rw [hn1, hsF_congr (X := μ 403) (Y := fun j => μ 538 (8 + j)) (fun j hj => hm j hj)]
      by_cases hq : hsF (μ 402 1) (μ 403) = 0
      · refine (if_pos hq).trans ?_
        rw [if_pos hq]
      · refine (if_neg hq).trans ?_
        rw [if_neg hq]
  by_cases c11 : a = 11
  · subst c11
    refine Agr_ro hI (μ 403 10) ?_ ?_
    · show mX0_jib 400 11 (E μ z) = _
      unfold mX0_jib
      refine bind_step (gR_400_0 554 (by omega) _ _) ?_
      refine bind_step (gR_401_1 554 (by omega) _ _) ?_
      refine (if_neg (show ¬ (11 : Int32) = 0 by decide)).trans ?_
      refine (if_neg (show ¬ (11 : Int32) = 1 by decide)).trans ?_
      refine (if_neg (show ¬ (11 : Int32) = 2 by decide)).trans ?_
      refine (if_neg (show ¬ (11 : Int32) = 3 by decide)).trans ?_
      refine (if_neg (show ¬ (11 : Int32) = 4 by decide)).trans ?_
      refine (if_neg (show ¬ (11 : Int32) = 5 by decide)).trans ?_
      refine (if_neg (show ¬ (11 : Int32) = 6 by decide)).trans ?_
      refine (if_neg (show ¬ (11 : Int32) = 7 by decide)).trans ?_
      refine (if_neg (show ¬ (11 : Int32) = 8 by decide)).trans ?_
      refine (if_neg (show ¬ (11 : Int32) = 9 by decide)).trans ?_
      refine (if_neg (show ¬ (11 : Int32) = 10 by decide)).trans ?_
      refine (if_pos rfl).trans ?_
      refine bind_step (ia_E (n := 10) isI_403 rfl (by omega)) ?_
      rfl
    · show mX2_jib 537 11 (E μ z) = _
      unfold mX2_jib
      refine (if_neg (show ¬ (11 : Int32) = 0 by decide)).trans ?_
      refine (if_neg (show ¬ (11 : Int32) = 1 by decide)).trans ?_
      refine (if_neg (show ¬ (11 : Int32) = 2 by decide)).trans ?_
      refine (if_neg (show ¬ (11 : Int32) = 3 by decide)).trans ?_
      refine (if_neg (show ¬ (11 : Int32) = 4 by decide)).trans ?_
      refine (if_neg (show ¬ (11 : Int32) = 5 by decide)).trans ?_
      refine (if_neg (show ¬ (11 : Int32) = 6 by decide)).trans ?_
      refine (if_neg (show ¬ (11 : Int32) = 7 by decide)).trans ?_
      refine (if_neg (show ¬ (11 : Int32) = 8 by decide)).trans ?_
      refine (if_neg (show ¬ (11 : Int32) = 9 by decide)).trans ?_
      refine (if_neg (show ¬ (11 : Int32) = 10 by decide)).trans ?_
      refine (if_pos rfl).trans ?_
      refine bind_step (gR_537_0 554 (by omega) _ _) ?_
      refine bind_step (ia_E (n := 17) isI_538 rfl (by omega)) ?_
      rw [show μ 538 17 = μ 403 10 from p17]
  by_cases c12 : a = 12
  · subst c12
    obtain ⟨y, y1, y2⟩ := rules_E hTc.2.1 hTc.2.2
    have f1 : mX0_jib 400 12 (E μ z) = some (handF (μ 540) (μ 402 3) (μ 403), E (fC μ 403 (μ 400) (nmA t (μ 403) (μ 518)) (μ 403)) z) := by
      unfold mX0_jib
      refine bind_step (gR_400_0 554 (by omega) _ _) ?_
      refine bind_step (gR_401_1 554 (by omega) _ _) ?_
      refine (if_neg (show ¬ (12 : Int32) = 0 by decide)).trans ?_
      refine (if_neg (show ¬ (12 : Int32) = 1 by decide)).trans ?_
      refine (if_neg (show ¬ (12 : Int32) = 2 by decide)).trans ?_
      refine (if_neg (show ¬ (12 : Int32) = 3 by decide)).trans ?_
      refine (if_neg (show ¬ (12 : Int32) = 4 by decide)).trans ?_
      refine (if_neg (show ¬ (12 : Int32) = 5 by decide)).trans ?_
      refine (if_neg (show ¬ (12 : Int32) = 6 by decide)).trans ?_
      refine (if_neg (show ¬ (12 : Int32) = 7 by decide)).trans ?_
      refine (if_neg (show ¬ (12 : Int32) = 8 by decide)).trans ?_
      refine (if_neg (show ¬ (12 : Int32) = 9 by decide)).trans ?_
      refine (if_neg (show ¬ (12 : Int32) = 10 by decide)).trans ?_
      refine (if_neg (show ¬ (12 : Int32) = 11 by decide)).trans ?_
      refine (if_pos rfl).trans ?_
      refine bind_step (recv_400 554 (by omega) _ _) ?_
      refine bind_step (cal_w y2) ?_
      refine bind_step (recv_400 554 (by omega) _ _) ?_
      rw [WC_00 μ z 403]
      refine bind_step (cal_E (handOf_E okl_403 hTc y1 hr ht (by omega) hb)) ?_
      rfl
    have hq : CQ μ (fC μ 403 (μ 400) (nmA t (μ 403) (μ 518)) (μ 403)) := CQ_403
    generalize fC μ 403 (μ 400) (nmA t (μ 403) (μ 518)) (μ 403) = μ1 at *
    have hT1 : TX TT μ1 z := (Tc_CFr (CQ_CFr (z := z) hq) (by have := hI.2.2.2.1.2.1; exact this) hTc).2.1
    have e540 : μ1 540 = μ 540 := hq.1 540 (by omega)
    have e402 : μ1 402 = μ 402 := hq.1 402 (by omega)
    have e538 : μ1 538 = μ 538 := hq.1 538 (by omega)
    obtain ⟨T', V', e2⟩ := hand_rel (μ := μ1) (z := z) (F := μ1 537) (A := μ1 538) (N := μ1 543) (T := μ1 545) (V := z.1 544) (X := μ 403) (t := t) (a := μ 402 3) hT1 (by rw [e402]; exact hTc.2.2) hr (by rw [e538]; exact hm) ht (by omega) hb (by rw [e538]; exact hn)
    refine Agr_q hI ht _ f1 hq (μ2 := fM μ1 (fNow (μ1 537) (μ1 538)) (μ1 538) (nmM (μ1 538) (μ1 543)) T') (z2 := zM z V') ?_ (MFr_M (fun j hj => fNow_o (by omega) (by omega))) ?_
    · show mX2_jib 537 12 (E μ1 z) = _
      rw [WM_0]
      unfold mX2_jib
      refine (if_neg (show ¬ (12 : Int32) = 0 by decide)).trans ?_
      refine (if_neg (show ¬ (12 : Int32) = 1 by decide)).trans ?_
      refine (if_neg (show ¬ (12 : Int32) = 2 by decide)).trans ?_
      refine (if_neg (show ¬ (12 : Int32) = 3 by decide)).trans ?_
      refine (if_neg (show ¬ (12 : Int32) = 4 by decide)).trans ?_
      refine (if_neg (show ¬ (12 : Int32) = 5 by decide)).trans ?_
      refine (if_neg (show ¬ (12 : Int32) = 6 by decide)).trans ?_
      refine (if_neg (show ¬ (12 : Int32) = 7 by decide)).trans ?_
      refine (if_neg (show ¬ (12 : Int32) = 8 by decide)).trans ?_
      refine (if_neg (show ¬ (12 : Int32) = 9 by decide)).trans ?_
      refine (if_neg (show ¬ (12 : Int32) = 10 by decide)).trans ?_
      refine (if_neg (show ¬ (12 : Int32) = 11 by decide)).trans ?_
      refine (if_pos rfl).trans ?_
      refine bind_step (gR_537_0 554 (by omega) _ _) ?_
      refine bind_step (iaA (n := 4) rfl (by omega)) ?_
      rw [show μ1 538 4 = μ 402 3 by rw [e538]; exact h4]
      refine bind_step (recv_537 554 (by omega) _ _) ?_
      refine bind_step (calM e2) ?_
      rw [e540]
    · rw [show fM μ1 (fNow (μ1 537) (μ1 538)) (μ1 538) (nmM (μ1 538) (μ1 543)) T' 538 = μ1 538 from rfl, e538]
      exact RgOk.refl _ _
  refine Agr_ro hI (-100000) ?_ ?_
  · show mX0_jib 400 a (E μ z) = _
    unfold mX0_jib
    refine bind_step (gR_400_0 554 (by omega) _ _) ?_
    refine bind_step (gR_401_1 554 (by omega) _ _) ?_
    refine (if_neg c0).trans ?_
    refine (if_neg c1).trans ?_
    refine (if_neg c2).trans ?_
    refine (if_neg c3).trans ?_
    refine (if_neg c4).trans ?_
    refine (if_neg c5).trans ?_
    refine (if_neg c6).trans ?_
    refine (if_neg c7).trans ?_
    refine (if_neg c8).trans ?_
    refine (if_neg c9).trans ?_
    refine (if_neg c10).trans ?_
    refine (if_neg c11).trans ?_
    refine (if_neg c12).trans ?_
    rfl
  · show mX2_jib 537 a (E μ z) = _
    unfold mX2_jib
    refine (if_neg c0).trans ?_
    refine (if_neg c1).trans ?_
    refine (if_neg c2).trans ?_
    refine (if_neg c3).trans ?_
    refine (if_neg c4).trans ?_
    refine (if_neg c5).trans ?_
    refine (if_neg c6).trans ?_
    refine (if_neg c7).trans ?_
    refine (if_neg c8).trans ?_
    refine (if_neg c9).trans ?_
    refine (if_neg c10).trans ?_
    refine (if_neg c11).trans ?_
    refine (if_neg c12).trans ?_
    rfl
/-- hour: how many pages are younger than a -/
def hrC (X : Nat → Int32) (a : Int32) : Nat → Int32
  | 0 => 0
  | k + 1 => if X (14 + 2 * k) ≤ X 8 - a then hrC X a k + 0 else hrC X a k + 1
theorem hour0_loop {μ : Mu} {z : Zt} {a : Int32} {n : Nat} (hn : (μ 403 12).toInt = (n : Int)) (h8 : n ≤ 8) : ∀ (d k fu : Nat) (l3 : Int32), n = k + d → l3.toInt = (k : Int) → d < fu →
    mX0_hour_l17 fu (E μ z) (some 400) a (hrC (μ 403) a k) l3 = some (hrC (μ 403) a n, E μ z) := by
  intro d
  induction d with
  | zero =>
    intro k fu l3 hd h3 hf
    obtain ⟨g, rfl⟩ : ∃ g, fu = g + 1 := ⟨fu - 1, by omega⟩
    have hkn : k = n := by omega
    subst hkn
    show mX0_hour_b17 _ _ _ _ _ _ = _
    unfold mX0_hour_b17
    refine bind_step (gR_400_0 554 (by omega) _ _) ?_
    refine bind_step (gR_401_1 554 (by omega) _ _) ?_
    refine bind_step (ia_E (n := 12) isI_403 rfl (by omega)) ?_
    exact if_pos (by rw [Int32.le_iff_toInt_le, hn, h3]; omega)
  | succ d ih =>
    intro k fu l3 hd h3 hf
    obtain ⟨g, rfl⟩ : ∃ g, fu = g + 1 := ⟨fu - 1, by omega⟩
    have hnx := ih (k + 1) g (l3 + 1) (by omega) (inc_I h3 (by omega)) (by omega)
    show mX0_hour_b17 _ _ _ _ _ _ = _
    unfold mX0_hour_b17
    refine bind_step (gR_400_0 554 (by omega) _ _) ?_
    refine bind_step (gR_401_1 554 (by omega) _ _) ?_
    refine bind_step (ia_E (n := 12) isI_403 rfl (by omega)) ?_
    refine (if_neg (by rw [Int32.le_iff_toInt_le, hn, h3]; omega)).trans ?_
    refine bind_step (gR_400_0 554 (by omega) _ _) ?_
    refine bind_step (gR_401_1 554 (by omega) _ _) ?_
    have hi : (13 + 2 * l3 + 1).toInt = ((14 + 2 * k : Nat) : Int) := by
      rw [addN (addN (x := 13) rfl (mulN (x := 2) rfl h3 (by omega)) (by omega)) (y := 1) rfl (by omega)]
      omega
    refine bind_step (ia_E (n := 14 + 2 * k) isI_403 hi (by omega)) ?_
    refine bind_step (gR_400_0 554 (by omega) _ _) ?_
    refine bind_step (gR_401_1 554 (by omega) _ _) ?_
    refine bind_step (ia_E (n := 8) isI_403 rfl (by omega)) ?_
    by_cases hc : μ 403 (14 + 2 * k) ≤ μ 403 8 - a
    · refine (if_pos hc).trans ?_
      rw [show hrC (μ 403) a (k + 1) = hrC (μ 403) a k + 0 from if_pos hc] at hnx
      exact hnx
    · refine (if_neg hc).trans ?_
      rw [show hrC (μ 403) a (k + 1) = hrC (μ 403) a k + 1 from if_neg hc] at hnx
      exact hnx
theorem hour2_loop {μ : Mu} {z : Zt} {a : Int32} {n : Nat} (hn : (μ 538 7).toInt = (n : Int)) (h8 : n ≤ 8) (h16 : μ 538 16 = μ 403 8) (hp : ∀ k, k < n → μ 538 (474 + 2 * k + 1) = μ 403 (13 + 2 * k + 1)) : ∀ (d k fu : Nat) (l3 : Int32), n = k + d → l3.toInt = (k : Int) → d < fu →
    mX2_hour_l17 fu (E μ z) (some 537) a (hrC (μ 403) a k) l3 = some (hrC (μ 403) a n, E μ z) := by
  intro d
  induction d with
  | zero =>
    intro k fu l3 hd h3 hf
    obtain ⟨g, rfl⟩ : ∃ g, fu = g + 1 := ⟨fu - 1, by omega⟩
    have hkn : k = n := by omega
    subst hkn
    show mX2_hour_b17 _ _ _ _ _ _ = _
    unfold mX2_hour_b17
    refine bind_step (recv_537 554 (by omega) _ _) ?_
    refine bind_step (cal_w (shown_E (by omega))) ?_
    exact if_pos (by rw [Int32.le_iff_toInt_le, hn, h3]; omega)
  | succ d ih =>
    intro k fu l3 hd h3 hf
    obtain ⟨g, rfl⟩ : ∃ g, fu = g + 1 := ⟨fu - 1, by omega⟩
    have hnx := ih (k + 1) g (l3 + 1) (by omega) (inc_I h3 (by omega)) (by omega)
    show mX2_hour_b17 _ _ _ _ _ _ = _
    unfold mX2_hour_b17
    refine bind_step (recv_537 554 (by omega) _ _) ?_
    refine bind_step (cal_w (shown_E (by omega))) ?_
    refine (if_neg (by rw [Int32.le_iff_toInt_le, hn, h3]; omega)).trans ?_
    refine bind_step (recv_537 554 (by omega) _ _) ?_
    refine bind_step (cal_w (downOf_E (ni := k) (nj := 1) (by omega) h3 rfl (by omega) (by omega))) ?_
    refine bind_step (gR_537_0 554 (by omega) _ _) ?_
    refine bind_step (ia_E (n := 16) isI_538 rfl (by omega)) ?_
    rw [hp k (by omega), show 13 + 2 * k + 1 = 14 + 2 * k by omega, h16]
    by_cases hc : μ 403 (14 + 2 * k) ≤ μ 403 8 - a
    · refine (if_pos hc).trans ?_
      rw [show hrC (μ 403) a (k + 1) = hrC (μ 403) a k + 0 from if_pos hc] at hnx
      exact hnx
    · refine (if_neg hc).trans ?_
      rw [show hrC (μ 403) a (k + 1) = hrC (μ 403) a k + 1 from if_neg hc] at hnx
      exact hnx
theorem ow_hour {TX : Mu → Zt → Prop} (L : Nat) (xs : Nat → Int32) : Ow_hour (Inv TX L xs) := by
  intro n μ z a hI
  obtain ⟨-, -, -, -, ⟨pj, -, -, p7, pb, -, -⟩, ⟨rb, -⟩, -⟩ := hI.1
  have hb : bd (μ 403 12) 0 8 := rb.2.2.2.2.2.2.2.2.2.2.2.2
  have p7' : μ 538 7 = μ 403 12 := p7
  have p16 : μ 538 16 = μ 403 8 := pj 8 (by omega)
  obtain ⟨m, hm⟩ : ∃ m : Nat, (μ 403 12).toInt = (m : Int) := ⟨(μ 403 12).toInt.toNat, by have := hb.1; omega⟩
  have hm8 : m ≤ 8 := by have := hb.2; omega
  rcases inB_01 a 1 9999 with h | h
  · refine Agr_ro hI (-1) ?_ ?_
    · show mX0_hour 400 a (E μ z) = _
      unfold mX0_hour
      refine bind_step (cal_w (in_E _ _ _ _)) ?_
      exact if_neg (fun q => q h)
    · show mX2_hour 537 a (E μ z) = _
      unfold mX2_hour
      refine bind_step (cal_w (isIn_E _ _ _ _)) ?_
      exact if_neg (fun q => q h)
  · have hq : ¬ inB a 1 9999 = 0 := by rw [h]; exact one_ne
    refine Agr_ro hI (hrC (μ 403) a m) ?_ ?_
    · show mX0_hour 400 a (E μ z) = _
      unfold mX0_hour
      refine bind_step (cal_w (in_E _ _ _ _)) ?_
      refine (if_pos hq).trans ?_
      exact hour0_loop hm hm8 m 0 FU 0 (by omega) rfl (by unfold FU; omega)
    · show mX2_hour 537 a (E μ z) = _
      unfold mX2_hour
      refine bind_step (cal_w (isIn_E _ _ _ _)) ?_
      refine (if_pos hq).trans ?_
      exact hour2_loop (by rw [p7']; exact hm) hm8 p16 (fun k hk => pb k (by show (k : Int) < (μ 403 12).toInt; omega) 1 (by omega)) m 0 FU 0 (by omega) rfl (by unfold FU; omega)
theorem ow_ago (L : Nat) (xs : Nat → Int32) : Ow_ago (Inv (TX TT) L xs) := by
  intro n μ z a b hI
  obtain ⟨t, ht, ht9, -⟩ := Inv_q hI
  obtain ⟨-, -, -, -, ⟨pj, -⟩, ⟨rb, hr, -⟩, -⟩ := hI.1
  have p16 : μ 538 16 = μ 403 8 := pj 8 (by omega)
  have rb8 : bd (μ 403 8) 0 9999 := rb.2.2.2.2.2.2.2.2.1
  have hh := held_eq rb8
  have b8 : (μ 403 8).toInt = (t : Int) := ht
  have go : ∀ q r : Int32, (inB a 1 (if 60 ≤ μ 403 8 then 60 else μ 403 8) = 0 ∨ inB b 0 5 = 0) → Agr Int32 (Inv (TX TT) L xs) n μ z (fun w => mX0_ago 400 a b w) (fun w => mX2_ago 537 a b w) := by
    intro _ _ hno
    refine Agr_ro hI (-100000) ?_ ?_
    · show mX0_ago 400 a b (E μ z) = _
      unfold mX0_ago
      refine bind_step (gR_400_0 554 (by omega) _ _) ?_
      refine bind_step (gR_401_1 554 (by omega) _ _) ?_
      refine bind_step (ia_E (n := 8) isI_403 rfl (by omega)) ?_
      refine bind_step (gR_400_0 554 (by omega) _ _) ?_
      refine bind_step (gR_401_1 554 (by omega) _ _) ?_
      refine bind_step (cal_w (firstKept_E isI_403 (by omega))) ?_
      rw [hh]
      refine bind_step (cal_w (in_E _ _ _ _)) ?_
      by_cases h1 : inB a 1 (if 60 ≤ μ 403 8 then 60 else μ 403 8) = 0
      · exact if_pos h1
      · refine (if_neg h1).trans ?_
        refine bind_step (cal_w (in_E _ _ _ _)) ?_
        exact if_pos (hno.resolve_left h1)
    · show mX2_ago 537 a b (E μ z) = _
      unfold mX2_ago
      refine bind_step (recv_537 554 (by omega) _ _) ?_
      refine bind_step (cal_w held_E) ?_
      rw [p16]
      refine bind_step (cal_w (isIn_E _ _ _ _)) ?_
      by_cases h1 : inB a 1 (if 60 ≤ μ 403 8 then 60 else μ 403 8) = 0
      · exact if_pos h1
      · refine (if_neg h1).trans ?_
        refine bind_step (cal_w (isIn_E _ _ _ _)) ?_
        exact if_pos (hno.resolve_left h1)
  by_cases h1 : inB a 1 (if 60 ≤ μ 403 8 then 60 else μ 403 8) = 0
  · exact go 0 0 (Or.inl h1)
  by_cases h2 : inB b 0 5 = 0
  · exact go 0 0 (Or.inr h2)
  have b1 := inB_ne.mp h1
  have b2 := inB_ne.mp h2
  have c1 : (1 : Int32).toInt = 1 := rfl
  have c0 : (0 : Int32).toInt = 0 := rfl
  have c5 : (5 : Int32).toInt = 5 := rfl
  have c60 : (60 : Int32).toInt = 60 := rfl
  have bm : a.toInt ≤ 60 ∧ a.toInt ≤ (t : Int) := by
    have h9 := b1.2
    simp only [Int32.le_iff_toInt_le, c60] at h9
    split at h9 <;> omega
  obtain ⟨q, hq⟩ : ∃ q : Nat, a.toInt = (q : Int) := ⟨a.toInt.toNat, by have := b1.1; omega⟩
  obtain ⟨j, hj⟩ : ∃ j : Nat, b.toInt = (j : Int) := ⟨b.toInt.toNat, by have := b2.1; omega⟩
  have q1 : 1 ≤ q := by have := b1.1; omega
  have j5 : j < 6 := by have := b2.2; omega
  have hs : (μ 403 8 - a).toInt = ((t - q : Nat) : Int) := by rw [I32_sub b8 hq (by omega)]; omega
  refine Agr_ro hI (μ 403 (53 + 6 * ((t - q) % 60) + j)) ?_ ?_
  · show mX0_ago 400 a b (E μ z) = _
    unfold mX0_ago
    refine bind_step (gR_400_0 554 (by omega) _ _) ?_
    refine bind_step (gR_401_1 554 (by omega) _ _) ?_
    refine bind_step (ia_E (n := 8) isI_403 rfl (by omega)) ?_
    refine bind_step (gR_400_0 554 (by omega) _ _) ?_
    refine bind_step (gR_401_1 554 (by omega) _ _) ?_
    refine bind_step (cal_w (firstKept_E isI_403 (by omega))) ?_
    rw [hh]
    refine bind_step (cal_w (in_E _ _ _ _)) ?_
    refine (if_neg h1).trans ?_
    refine bind_step (cal_w (in_E _ _ _ _)) ?_
    refine (if_neg h2).trans ?_
    refine bind_step (gR_400_0 554 (by omega) _ _) ?_
    refine bind_step (gR_401_1 554 (by omega) _ _) ?_
    refine bind_step (gR_400_0 554 (by omega) _ _) ?_
    refine bind_step (gR_401_1 554 (by omega) _ _) ?_
    refine bind_step (ia_E (n := 8) isI_403 rfl (by omega)) ?_
    obtain ⟨r, r1, r2⟩ := tenthAt_E (w := E μ z) hs (by omega)
    refine bind_step (cal_w r1) ?_
    have := Nat.mod_lt (t - q) (show 0 < 60 by omega)
    refine bind_step (ia_E (n := 53 + 6 * ((t - q) % 60) + j) isI_403 (addN r2 hj (by omega)) (by omega)) ?_
    rfl
  · show mX2_ago 537 a b (E μ z) = _
    unfold mX2_ago
    refine bind_step (recv_537 554 (by omega) _ _) ?_
    refine bind_step (cal_w held_E) ?_
    rw [p16]
    refine bind_step (cal_w (isIn_E _ _ _ _)) ?_
    refine (if_neg h1).trans ?_
    refine bind_step (cal_w (isIn_E _ _ _ _)) ?_
    refine (if_neg h2).trans ?_
    refine bind_step (gR_537_0 554 (by omega) _ _) ?_
    refine bind_step (ia_E (n := 16) isI_538 rfl (by omega)) ?_
    rw [p16]
    refine bind_step (recv_537 554 (by omega) _ _) ?_
    rw [WM_0]
    refine bind_step (cal_w (pastOf_E hs hj (by omega) (by omega))) ?_
    rw [(hr (t - q) (by show ((t - q : Nat) : Int) < (μ 403 8).toInt; omega) (by show (μ 403 8).toInt ≤ _; omega)).1 j j5]
