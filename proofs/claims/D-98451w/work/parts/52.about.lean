/-! ===== about ===== -/
theorem firstKept_E {μ : Mu} {z : Zt} {l : Nat} (h : isI l 413) (hl : l < 554) : mX0_firstKept (some l) (E μ z) = some (jmaxI 0 (μ l 8 - 60), E μ z) := by
  unfold mX0_firstKept
  refine bind_step (ia_E (n := 8) h rfl (by omega)) ?_
  rfl
theorem held_E {μ : Mu} {z : Zt} : mX2_held 537 (E μ z) = some (if 60 ≤ μ 538 16 then 60 else μ 538 16, E μ z) := by
  unfold mX2_held
  refine bind_step (gR_537_0 554 (by omega) _ _) ?_
  refine bind_step (ia_E (n := 16) isI_538 rfl (by omega)) ?_
  by_cases h : 60 ≤ μ 538 16
  · rw [if_pos h, if_pos h]
  · rw [if_neg h, if_neg h]
    refine bind_step (gR_537_0 554 (by omega) _ _) ?_
    refine bind_step (ia_E (n := 16) isI_538 rfl (by omega)) ?_
    rfl
theorem held_eq {x : Int32} (h : bd x 0 9999) : x - jmaxI 0 (x - 60) = if 60 ≤ x then 60 else x := by
  have e : (x - 60).toInt = x.toInt - 60 := I32_sub (b := 60) rfl rfl (by have := h.1; have := h.2; omega)
  unfold jmaxI
  simp only [Int32.lt_iff_toInt_lt, Int32.le_iff_toInt_le, e, show (0 : Int32).toInt = 0 from rfl, show (60 : Int32).toInt = 60 from rfl]
  by_cases h1 : 60 ≤ x.toInt
  · rw [if_pos h1]
    apply Int32.toInt_inj.mp
    split
    · rw [I32_sub (b := x - 60) rfl e (by have := h.2; omega), show (60 : Int32).toInt = 60 from rfl]
      omega
    · rw [Int32.sub_zero, show (60 : Int32).toInt = 60 from rfl]
      omega
  · rw [if_neg h1, if_neg (by omega), Int32.sub_zero]
theorem ow_about {TX : Mu → Zt → Prop} (L : Nat) (xs : Nat → Int32) : Ow_about (Inv TX L xs) := by
  intro n μ z a hI
  obtain ⟨⟨⟨a0, a1, a3, a4, a5, a6, a18⟩, -⟩, -, -, -, ⟨pj, p2, -⟩, ⟨rb, -⟩, -⟩ := hI.1
  obtain ⟨t1, -⟩ := hI.2.2.1
  have p16 : μ 538 16 = μ 403 8 := pj 8 (by omega)
  by_cases c0 : a = 0
  · subst c0
    refine Agr_ro hI (μ 402 0) ?_ ?_
    · show mX0_about 400 0 (E μ z) = _
      unfold mX0_about
      rw [if_pos rfl]
      refine bind_step (gR_400_0 554 (by omega) _ _) ?_
      refine bind_step (gR_401_0 554 (by omega) _ _) ?_
      refine bind_step (ia_E (n := 0) isI_402 rfl (by omega)) ?_
      rfl
    · show mX2_about 537 0 (E μ z) = _
      unfold mX2_about
      refine bind_step (cal_w (isIn_E _ _ _ _)) ?_
      rw [show inB 0 0 6 = 1 by decide]
      refine (if_neg (show ¬ (1 : Int32) = 0 by decide)).trans ?_
      refine bind_step (gR_537_0 554 (by omega) _ _) ?_
      refine bind_step (ia_E (n := 0) isI_538 rfl (by omega)) ?_
      have e : μ 538 0 = μ 402 0 := a0
      rw [e]
  by_cases c1 : a = 1
  · subst c1
    refine Agr_ro hI (μ 402 1) ?_ ?_
    · show mX0_about 400 1 (E μ z) = _
      unfold mX0_about
      rw [if_neg (show ¬ (1 : Int32) = 0 by decide)]
      rw [if_pos rfl]
      refine bind_step (gR_400_0 554 (by omega) _ _) ?_
      refine bind_step (gR_401_0 554 (by omega) _ _) ?_
      refine bind_step (ia_E (n := 1) isI_402 rfl (by omega)) ?_
      rfl
    · show mX2_about 537 1 (E μ z) = _
      unfold mX2_about
      refine bind_step (cal_w (isIn_E _ _ _ _)) ?_
      rw [show inB 1 0 6 = 1 by decide]
      refine (if_neg (show ¬ (1 : Int32) = 0 by decide)).trans ?_
      refine bind_step (gR_537_0 554 (by omega) _ _) ?_
      refine bind_step (ia_E (n := 1) isI_538 rfl (by omega)) ?_
      have e : μ 538 1 = μ 402 1 := a1
      rw [e]
  by_cases c2 : a = 2
  · subst c2
    refine Agr_ro hI (μ 403 9) ?_ ?_
    · show mX0_about 400 2 (E μ z) = _
      unfold mX0_about
      rw [if_neg (show ¬ (2 : Int32) = 0 by decide)]
      rw [if_neg (show ¬ (2 : Int32) = 1 by decide)]
      rw [if_pos rfl]
      refine bind_step (gR_400_0 554 (by omega) _ _) ?_
      refine bind_step (gR_401_1 554 (by omega) _ _) ?_
      refine bind_step (ia_E (n := 9) isI_403 rfl (by omega)) ?_
      rfl
    · show mX2_about 537 2 (E μ z) = _
      unfold mX2_about
      refine bind_step (cal_w (isIn_E _ _ _ _)) ?_
      rw [show inB 2 0 6 = 1 by decide]
      refine (if_neg (show ¬ (1 : Int32) = 0 by decide)).trans ?_
      refine bind_step (gR_537_0 554 (by omega) _ _) ?_
      refine bind_step (ia_E (n := 2) isI_538 rfl (by omega)) ?_
      have e : μ 538 2 = μ 403 9 := p2
      rw [e]
  by_cases c3 : a = 3
  · subst c3
    refine Agr_ro hI (μ 402 2) ?_ ?_
    · show mX0_about 400 3 (E μ z) = _
      unfold mX0_about
      rw [if_neg (show ¬ (3 : Int32) = 0 by decide)]
      rw [if_neg (show ¬ (3 : Int32) = 1 by decide)]
      rw [if_neg (show ¬ (3 : Int32) = 2 by decide)]
      rw [if_pos rfl]
      refine bind_step (gR_400_0 554 (by omega) _ _) ?_
      refine bind_step (gR_401_0 554 (by omega) _ _) ?_
      refine bind_step (ia_E (n := 2) isI_402 rfl (by omega)) ?_
      rfl
    · show mX2_about 537 3 (E μ z) = _
      unfold mX2_about
      refine bind_step (cal_w (isIn_E _ _ _ _)) ?_
      rw [show inB 3 0 6 = 1 by decide]
      refine (if_neg (show ¬ (1 : Int32) = 0 by decide)).trans ?_
      refine bind_step (gR_537_0 554 (by omega) _ _) ?_
      refine bind_step (ia_E (n := 3) isI_538 rfl (by omega)) ?_
      have e : μ 538 3 = μ 402 2 := a3
      rw [e]
  by_cases c4 : a = 4
  · subst c4
    refine Agr_ro hI (μ 402 3) ?_ ?_
    · show mX0_about 400 4 (E μ z) = _
      unfold mX0_about
      rw [if_neg (show ¬ (4 : Int32) = 0 by decide)]
      rw [if_neg (show ¬ (4 : Int32) = 1 by decide)]
      rw [if_neg (show ¬ (4 : Int32) = 2 by decide)]
      rw [if_neg (show ¬ (4 : Int32) = 3 by decide)]
      rw [if_pos rfl]
      refine bind_step (gR_400_0 554 (by omega) _ _) ?_
      refine bind_step (gR_401_0 554 (by omega) _ _) ?_
      refine bind_step (ia_E (n := 3) isI_402 rfl (by omega)) ?_
      rfl
    · show mX2_about 537 4 (E μ z) = _
      unfold mX2_about
      refine bind_step (cal_w (isIn_E _ _ _ _)) ?_
      rw [show inB 4 0 6 = 1 by decide]
      refine (if_neg (show ¬ (1 : Int32) = 0 by decide)).trans ?_
      refine bind_step (gR_537_0 554 (by omega) _ _) ?_
      refine bind_step (ia_E (n := 4) isI_538 rfl (by omega)) ?_
      have e : μ 538 4 = μ 402 3 := a4
      rw [e]
  by_cases c5 : a = 5
  · subst c5
    refine Agr_ro hI (μ 402 4) ?_ ?_
    · show mX0_about 400 5 (E μ z) = _
      unfold mX0_about
      rw [if_neg (show ¬ (5 : Int32) = 0 by decide)]
      rw [if_neg (show ¬ (5 : Int32) = 1 by decide)]
      rw [if_neg (show ¬ (5 : Int32) = 2 by decide)]
      rw [if_neg (show ¬ (5 : Int32) = 3 by decide)]
      rw [if_neg (show ¬ (5 : Int32) = 4 by decide)]
      rw [if_pos rfl]
      refine bind_step (gR_400_0 554 (by omega) _ _) ?_
      refine bind_step (gR_401_0 554 (by omega) _ _) ?_
      refine bind_step (ia_E (n := 4) isI_402 rfl (by omega)) ?_
      rfl
    · show mX2_about 537 5 (E μ z) = _
      unfold mX2_about
      refine bind_step (cal_w (isIn_E _ _ _ _)) ?_
      rw [show inB 5 0 6 = 1 by decide]
      refine (if_neg (show ¬ (1 : Int32) = 0 by decide)).trans ?_
      refine bind_step (gR_537_0 554 (by omega) _ _) ?_
      refine bind_step (ia_E (n := 5) isI_538 rfl (by omega)) ?_
      have e : μ 538 5 = μ 402 4 := a5
      rw [e]
  by_cases c6 : a = 6
  · subst c6
    refine Agr_ro hI (μ 402 5) ?_ ?_
    · show mX0_about 400 6 (E μ z) = _
      unfold mX0_about
      rw [if_neg (show ¬ (6 : Int32) = 0 by decide)]
      rw [if_neg (show ¬ (6 : Int32) = 1 by decide)]
      rw [if_neg (show ¬ (6 : Int32) = 2 by decide)]
      rw [if_neg (show ¬ (6 : Int32) = 3 by decide)]
      rw [if_neg (show ¬ (6 : Int32) = 4 by decide)]
      rw [if_neg (show ¬ (6 : Int32) = 5 by decide)]
      rw [if_pos rfl]
      refine bind_step (gR_400_0 554 (by omega) _ _) ?_
      refine bind_step (gR_401_0 554 (by omega) _ _) ?_
      refine bind_step (ia_E (n := 5) isI_402 rfl (by omega)) ?_
      rfl
    · show mX2_about 537 6 (E μ z) = _
      unfold mX2_about
      refine bind_step (cal_w (isIn_E _ _ _ _)) ?_
      rw [show inB 6 0 6 = 1 by decide]
      refine (if_neg (show ¬ (1 : Int32) = 0 by decide)).trans ?_
      refine bind_step (gR_537_0 554 (by omega) _ _) ?_
      refine bind_step (ia_E (n := 6) isI_538 rfl (by omega)) ?_
      have e : μ 538 6 = μ 402 5 := a6
      rw [e]
  by_cases c7 : a = 7
  · subst c7
    refine Agr_ro hI (if 60 ≤ μ 403 8 then 60 else μ 403 8) ?_ ?_
    · show mX0_about 400 7 (E μ z) = _
      unfold mX0_about
      rw [if_neg (show ¬ (7 : Int32) = 0 by decide)]
      rw [if_neg (show ¬ (7 : Int32) = 1 by decide)]
      rw [if_neg (show ¬ (7 : Int32) = 2 by decide)]
      rw [if_neg (show ¬ (7 : Int32) = 3 by decide)]
      rw [if_neg (show ¬ (7 : Int32) = 4 by decide)]
      rw [if_neg (show ¬ (7 : Int32) = 5 by decide)]
      rw [if_neg (show ¬ (7 : Int32) = 6 by decide)]
      rw [if_pos rfl]
      refine bind_step (gR_400_0 554 (by omega) _ _) ?_
      refine bind_step (gR_401_1 554 (by omega) _ _) ?_
      refine bind_step (ia_E (n := 8) isI_403 rfl (by omega)) ?_
      refine bind_step (gR_400_0 554 (by omega) _ _) ?_
      refine bind_step (gR_401_1 554 (by omega) _ _) ?_
      refine bind_step (cal_w (firstKept_E isI_403 (by omega))) ?_
      have e := held_eq (x := μ 403 8) rb.2.2.2.2.2.2.2.2.1
      rw [← e]
    · show mX2_about 537 7 (E μ z) = _
      unfold mX2_about
      refine bind_step (cal_w (isIn_E _ _ _ _)) ?_
      rw [show inB 7 0 6 = 0 by decide]
      refine (if_pos rfl).trans ?_
      refine (if_neg (fun q => q rfl)).trans ?_
      refine bind_step (recv_537 554 (by omega) _ _) ?_
      refine bind_step (cal_w held_E) ?_
      rw [p16]
  by_cases c8 : a = 8
  · subst c8
    refine Agr_ro hI (μ 400 3) ?_ ?_
    · show mX0_about 400 8 (E μ z) = _
      unfold mX0_about
      rw [if_neg (show ¬ (8 : Int32) = 0 by decide)]
      rw [if_neg (show ¬ (8 : Int32) = 1 by decide)]
      rw [if_neg (show ¬ (8 : Int32) = 2 by decide)]
      rw [if_neg (show ¬ (8 : Int32) = 3 by decide)]
      rw [if_neg (show ¬ (8 : Int32) = 4 by decide)]
      rw [if_neg (show ¬ (8 : Int32) = 5 by decide)]
      rw [if_neg (show ¬ (8 : Int32) = 6 by decide)]
      rw [if_neg (show ¬ (8 : Int32) = 7 by decide)]
      rw [if_pos rfl]
      refine bind_step (gI_400_3 554 (by omega) _ _) ?_
      rfl
    · show mX2_about 537 8 (E μ z) = _
      unfold mX2_about
      refine bind_step (cal_w (isIn_E _ _ _ _)) ?_
      rw [show inB 8 0 6 = 0 by decide]
      refine (if_pos rfl).trans ?_
      refine (if_pos (show ¬ (8 : Int32) = 7 by decide)).trans ?_
      refine (if_neg (fun q => q rfl)).trans ?_
      refine bind_step (gI_537_4 554 (by omega) _ _) ?_
      rw [t1]
  by_cases c9 : a = 9
  · subst c9
    refine Agr_ro hI (μ 402 6) ?_ ?_
    · show mX0_about 400 9 (E μ z) = _
      unfold mX0_about
      rw [if_neg (show ¬ (9 : Int32) = 0 by decide)]
      rw [if_neg (show ¬ (9 : Int32) = 1 by decide)]
      rw [if_neg (show ¬ (9 : Int32) = 2 by decide)]
      rw [if_neg (show ¬ (9 : Int32) = 3 by decide)]
      rw [if_neg (show ¬ (9 : Int32) = 4 by decide)]
      rw [if_neg (show ¬ (9 : Int32) = 5 by decide)]
      rw [if_neg (show ¬ (9 : Int32) = 6 by decide)]
      rw [if_neg (show ¬ (9 : Int32) = 7 by decide)]
      rw [if_neg (show ¬ (9 : Int32) = 8 by decide)]
      rw [if_pos rfl]
      refine bind_step (gR_400_0 554 (by omega) _ _) ?_
      refine bind_step (gR_401_0 554 (by omega) _ _) ?_
      refine bind_step (ia_E (n := 6) isI_402 rfl (by omega)) ?_
      rfl
    · show mX2_about 537 9 (E μ z) = _
      unfold mX2_about
      refine bind_step (cal_w (isIn_E _ _ _ _)) ?_
      rw [show inB 9 0 6 = 0 by decide]
      refine (if_pos rfl).trans ?_
      refine (if_pos (show ¬ (9 : Int32) = 7 by decide)).trans ?_
      refine (if_pos (show ¬ (9 : Int32) = 8 by decide)).trans ?_
      refine (if_neg (fun q => q rfl)).trans ?_
      refine bind_step (gR_537_0 554 (by omega) _ _) ?_
      refine bind_step (ia_E (n := 18) isI_538 rfl (by omega)) ?_
      have e : μ 538 18 = μ 402 6 := a18
      rw [e]
  refine Agr_ro hI (-2) ?_ ?_
  · show mX0_about 400 a (E μ z) = _
    unfold mX0_about
    rw [if_neg c0, if_neg c1, if_neg c2, if_neg c3, if_neg c4, if_neg c5, if_neg c6, if_neg c7, if_neg c8, if_neg c9]
  · show mX2_about 537 a (E μ z) = _
    unfold mX2_about
    refine bind_step (cal_w (isIn_E _ _ _ _)) ?_
    have h : inB a 0 6 = 0 := by
      rcases inB_01 a 0 6 with h | h
      · exact h
      · exfalso
        have hb : bd a 0 6 := inB_bd.mp h
        have : a.toInt = 0 ∨ a.toInt = 1 ∨ a.toInt = 2 ∨ a.toInt = 3 ∨ a.toInt = 4 ∨ a.toInt = 5 ∨ a.toInt = 6 := by have := hb.1; have := hb.2; omega
        rcases this with q | q | q | q | q | q | q
        · exact c0 (Int32.toInt_inj.mp q)
        · exact c1 (Int32.toInt_inj.mp q)
        · exact c2 (Int32.toInt_inj.mp q)
        · exact c3 (Int32.toInt_inj.mp q)
        · exact c4 (Int32.toInt_inj.mp q)
        · exact c5 (Int32.toInt_inj.mp q)
        · exact c6 (Int32.toInt_inj.mp q)
    rw [h]
    refine (if_pos rfl).trans ?_
    rw [if_pos c7, if_pos c8, if_pos c9]
