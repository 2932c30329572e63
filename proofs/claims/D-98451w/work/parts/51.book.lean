/-! ===== what landed ===== -/
theorem toI {n : Nat} (h : n < 2 ^ 31) : ((n : Int) : Int) = (Int32.ofNat n).toInt := (tI h).symm
theorem shown_E {μ : Mu} {z : Zt} (h : (μ 538 7).toInt ≤ 8) : mX2_shown 537 (E μ z) = some (μ 538 7, E μ z) := by
  unfold mX2_shown
  refine bind_step (gR_537_0 554 (by omega) _ _) ?_
  refine bind_step (ia_E (n := 7) isI_538 rfl (by omega)) ?_
  refine (if_neg (show ¬ (20 : Int32) ≤ μ 538 7 by rw [Int32.le_iff_toInt_le, show (20 : Int32).toInt = 20 from rfl]; omega)).trans ?_
  refine bind_step (gR_537_0 554 (by omega) _ _) ?_
  refine bind_step (ia_E (n := 7) isI_538 rfl (by omega)) ?_
  rfl
theorem I32_small {a b : Int32} {x y : Int} (ha : a.toInt = x) (hb : b.toInt = y) (h : -1000000000 ≤ x + y ∧ x + y ≤ 1000000000) : (a + b).toInt = x + y := by
  rw [Int32.toInt_add, ha, hb, Int.bmod_eq_of_le (by omega) (by omega)]
theorem I32_sub {a b : Int32} {x y : Int} (ha : a.toInt = x) (hb : b.toInt = y) (h : -1000000000 ≤ x - y ∧ x - y ≤ 1000000000) : (a - b).toInt = x - y := by
  rw [Int32.toInt_sub, ha, hb, Int.bmod_eq_of_le (by omega) (by omega)]
theorem I32_mul {a b : Int32} {x y : Int} (ha : a.toInt = x) (hb : b.toInt = y) (h : -1000000000 ≤ x * y ∧ x * y ≤ 1000000000) : (a * b).toInt = x * y := by
  rw [Int32.toInt_mul, ha, hb, Int.bmod_eq_of_le (by omega) (by omega)]
theorem downOf_E {μ : Mu} {z : Zt} {i j : Int32} {ni nj : Nat} (h : (μ 538 7).toInt ≤ 8) (hi : i.toInt = (ni : Int)) (hj : j.toInt = (nj : Int)) (h1 : ni < 8) (h2 : nj < 2) : mX2_downOf 537 i j (E μ z) = some (μ 538 (474 + 2 * ni + nj), E μ z) := by
  unfold mX2_downOf
  refine bind_step (gR_537_0 554 (by omega) _ _) ?_
  refine bind_step (gR_537_0 554 (by omega) _ _) ?_
  refine bind_step (ia_E (n := 7) isI_538 rfl (by omega)) ?_
  refine bind_step (recv_537 554 (by omega) _ _) ?_
  refine bind_step (cal_w (shown_E h)) ?_
  have e : (μ 538 7 - μ 538 7 + i) = i := by rw [Int32.sub_self, Int32.zero_add]
  refine bind_step (a := i) ?_ ?_
  · show irm (μ 538 7 - μ 538 7 + i) 64 = some i
    rw [e]
    exact irm_small (by omega) (by rw [show (64 : Int32).toInt = 64 from rfl]; omega)
  · refine bind_step (ia_E (n := 474 + 2 * ni + nj) isI_538 ?_ (by omega)) ?_
    · have a1 := I32_mul (a := 2) (b := i) (x := 2) (y := ni) rfl hi (by omega)
      have a2 := I32_small (a := 474) (b := 2 * i) (x := 474) (y := 2 * ni) rfl a1 (by omega)
      have a3 := I32_small (a := 474 + 2 * i) (b := j) a2 hj (by omega)
      rw [a3]
      omega
    · rfl
theorem ow_landed {TX : Mu → Zt → Prop} (L : Nat) (xs : Nat → Int32) : Ow_landed (Inv TX L xs) := by
  intro n μ z a c hI
  obtain ⟨-, -, -, -, ⟨-, -, -, p7, pb, -, -⟩, ⟨rb, -⟩, -⟩ := hI.1
  have hb : bd (μ 403 12) 0 8 := rb.2.2.2.2.2.2.2.2.2.2.2.2
  have p7' : μ 538 7 = μ 403 12 := p7
  have hb7 : (μ 538 7).toInt ≤ 8 := by rw [p7']; exact hb.2
  by_cases h0 : a = -1
  · subst h0
    refine Agr_ro hI (μ 403 12) ?_ ?_
    · show mX0_landed 400 (-1) c (E μ z) = _
      unfold mX0_landed
      rw [if_neg (fun q => q rfl)]
      refine bind_step (gR_400_0 554 (by omega) _ _) ?_
      refine bind_step (gR_401_1 554 (by omega) _ _) ?_
      refine bind_step (ia_E (n := 12) isI_403 rfl (by omega)) ?_
      rfl
    · show mX2_landed 537 (-1) c (E μ z) = _
      unfold mX2_landed
      rw [if_neg (fun q => q rfl)]
      refine bind_step (recv_537 554 (by omega) _ _) ?_
      refine bind_step (cal_w (shown_E hb7)) ?_
      rw [p7']
  · rcases inB_01 a 0 (μ 403 12 - 1) with h1 | h1
    · refine Agr_ro hI (-2) ?_ ?_
      · show mX0_landed 400 a c (E μ z) = _
        unfold mX0_landed
        rw [if_pos h0]
        refine bind_step (gR_400_0 554 (by omega) _ _) ?_
        refine bind_step (gR_401_1 554 (by omega) _ _) ?_
        refine bind_step (ia_E (n := 12) isI_403 rfl (by omega)) ?_
        refine bind_step (cal_w (in_E _ _ _ _)) ?_
        exact if_pos h1
      · show mX2_landed 537 a c (E μ z) = _
        unfold mX2_landed
        rw [if_pos h0]
        refine bind_step (recv_537 554 (by omega) _ _) ?_
        refine bind_step (cal_w (shown_E hb7)) ?_
        refine bind_step (cal_w (isIn_E _ _ _ _)) ?_
        rw [p7']
        exact if_pos h1
    · have ha : bd a 0 (μ 403 12 - 1).toInt := inB_bd.mp h1
      rw [bd, I32_sub (a := μ 403 12) (b := 1) rfl rfl (by have := hb.1; have := hb.2; rw [show (1 : Int32).toInt = 1 from rfl]; omega), show (1 : Int32).toInt = 1 from rfl] at ha
      have n1 : ¬ inB a 0 (μ 403 12 - 1) = 0 := by rw [h1]; decide
      rcases inB_01 c 0 1 with h2 | h2
      · refine Agr_ro hI (-2) ?_ ?_
        · show mX0_landed 400 a c (E μ z) = _
          unfold mX0_landed
          rw [if_pos h0]
          refine bind_step (gR_400_0 554 (by omega) _ _) ?_
          refine bind_step (gR_401_1 554 (by omega) _ _) ?_
          refine bind_step (ia_E (n := 12) isI_403 rfl (by omega)) ?_
          refine bind_step (cal_w (in_E _ _ _ _)) ?_
          refine (if_neg n1).trans ?_
          refine bind_step (cal_w (in_E _ _ _ _)) ?_
          exact if_pos h2
        · show mX2_landed 537 a c (E μ z) = _
          unfold mX2_landed
          rw [if_pos h0]
          refine bind_step (recv_537 554 (by omega) _ _) ?_
          refine bind_step (cal_w (shown_E hb7)) ?_
          refine bind_step (cal_w (isIn_E _ _ _ _)) ?_
          rw [p7']
          refine (if_neg n1).trans ?_
          refine bind_step (cal_w (isIn_E _ _ _ _)) ?_
          exact if_pos h2
      · have hc : bd c 0 1 := inB_bd.mp h2
        have n2 : ¬ inB c 0 1 = 0 := by rw [h2]; decide
        obtain ⟨ni, hni⟩ : ∃ ni : Nat, a.toInt = (ni : Int) := ⟨a.toInt.toNat, by have := ha.1; omega⟩
        obtain ⟨nj, hnj⟩ : ∃ nj : Nat, c.toInt = (nj : Int) := ⟨c.toInt.toNat, by have := hc.1; omega⟩
        have q1 : ni < 8 := by have := ha.2; have := hb.2; omega
        have q2 : nj < 2 := by have := hc.2; omega
        refine Agr_ro hI (μ 403 (13 + 2 * ni + nj)) ?_ ?_
        · show mX0_landed 400 a c (E μ z) = _
          unfold mX0_landed
          rw [if_pos h0]
          refine bind_step (gR_400_0 554 (by omega) _ _) ?_
          refine bind_step (gR_401_1 554 (by omega) _ _) ?_
          refine bind_step (ia_E (n := 12) isI_403 rfl (by omega)) ?_
          refine bind_step (cal_w (in_E _ _ _ _)) ?_
          refine (if_neg n1).trans ?_
          refine bind_step (cal_w (in_E _ _ _ _)) ?_
          refine (if_neg n2).trans ?_
          refine bind_step (gR_400_0 554 (by omega) _ _) ?_
          refine bind_step (gR_401_1 554 (by omega) _ _) ?_
          refine bind_step (ia_E (n := 13 + 2 * ni + nj) isI_403 ?_ (by omega)) ?_
          · have a1 := I32_mul (a := 2) (b := a) (x := 2) (y := ni) rfl hni (by omega)
            have a2 := I32_small (a := 13) (b := 2 * a) (x := 13) (y := 2 * ni) rfl a1 (by omega)
            have a3 := I32_small (a := 13 + 2 * a) (b := c) a2 hnj (by omega)
            rw [a3]
            omega
          · rfl
        · show mX2_landed 537 a c (E μ z) = _
          unfold mX2_landed
          rw [if_pos h0]
          refine bind_step (recv_537 554 (by omega) _ _) ?_
          refine bind_step (cal_w (shown_E hb7)) ?_
          refine bind_step (cal_w (isIn_E _ _ _ _)) ?_
          rw [p7']
          refine (if_neg n1).trans ?_
          refine bind_step (cal_w (isIn_E _ _ _ _)) ?_
          refine (if_neg n2).trans ?_
          refine bind_step (recv_537 554 (by omega) _ _) ?_
          refine bind_step (cal_w (downOf_E hb7 hni hnj q1 q2)) ?_
          have e : μ 538 (474 + 2 * ni + nj) = μ 403 (13 + 2 * ni + nj) := pb ni (by have := ha.2; show (ni : Int) < (μ 403 12).toInt; omega) nj q2
          rw [e]
