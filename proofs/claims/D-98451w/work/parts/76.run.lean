/-! ===== move, run ===== -/
theorem Kp_Tc {μ μ1 : Mu} {z : Zt} {k : Nat} (hK : Kp μ μ1 k) (hz : 554 ≤ z.2.2.2.1) (hT : Tc μ z) : Tc μ1 z := Tc_CFr (Kp_CFr (z := z) hK) hz hT
/-- a tenth of the row of now, behind a step kept, whatever the names -/
theorem ten_C {μ μ1 μm : Mu} {z zm : Zt} {k t : Nat} {c : Int32} (hB : Both μ z μm zm) (hK : Kp μ μ1 k) (ht : (μ 403 8).toInt = (t : Int)) (h9 : t < 9999) (hc : bd c (-1) 1) (N : Nat → Int32) :
    ∃ N', mX0_tenth 400 (some 403) c (WC μ1 z 403 (μ1 400) N (μ 403)) = some ((), WC μ1 z 403 (μ1 400) N' (tenF (μ 540) (μ 402 3) 0 (μ 403) c)) := by
  obtain ⟨g1, g2, g3, g4, g5⟩ := PS_Go hB.1 ht
  have hT := Kp_Tc hK hB.2.2.2.2.2.2.2 hB.2.1
  obtain ⟨N', e⟩ := tenth_E (μ := μ1) (z := z) (C := μ1 400) (N := N) okl_403 hT g1 ht (by omega) g3 hc
  have c7 : μ1 400 7 = 0 := by rw [hK.1 400 (by omega) (by omega)]; exact hB.2.2.2.2.2.1
  have e3 : μ1 402 3 = μ 402 3 := hK.2.1 3 (by omega)
  rw [hK.1 540 (by omega) (by omega), e3, c7] at e
  exact ⟨N', e⟩
/-- the model's tenth behind a step kept -/
theorem ten_M {μ μ1 μm : Mu} {z zm : Zt} {k n0 t : Nat} {c : Int32} {F N T : Nat → Int32} {V : Nat → Int64} (hB : Both μ z μm zm) (hK : Kp μ μ1 k) (hk : (μ 402 4).toInt = (k : Int)) (hn0 : (μ 402 0).toInt = (n0 : Int)) (ht : (μ 403 8).toInt = (t : Int)) (h9 : t < 9999) (hc : bd c (-1) 1) (hF : F 25 = 0) :
    ∃ F' A' N' T' V', mX2_isTenth 537 c (WM μm zm F (μm 538) N T V) = some (1, WM μm zm F' A' N' T' V') ∧ (∀ i, i ≠ 21 → i ≠ 22 → F' i = F i) ∧ PSw μ1 (tenF (μ 540) (μ 402 3) 0 (μ 403) c) A' := by
  obtain ⟨k', n0', hk', hn0', hk30, hn8, hA5, hA0⟩ := PSw_nums hB.1
  have hkk : k' = k := by omega
  have hnn : n0' = n0 := by omega
  subst hkk hnn
  obtain ⟨q1, q2⟩ := keep_PS hK hk hn0 hB.1
  have e403 : μ1 403 = μ 403 := hK.1 403 (by omega) (by omega)
  rw [e403] at q1 q2
  have g := PS_Go q1 ht
  have q1' := q1
  obtain ⟨⟨⟨a0, a1, a3, a4, -⟩, -⟩, -, -, -, ⟨f1, f2, -⟩, -⟩ := q1'
  have e3 : μ1 402 3 = μ 402 3 := hK.2.1 3 (by omega)
  have hr4 : -1 ≤ (μ 402 3).toInt ∧ (μ 402 3).toInt < (μm 402 2).toInt := by rw [hB.2.2.2.2.1]; exact hB.2.1.2.2
  obtain ⟨F', A', N', T', V', e, x1, x2, x3, x4, x5⟩ := pass_rel (μ := μm) (z := zm) (F := F) (A := keM k' n0' (μm 538)) (N := N) (T := T) (V := V) (c := c) (t4 := μ 402 3) hB.2.2.1 hr4 (a4.trans e3) (fun _ => f2) (by omega) g
  rw [hF, hB.2.2.2.1] at x2 x3 x5
  refine ⟨F', A', N', T', V', ?_, x1, ?_⟩
  · have e16 : μm 538 16 = μ 403 8 := hB.1.2.2.2.2.1.1 8 (by omega)
    unfold mX2_isTenth
    refine bind_step (gR_537_0 554 (by omega) _ _) ?_
    refine bind_step (iaA (n := 16) rfl (by omega)) ?_
    rw [e16]
    refine (if_pos (fun q => by rw [q] at ht; have : (9999 : Int32).toInt = 9999 := rfl; omega)).trans ?_
    refine bind_step (recv_537 554 (by omega) _ _) ?_
    refine bind_step (cal_E (keep_E hA5 hk30 hA0 hn8)) ?_
    refine bind_step (recv_537 554 (by omega) _ _) ?_
    refine bind_step (calM e) ?_
    exact bind_step nok1 rfl
  · exact (PS_ten (s := 40) (by omega) (by omega) ht h9 hc x2 (x3 rfl) x4 x5 q1 q2).1
theorem ten_no {μ μm : Mu} {z zm : Zt} {c : Int32} {F N T : Nat → Int32} {V : Nat → Int64} (hB : Both μ z μm zm) (h : μ 403 8 = 9999) : mX2_isTenth 537 c (WM μm zm F (μm 538) N T V) = some (0, WM μm zm F (μm 538) N T V) := by
  have e16 : μm 538 16 = μ 403 8 := hB.1.2.2.2.2.1.1 8 (by omega)
  unfold mX2_isTenth
  refine bind_step (gR_537_0 554 (by omega) _ _) ?_
  refine bind_step (iaA (n := 16) rfl (by omega)) ?_
  rw [e16]
  refine (if_neg (fun q => q h)).trans ?_
  exact bind_step nok0 rfl
theorem now_t {μ μm : Mu} {z zm : Zt} (hB : Both μ z μm zm) : ∃ t : Nat, (μ 403 8).toInt = (t : Int) ∧ t ≤ 9999 := by
  have h := hB.1.2.2.2.2.2.1.1.2.2.2.2.2.2.2.2.1
  exact ⟨(μ 403 8).toInt.toNat, by have := h.1; omega, by have := h.2; omega⟩
theorem move_op (a : Int32) : Op Int32 0 0 (fun w => mX0_move 400 a w) (fun w => mX2_move 537 a w) := by
  intro μ z ⟨μm0, zm0, hB0⟩
  obtain ⟨k, n0, hk, hn0, hk30, hn8, -⟩ := PSw_nums hB0.1
  obtain ⟨t, ht, ht9⟩ := now_t hB0
  rcases inB_01 a (-1) 1 with hin | hin
  · refine Op_same (-1) ?_ (fun μm zm h => ?_)
    · show mX0_move 400 a (E μ z) = _
      unfold mX0_move
      refine bind_step (cal_w (in_E _ _ _ _)) ?_
      exact if_pos hin
    · show mX2_move 537 a (E μm zm) = _
      unfold mX2_move
      refine bind_step (cal_w (isIn_E _ _ _ _)) ?_
      exact if_pos hin
  · have hn : ¬ inB a (-1) 1 = 0 := by rw [hin]; exact one_ne
    have hc : bd a (-1) 1 := inB_bd.mp hin
    by_cases h9 : μ 403 8 = 9999
    · refine Op_same (-1) ?_ (fun μm zm h => ?_)
      · show mX0_move 400 a (E μ z) = _
        unfold mX0_move
        refine bind_step (cal_w (in_E _ _ _ _)) ?_
        refine (if_neg hn).trans ?_
        refine bind_step (gR_400_0 554 (by omega) _ _) ?_
        refine bind_step (gR_401_1 554 (by omega) _ _) ?_
        refine bind_step (ia_E (n := 8) isI_403 rfl (by omega)) ?_
        exact if_neg (fun q => q h9)
      · show mX2_move 537 a (E μm zm) = _
        rw [WM_0]
        unfold mX2_move
        refine bind_step (cal_w (isIn_E _ _ _ _)) ?_
        refine (if_neg hn).trans ?_
        refine bind_step (recv_537 554 (by omega) _ _) ?_
        refine bind_step (cal_w (ten_no h h9)) ?_
        rfl
    · have ht8 : t < 9999 := by
        have : (μ 403 8).toInt ≠ 9999 := fun q => h9 (I32_eq q)
        omega
      obtain ⟨μ1, e, hK⟩ := keeps_E (z := z) hk hk30
      have e403 : μ1 403 = μ 403 := hK.1 403 (by omega) (by omega)
      have hw : E μ1 z = WC μ1 z 403 (μ1 400) (μ1 518) (μ 403) := by rw [WC_00 μ1 z 403, e403]
      rw [hw] at e
      obtain ⟨N', e2⟩ := ten_C hB0 hK ht ht8 hc (μ1 518)
      have hcf : CFr 0 0 μ z (fC μ1 403 (μ1 400) N' (tenF (μ 540) (μ 402 3) 0 (μ 403) a)) z := CFr_C (Or.inl rfl) ⟨rfl, rfl, rfl, rfl⟩ (Kp_CFr hK)
      refine ⟨tenF (μ 540) (μ 402 3) 0 (μ 403) a 0, _, z, ?_, hcf, fun μm zm hB => ?_⟩
      · show mX0_move 400 a (E μ z) = _
        unfold mX0_move
        refine bind_step (cal_w (in_E _ _ _ _)) ?_
        refine (if_neg hn).trans ?_
        refine bind_step (gR_400_0 554 (by omega) _ _) ?_
        refine bind_step (gR_401_1 554 (by omega) _ _) ?_
        refine bind_step (ia_E (n := 8) isI_403 rfl (by omega)) ?_
        refine (if_pos h9).trans ?_
        refine bind_step (gR_400_0 554 (by omega) _ _) ?_
        refine bind_step (recv_401 554 (by omega) _ _) ?_
        refine bind_step (cal_E e) ?_
        refine bind_step (gR_400_0 554 (by omega) _ _) ?_
        refine bind_step (gR_401_1 554 (by omega) _ _) ?_
        refine bind_step (recv_400 554 (by omega) _ _) ?_
        refine bind_step (cal_E e2) ?_
        refine bind_step (gR_400_0 554 (by omega) _ _) ?_
        refine bind_step (gR_401_1 554 (by omega) _ _) ?_
        refine bind_step (iaX (n := 0) okl_403 rfl (by omega)) ?_
        rfl
      · obtain ⟨F', A', N2, T', V', e3, x1, x2⟩ := ten_M (F := μm 537) (N := μm 543) (T := μm 545) (V := zm.1 544) hB hK hk hn0 ht ht8 hc hB.2.2.2.2.2.2.1
        have hmf : MFr μm zm (fM μm F' A' N2 T') (zM zm V') := MFr_M (fun j hj => x1 j (by omega) (by omega))
        refine ⟨_, _, ?_, Both_next hB hcf hmf ?_, hmf⟩
        · show mX2_move 537 a (E μm zm) = _
          rw [WM_0]
          unfold mX2_move
          refine bind_step (cal_w (isIn_E _ _ _ _)) ?_
          refine (if_neg hn).trans ?_
          refine bind_step (recv_537 554 (by omega) _ _) ?_
          refine bind_step (calM e3) ?_
          refine (if_neg one_ne).trans ?_
          refine bind_step (gR_537_0 554 (by omega) _ _) ?_
          refine bind_step (iaA (n := 8) rfl (by omega)) ?_
          have : A' 8 = tenF (μ 540) (μ 402 3) 0 (μ 403) a 0 := x2.2.2.2.2.1.1 0 (by omega)
          rw [this]
        · refine PSw_C (Or.inl rfl) ?_
          rw [fC_l okl_403]
          exact x2
theorem ow_move (L : Nat) (xs : Nat → Int32) : Ow_move (Inv (TX TT) L xs) := fun n μ z a hI => Agr_op (by omega) hI (move_op a)
/-- the command of a hand is one of three -/
theorem sgn_bd (v : Int32) : bd (if v ≤ 0 then (if 0 ≤ v then 0 else -1) else 1) (-1) 1 := by
  by_cases h1 : v ≤ 0
  · rw [if_pos h1]
    by_cases h2 : 0 ≤ v
    · rw [if_pos h2]; exact ⟨by decide, by decide⟩
    · rw [if_neg h2]; exact ⟨by decide, by decide⟩
  · rw [if_neg h1]; exact ⟨by decide, by decide⟩
theorem cmd_bd {tx : Nat → Int32} {t : Int32} {nv : Nat → Int32} {ag : Nat → Nat → Int32} : bd (cmdF tx t nv ag) (-1) 1 := sgn_bd _
/-- one tenth by the hand in force: the component -/
theorem run_C {μ μm : Mu} {z zm : Zt} {t : Nat} (hB : Both μ z μm zm) (ht : (μ 403 8).toInt = (t : Int)) (h9 : t < 9999) {k : Nat} (hk : (μ 402 4).toInt = (k : Int)) (hk30 : k ≤ 30) :
    ∃ μ1 N1 N2 y, Kp μ μ1 k ∧ mX1_keeps 401 (E μ z) = some ((), WC μ1 z 403 (μ1 400) (μ1 518) (μ 403)) ∧ mX0_rules 400 (WC μ1 z 403 (μ1 400) (μ1 518) (μ 403)) = some (some y, WC μ1 z 403 (μ1 400) (μ1 518) (μ 403)) ∧
      mX0_handOf 400 (some 403) (some y) (WC μ1 z 403 (μ1 400) (μ1 518) (μ 403)) = some (handF (μ 540) (μ 402 3) (μ 403), WC μ1 z 403 (μ1 400) N1 (μ 403)) ∧
      mX0_tenth 400 (some 403) (handF (μ 540) (μ 402 3) (μ 403)) (WC μ1 z 403 (μ1 400) N1 (μ 403)) = some ((), WC μ1 z 403 (μ1 400) N2 (tenF (μ 540) (μ 402 3) 0 (μ 403) (handF (μ 540) (μ 402 3) (μ 403)))) := by
  obtain ⟨g1, g2, g3, g4, g5⟩ := PS_Go hB.1 ht
  obtain ⟨μ1, e, hK⟩ := keeps_E (z := z) hk hk30
  have e403 : μ1 403 = μ 403 := hK.1 403 (by omega) (by omega)
  have hw : E μ1 z = WC μ1 z 403 (μ1 400) (μ1 518) (μ 403) := by rw [WC_00 μ1 z 403, e403]
  have hT := Kp_Tc hK hB.2.2.2.2.2.2.2 hB.2.1
  have e3 : μ1 402 3 = μ 402 3 := hK.2.1 3 (by omega)
  have e540 : μ1 540 = μ 540 := hK.1 540 (by omega) (by omega)
  obtain ⟨y, y1, y2⟩ := rules_E hT.2.1 hT.2.2
  have hh := handOf_E (μ := μ1) (z := z) (C := μ1 400) (N := μ1 518) (X := μ 403) okl_403 hT y1 g1 ht (by omega) g3
  rw [e540, e3] at hh
  obtain ⟨N2, e2⟩ := ten_C (c := handF (μ 540) (μ 402 3) (μ 403)) hB hK ht h9 cmd_bd (nmA t (μ 403) (μ1 518))
  rw [hw] at e y2
  exact ⟨μ1, _, N2, y, hK, e, y2, hh, e2⟩
/-- one tenth by the hand in force: the model -/
theorem run_M {μ μ1 μm : Mu} {z zm : Zt} {k n0 t : Nat} {F N T : Nat → Int32} {V : Nat → Int64} (hB : Both μ z μm zm) (hK : Kp μ μ1 k) (hk : (μ 402 4).toInt = (k : Int)) (hn0 : (μ 402 0).toInt = (n0 : Int)) (ht : (μ 403 8).toInt = (t : Int)) (h9 : t < 9999) (hF : F 25 = 0) :
    ∃ F1 N1 T1 V1 F' A' N' T' V', mX2_commandNow 537 (μ 402 3) (WM μm zm F (μm 538) N T V) = some (handF (μ 540) (μ 402 3) (μ 403), WM μm zm F1 (μm 538) N1 T1 V1) ∧ mX2_isTenth 537 (handF (μ 540) (μ 402 3) (μ 403)) (WM μm zm F1 (μm 538) N1 T1 V1) = some (1, WM μm zm F' A' N' T' V') ∧ (∀ i, i ≠ 21 → i ≠ 22 → F' i = F i) ∧ PSw μ1 (tenF (μ 540) (μ 402 3) 0 (μ 403) (handF (μ 540) (μ 402 3) (μ 403))) A' := by
  obtain ⟨g1, g2, g3, g4, g5⟩ := PS_Go hB.1 ht
  have hr4 : -1 ≤ (μ 402 3).toInt ∧ (μ 402 3).toInt < (μm 402 2).toInt := by rw [hB.2.2.2.2.1]; exact hB.2.1.2.2
  obtain ⟨T1, V1, e1⟩ := hand_rel (μ := μm) (z := zm) (F := F) (N := N) (T := T) (V := V) hB.2.2.1 hr4 g1 g2 ht (by omega) g3 g4
  rw [hB.2.2.2.1] at e1
  obtain ⟨F', A', N', T', V', e2, x1, x2⟩ := ten_M (c := handF (μ 540) (μ 402 3) (μ 403)) (F := fNow F (μm 538)) (N := nmM (μm 538) N) (T := T1) (V := V1) hB hK hk hn0 ht h9 cmd_bd hF
  refine ⟨_, _, _, _, F', A', N', T', V', e1, e2, fun i i1 i2 => ?_, x2⟩
  rw [x1 i i1 i2]
  unfold fNow
  rw [upN i2, upN i1]
theorem run_loop : ∀ (d : Nat) (μ : Mu) (z : Zt) (t i fu : Nat) (l1 l2 : Int32), (∃ μm zm, Both μ z μm zm) → (μ 403 8).toInt = (t : Int) → t + d ≤ 9999 → l1.toInt = ((i + d : Nat) : Int) → l2.toInt = (i : Int) → d < fu → i + d < 1000 →
    ∃ μ', mX0_run_l32 fu (E μ z) (some 400) l1 l2 = some (μ' 403 0, E μ' z) ∧ CFr 0 0 μ z μ' z ∧ (μ' 403 8).toInt = ((t + d : Nat) : Int) ∧
      ∀ (μm : Mu) (zm : Zt) (fu2 : Nat), Both μ z μm zm → d < fu2 → ∃ μm' zm', mX2_areRun_l2 fu2 (E μm zm) (some 537) l1 l2 = some (1, E μm' zm') ∧ Both μ' z μm' zm' ∧ MFr μm zm μm' zm' := by
  intro d
  induction d with
  | zero =>
    intro μ z t i fu l1 l2 hB ht h9 h1 h2 hf hi
    obtain ⟨g, rfl⟩ : ∃ g, fu = g + 1 := ⟨fu - 1, by omega⟩
    refine ⟨μ, ?_, CFr.refl μ z, ht, fun μm zm fu2 hBm hf2 => ⟨μm, zm, ?_, hBm, MFr.refl μm zm⟩⟩
    · show mX0_run_b32 _ _ _ _ _ = _
      unfold mX0_run_b32
      refine (if_pos (by rw [Int32.le_iff_toInt_le, h1, h2]; omega)).trans ?_
      refine bind_step (gR_400_0 554 (by omega) _ _) ?_
      refine bind_step (gR_401_1 554 (by omega) _ _) ?_
      refine bind_step (ia_E (n := 0) isI_403 rfl (by omega)) ?_
      rfl
    · obtain ⟨g2, rfl⟩ : ∃ g, fu2 = g + 1 := ⟨fu2 - 1, by omega⟩
      show mX2_areRun_b2 _ _ _ _ _ = _
      unfold mX2_areRun_b2
      refine (if_pos (by rw [Int32.le_iff_toInt_le, h1, h2]; omega)).trans ?_
      exact bind_step nok1 rfl
  | succ d ih =>
    intro μ z t i fu l1 l2 ⟨μm0, zm0, hB0⟩ ht h9 h1 h2 hf hi
    obtain ⟨g, rfl⟩ : ∃ g, fu = g + 1 := ⟨fu - 1, by omega⟩
    obtain ⟨k, n0, hk, hn0, hk30, hn8, -⟩ := PSw_nums hB0.1
    obtain ⟨μ1, N1, N2, y, hK, e1, e2, e3, e4⟩ := run_C hB0 ht (by omega) hk hk30
    have hcf : CFr 0 0 μ z (fC μ1 403 (μ1 400) N2 (tenF (μ 540) (μ 402 3) 0 (μ 403) (handF (μ 540) (μ 402 3) (μ 403)))) z := CFr_C (Or.inl rfl) ⟨rfl, rfl, rfl, rfl⟩ (Kp_CFr hK)
    have step : ∀ μm zm, Both μ z μm zm → ∃ F1 N1 T1 V1 F' A' N' T' V', mX2_commandNow 537 (μ 402 3) (E μm zm) = some (handF (μ 540) (μ 402 3) (μ 403), WM μm zm F1 (μm 538) N1 T1 V1) ∧ mX2_isTenth 537 (handF (μ 540) (μ 402 3) (μ 403)) (WM μm zm F1 (μm 538) N1 T1 V1) = some (1, WM μm zm F' A' N' T' V') ∧ MFr μm zm (fM μm F' A' N' T') (zM zm V') ∧ Both (fC μ1 403 (μ1 400) N2 (tenF (μ 540) (μ 402 3) 0 (μ 403) (handF (μ 540) (μ 402 3) (μ 403)))) z (fM μm F' A' N' T') (zM zm V') := by
      intro μm zm hB
      obtain ⟨F1, M1, T1, V1, F', A', N', T', V', x1, x2, x3, x4⟩ := run_M (F := μm 537) (N := μm 543) (T := μm 545) (V := zm.1 544) hB hK hk hn0 ht (by omega) hB.2.2.2.2.2.2.1
      have hmf : MFr μm zm (fM μm F' A' N' T') (zM zm V') := MFr_M (fun j hj => x3 j (by omega) (by omega))
      refine ⟨F1, M1, T1, V1, F', A', N', T', V', ?_, x2, hmf, Both_next hB hcf hmf ?_⟩
      · rw [WM_0]
        exact x1
      · refine PSw_C (Or.inl rfl) ?_
        rw [fC_l okl_403]
        exact x4
    have hBn : ∃ μm zm, Both (fC μ1 403 (μ1 400) N2 (tenF (μ 540) (μ 402 3) 0 (μ 403) (handF (μ 540) (μ 402 3) (μ 403)))) z μm zm := by
      obtain ⟨F1, M1, T1, V1, F', A', N', T', V', -, -, -, hb⟩ := step μm0 zm0 hB0
      exact ⟨_, _, hb⟩
    have ht1 : (fC μ1 403 (μ1 400) N2 (tenF (μ 540) (μ 402 3) 0 (μ 403) (handF (μ 540) (μ 402 3) (μ 403))) 403 8).toInt = ((t + 1 : Nat) : Int) := by
      rw [fC_l okl_403, ten_8]
      exact inc_I ht (by omega)
    obtain ⟨μ', r1, r2, r3, r4⟩ := ih _ z (t + 1) (i + 1) g l1 (l2 + 1) hBn ht1 (by omega) (by rw [h1]; omega) (inc_I h2 (by omega)) (by omega) (by omega)
    refine ⟨μ', ?_, CFr.trans hcf r2, by rw [r3]; omega, fun μm zm fu2 hB hf2 => ?_⟩
    · show mX0_run_b32 _ _ _ _ _ = _
      unfold mX0_run_b32
      refine (if_neg (by rw [Int32.le_iff_toInt_le, h1, h2]; omega)).trans ?_
      refine bind_step (gR_400_0 554 (by omega) _ _) ?_
      refine bind_step (recv_401 554 (by omega) _ _) ?_
      refine bind_step (cal_E e1) ?_
      refine bind_step (gR_400_0 554 (by omega) _ _) ?_
      refine bind_step (gR_401_1 554 (by omega) _ _) ?_
      refine bind_step (gR_400_0 554 (by omega) _ _) ?_
      refine bind_step (gR_401_1 554 (by omega) _ _) ?_
      refine bind_step (recv_400 554 (by omega) _ _) ?_
      refine bind_step (cal_w e2) ?_
      refine bind_step (recv_400 554 (by omega) _ _) ?_
      refine bind_step (cal_E e3) ?_
      refine bind_step (recv_400 554 (by omega) _ _) ?_
      refine bind_step (cal_E e4) ?_
      exact r1
    · obtain ⟨g2, rfl⟩ : ∃ g, fu2 = g + 1 := ⟨fu2 - 1, by omega⟩
      obtain ⟨F1, M1, T1, V1, F', A', N', T', V', x1, x2, x3, x4⟩ := step μm zm hB
      obtain ⟨μm', zm', w1, w2, w3⟩ := r4 _ _ g2 x4 (by omega)
      refine ⟨μm', zm', ?_, w2, MFr.trans x3 w3⟩
      have a4 : μm 538 4 = μ 402 3 := hB.1.1.1.2.2.2.1
      show mX2_areRun_b2 _ _ _ _ _ = _
      unfold mX2_areRun_b2
      refine (if_neg (by rw [Int32.le_iff_toInt_le, h1, h2]; omega)).trans ?_
      refine bind_step (gR_537_0 554 (by omega) _ _) ?_
      refine bind_step (ia_E (n := 4) isI_538 rfl (by omega)) ?_
      rw [a4]
      refine bind_step (recv_537 554 (by omega) _ _) ?_
      have x1' := x1
      rw [WM_0] at x1'
      have xe : cal (E μm zm) (mX2_commandNow 537 (μ 402 3) (E μm zm)) = some (handF (μ 540) (μ 402 3) (μ 403), WM μm zm F1 (μm 538) M1 T1 V1) := cal_Z x1 (Nat.le_refl _) (Nat.le_refl _)
      refine bind_step xe ?_
      refine bind_step (recv_537 554 (by omega) _ _) ?_
      refine bind_step (calM x2) ?_
      refine (if_pos one_ne).trans ?_
      exact w1
theorem run_op (a : Int32) : Op Int32 0 0 (fun w => mX0_run 400 a w) (fun w => mX2_run 537 a w) := by
  intro μ z ⟨μm0, zm0, hB0⟩
  obtain ⟨t, ht, ht9⟩ := now_t hB0
  rcases inB_01 a 1 60 with hin | hin
  · refine Op_same (-1) ?_ (fun μm zm h => ?_)
    · show mX0_run 400 a (E μ z) = _
      unfold mX0_run
      refine bind_step (cal_w (in_E _ _ _ _)) ?_
      exact if_pos hin
    · show mX2_run 537 a (E μm zm) = _
      unfold mX2_run
      refine bind_step (cal_w (isIn_E _ _ _ _)) ?_
      exact if_pos hin
  · have hn : ¬ inB a 1 60 = 0 := by rw [hin]; exact one_ne
    obtain ⟨b1, b2⟩ := inB_bd.mp hin
    have c1 : (1 : Int32).toInt = 1 := rfl
    have c60 : (60 : Int32).toInt = 60 := rfl
    obtain ⟨d, hd⟩ : ∃ d : Nat, a.toInt = (d : Int) := ⟨a.toInt.toNat, by omega⟩
    have es : (μ 403 8 + a).toInt = ((t + d : Nat) : Int) := addN ht hd (by omega)
    have p16 : ∀ μm zm, Both μ z μm zm → μm 538 16 = μ 403 8 := fun μm zm h => h.1.2.2.2.2.1.1 8 (by omega)
    by_cases h9 : t + d ≤ 9999
    · obtain ⟨μ', r1, r2, r3, r4⟩ := run_loop d μ z t 0 FU a 0 ⟨μm0, zm0, hB0⟩ ht h9 (by rw [hd]; omega) rfl (by unfold FU; omega) (by omega)
      refine ⟨μ' 403 0, μ', z, ?_, r2, fun μm zm hB => ?_⟩
      · show mX0_run 400 a (E μ z) = _
        unfold mX0_run
        refine bind_step (cal_w (in_E _ _ _ _)) ?_
        refine (if_neg hn).trans ?_
        refine bind_step (gR_400_0 554 (by omega) _ _) ?_
        refine bind_step (gR_401_1 554 (by omega) _ _) ?_
        refine bind_step (ia_E (n := 8) isI_403 rfl (by omega)) ?_
        refine (if_pos (by rw [Int32.le_iff_toInt_le, es]; show _ ≤ (9999 : Int); omega)).trans ?_
        exact r1
      · obtain ⟨μm', zm', w1, w2, w3⟩ := r4 μm zm FU hB (by unfold FU; omega)
        refine ⟨μm', zm', ?_, w2, w3⟩
        show mX2_run 537 a (E μm zm) = _
        unfold mX2_run
        refine bind_step (cal_w (isIn_E _ _ _ _)) ?_
        refine (if_neg hn).trans ?_
        refine bind_step (gR_537_0 554 (by omega) _ _) ?_
        refine bind_step (ia_E (n := 16) isI_538 rfl (by omega)) ?_
        rw [p16 μm zm hB]
        refine (if_neg (by rw [Int32.lt_iff_toInt_lt, es]; show ¬ (9999 : Int) < _; omega)).trans ?_
        refine bind_step (recv_537 554 (by omega) _ _) ?_
        have xe : cal (E μm zm) (mX2_areRun 537 a (E μm zm)) = some (1, E μm' zm') := cal_Z w1 (by rw [w3.2.2]; exact Nat.le_refl _) (by rw [w3.2.2]; exact Nat.le_refl _)
        refine bind_step xe ?_
        refine (if_neg one_ne).trans ?_
        refine bind_step (gR_537_0 554 (by omega) _ _) ?_
        refine bind_step (ia_E (n := 8) isI_538 rfl (by omega)) ?_
        have : μm' 538 8 = μ' 403 0 := w2.1.2.2.2.2.1.1 0 (by omega)
        rw [this]
    · refine Op_same (-1) ?_ (fun μm zm h => ?_)
      · show mX0_run 400 a (E μ z) = _
        unfold mX0_run
        refine bind_step (cal_w (in_E _ _ _ _)) ?_
        refine (if_neg hn).trans ?_
        refine bind_step (gR_400_0 554 (by omega) _ _) ?_
        refine bind_step (gR_401_1 554 (by omega) _ _) ?_
        refine bind_step (ia_E (n := 8) isI_403 rfl (by omega)) ?_
        exact if_neg (by rw [Int32.le_iff_toInt_le, es]; show ¬ _ ≤ (9999 : Int); omega)
      · show mX2_run 537 a (E μm zm) = _
        unfold mX2_run
        refine bind_step (cal_w (isIn_E _ _ _ _)) ?_
        refine (if_neg hn).trans ?_
        refine bind_step (gR_537_0 554 (by omega) _ _) ?_
        refine bind_step (ia_E (n := 16) isI_538 rfl (by omega)) ?_
        rw [p16 μm zm h]
        exact if_pos (by rw [Int32.lt_iff_toInt_lt, es]; show (9999 : Int) < _; omega)
theorem ow_run (L : Nat) (xs : Nat → Int32) : Ow_run (Inv (TX TT) L xs) := fun n μ z a hI => Agr_op (by omega) hI (run_op a)
