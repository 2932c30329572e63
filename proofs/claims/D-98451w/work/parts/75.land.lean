/-! ===== land, move, run ===== -/
theorem hsF_congr {near : Int32} {X Y : Nat → Int32} (h : ∀ j, j < 9 → Y j = X j) : hsF near Y = hsF near X := by
  unfold hsF
  rw [h 0 (by omega), h 1 (by omega), h 2 (by omega), h 3 (by omega), h 7 (by omega)]
theorem sizeOf_E {x : Int32} {w : Wd} : mX2_sizeOf x w = some (jabsI x, w) := by
  unfold mX2_sizeOf jabsI
  split
  · rfl
  · rw [Int32.zero_sub]
theorem hsM_E {μ : Mu} {z : Zt} {F A N T : Nat → Int32} {V : Nat → Int64} : mX2_hangsStill 537 (WM μ z F A N T V) = some (hsF (A 1) (fun j => A (8 + j)), WM μ z F A N T V) := by
  unfold mX2_hangsStill hsF
  refine bind_step (gR_537_0 554 (by omega) _ _) ?_
  refine bind_step (iaA (n := 9) rfl (by omega)) ?_
  by_cases h1 : ¬ A 9 = 0
  · refine (if_pos h1).trans ?_
    rw [if_pos (show ¬ A (8 + 1) = 0 from h1)]
    exact bind_step nok0 rfl
  · refine (if_neg h1).trans ?_
    rw [if_neg (show ¬ ¬ A (8 + 1) = 0 from h1)]
    refine bind_step (gR_537_0 554 (by omega) _ _) ?_
    refine bind_step (iaA (n := 8) rfl (by omega)) ?_
    refine bind_step (gR_537_0 554 (by omega) _ _) ?_
    refine bind_step (iaA (n := 15) rfl (by omega)) ?_
    refine bind_step (cal_w sizeOf_E) ?_
    refine bind_step (gR_537_0 554 (by omega) _ _) ?_
    refine bind_step (iaA (n := 1) rfl (by omega)) ?_
    by_cases h2 : A 1 < jabsI (A 8 - A 15)
    · refine (if_pos h2).trans ?_
      rw [if_pos (show A 1 < jabsI (A (8 + 0) - A (8 + 7)) from h2)]
      exact bind_step nok0 rfl
    · refine (if_neg h2).trans ?_
      rw [if_neg (show ¬ A 1 < jabsI (A (8 + 0) - A (8 + 7)) from h2)]
      refine bind_step (recv_537 554 (by omega) _ _) ?_
      refine bind_step (cal_w away_E) ?_
      refine bind_step (cal_w sizeOf_E) ?_
      refine bind_step (gR_537_0 554 (by omega) _ _) ?_
      refine bind_step (iaA (n := 1) rfl (by omega)) ?_
      by_cases h3 : A 1 < jabsI (A 8 - A 10)
      · refine (if_pos h3).trans ?_
        rw [if_pos (show A 1 < jabsI (A (8 + 0) - A (8 + 2)) from h3)]
        exact bind_step nok0 rfl
      · refine (if_neg h3).trans ?_
        rw [if_neg (show ¬ A 1 < jabsI (A (8 + 0) - A (8 + 2)) from h3)]
        refine bind_step (gR_537_0 554 (by omega) _ _) ?_
        refine bind_step (iaA (n := 11) rfl (by omega)) ?_
        refine bind_step (cal_w sizeOf_E) ?_
        by_cases h4 : 1 < jabsI (A 11)
        · refine (if_pos h4).trans ?_
          rw [if_pos (show 1 < jabsI (A (8 + 3)) from h4)]
          exact bind_step nok0 rfl
        · refine (if_neg h4).trans ?_
          rw [if_neg (show ¬ 1 < jabsI (A (8 + 3)) from h4)]
          exact bind_step nok1 rfl
theorem writes_E {μ : Mu} {z : Zt} {C N X : Nat → Int32} {b : Nat} {v : Int32} (hb : (X 12).toInt = (b : Int)) (h7 : b ≤ 7) : mX0_writes 400 v (WC μ z 403 C N X) = some ((), WC μ z 403 C N (upd (upd (upd X (13 + 2 * b) v) (14 + 2 * b) (X 8)) 12 (X 12 + 1))) := by
  have e1 : (13 + 2 * X 12).toInt = ((13 + 2 * b : Nat) : Int) := addN (x := 13) rfl (mulN (x := 2) rfl hb (by omega)) (by omega)
  unfold mX0_writes
  refine bind_step (gR_400_0 554 (by omega) _ _) ?_
  refine bind_step (gR_401_1 554 (by omega) _ _) ?_
  refine bind_step (iaX (n := 12) okl_403 rfl (by omega)) ?_
  refine (if_pos (fun q => by rw [q] at hb; have : (20 : Int32).toInt = 20 := rfl; omega)).trans ?_
  unfold mX0_writes_p36
  refine bind_step (iaX (n := 12) okl_403 rfl (by omega)) ?_
  refine bind_step (iasX (n := 13 + 2 * b) okl_403 e1 (by omega)) ?_
  refine bind_step (iaX (n := 12) okl_403 rfl (by omega)) ?_
  rw [upN (show (12 : Nat) ≠ 13 + 2 * b by omega)]
  refine bind_step (iaX (n := 8) okl_403 rfl (by omega)) ?_
  rw [upN (show (8 : Nat) ≠ 13 + 2 * b by omega)]
  refine bind_step (iasX (n := 14 + 2 * b) okl_403 (by rw [addN e1 (y := 1) rfl (by omega)]; omega) (by omega)) ?_
  refine bind_step (iaX (n := 12) okl_403 rfl (by omega)) ?_
  rw [upN (show (12 : Nat) ≠ 14 + 2 * b by omega), upN (show (12 : Nat) ≠ 13 + 2 * b by omega)]
  refine bind_step (iasX (n := 12) okl_403 rfl (by omega)) ?_
  rfl
theorem land_op : Op Int32 0 0 (fun w => mX0_land 400 w) (fun w => mX2_land 537 w) := by
  intro μ z ⟨μm0, zm0, hB0⟩
  obtain ⟨k, n0, hk, hn0, hk30, hn8, -⟩ := PSw_nums hB0.1
  have hB0' := hB0.1
  obtain ⟨-, -, -, -, -, ⟨⟨r0, r1, r2, r3, r4, r5, r6, r7, r8, r9, r10, r11, r12⟩, -⟩, -⟩ := hB0'
  have p17 : ∀ μm zm, Both μ z μm zm → μm 538 17 = μ 403 10 := fun μm zm h => h.1.2.2.2.2.1.2.2.1
  have phs : ∀ μm zm, Both μ z μm zm → hsF (μm 538 1) (fun j => μm 538 (8 + j)) = hsF (μ 402 1) (μ 403) := fun μm zm h => by
    rw [show μm 538 1 = μ 402 1 from h.1.1.1.2.1]
    exact hsF_congr (fun j hj => h.1.2.2.2.2.1.1 j hj)
  have hs0 : ∀ μ' : Mu, μ' = μ → mX0_hangsStill 400 (some 403) (E μ' z) = some (hsF (μ 402 1) (μ 403), E μ z) := fun μ' hμ => by
    rw [hμ, WC_00 μ z 403, hangsStill_E okl_403]
  by_cases hx : μ 403 10 = -1
  · refine Op_same (-1) ?_ (fun μm zm h => ?_)
    · show mX0_land 400 (E μ z) = _
      unfold mX0_land
      refine bind_step (gR_400_0 554 (by omega) _ _) ?_
      refine bind_step (gR_401_1 554 (by omega) _ _) ?_
      refine bind_step (ia_E (n := 10) isI_403 rfl (by omega)) ?_
      exact if_pos hx
    · show mX2_land 537 (E μm zm) = _
      rw [WM_0]
      unfold mX2_land
      refine bind_step (gR_537_0 554 (by omega) _ _) ?_
      refine bind_step (iaA (n := 17) rfl (by omega)) ?_
      rw [p17 μm zm h]
      exact if_pos hx
  · by_cases hh : ¬ hsF (μ 402 1) (μ 403) = 0
    · obtain ⟨o, ho⟩ : ∃ o : Nat, (μ 403 10).toInt = (o : Int) := ⟨(μ 403 10).toInt.toNat, by
        have := r10.1
        have : (μ 403 10).toInt ≠ -1 := fun q => hx (I32_eq q)
        omega⟩
      have ho8 : o < 8 := by have := r10.2; omega
      obtain ⟨μ1, e, hK⟩ := keeps_E (z := z) hk hk30
      have e403 : μ1 403 = μ 403 := hK.1 403 (by omega) (by omega)
      have hw : E μ1 z = WC μ1 z 403 (μ1 400) (μ1 518) (μ 403) := by rw [WC_00 μ1 z 403, e403]
      rw [hw] at e
      obtain ⟨b, hb⟩ : ∃ b : Nat, (μ 403 12).toInt = (b : Int) := ⟨(μ 403 12).toInt.toNat, by have := r12.1; omega⟩
      have hbits := hB0.1.2.2.2.2.2.1.2.2.2
      have hb7 : b ≤ 7 := by
        obtain ⟨v, hv⟩ : ∃ v : Nat, (μ 403 11).toInt = (v : Int) := ⟨(μ 403 11).toInt.toNat, by have := r11.1; omega⟩
        have hc := cnt_or ⟨v, by have := r11.2; omega⟩ ⟨o, ho8⟩ (by rw [← I_nat hv]; exact hbits.1 o ho.symm)
        simp only [← I_nat hv] at hc
        have e12 : μ 403 12 = cnt (μ 403 11) := hbits.2.1
        rw [← e12] at hc
        have := hc.2.1
        omega
      have hc : CFr 0 0 μ z (fC μ1 403 (μ1 400) (μ1 518) (upd (upd (upd (upd (upd (upd (μ 403) 10 (-1)) 5 0) 11 (μ 403 11 ||| (1 <<< Int32.ofNat o))) (13 + 2 * b) (μ 403 10)) (14 + 2 * b) (μ 403 8)) 12 (μ 403 12 + 1))) z := CFr_C (Or.inl rfl) ⟨rfl, rfl, rfl, rfl⟩ (Kp_CFr hK)
      refine ⟨μ 403 10, _, z, ?_, hc, fun μm zm hB => ?_⟩
      · show mX0_land 400 (E μ z) = _
        unfold mX0_land
        refine bind_step (gR_400_0 554 (by omega) _ _) ?_
        refine bind_step (gR_401_1 554 (by omega) _ _) ?_
        refine bind_step (ia_E (n := 10) isI_403 rfl (by omega)) ?_
        refine (if_neg hx).trans ?_
        refine bind_step (gR_400_0 554 (by omega) _ _) ?_
        refine bind_step (gR_401_1 554 (by omega) _ _) ?_
        refine bind_step (recv_400 554 (by omega) _ _) ?_
        refine bind_step (cal_w (hs0 μ rfl)) ?_
        refine (if_pos hh).trans ?_
        refine bind_step (gR_400_0 554 (by omega) _ _) ?_
        refine bind_step (recv_401 554 (by omega) _ _) ?_
        refine bind_step (cal_E e) ?_
        refine bind_step (gR_400_0 554 (by omega) _ _) ?_
        refine bind_step (gR_401_1 554 (by omega) _ _) ?_
        refine bind_step (iasX (n := 10) okl_403 rfl (by omega)) ?_
        refine bind_step (gR_400_0 554 (by omega) _ _) ?_
        refine bind_step (gR_401_1 554 (by omega) _ _) ?_
        refine bind_step (iasX (n := 5) okl_403 rfl (by omega)) ?_
        refine bind_step (gR_400_0 554 (by omega) _ _) ?_
        refine bind_step (gR_401_1 554 (by omega) _ _) ?_
        refine bind_step (iaX (n := 11) okl_403 rfl (by omega)) ?_
        rw [upN (show (11 : Nat) ≠ 5 by omega), upN (show (11 : Nat) ≠ 10 by omega)]
        refine bind_step (iasX (n := 11) okl_403 rfl (by omega)) ?_
        refine bind_step (recv_400 554 (by omega) _ _) ?_
        have e31 : μ 403 10 &&& 31 = Int32.ofNat o := by
          rw [I_nat ho]
          exact and_31 ⟨o, ho8⟩
        rw [e31]
        have e12 : upd (upd (upd (μ 403) 10 (-1)) 5 0) 11 (μ 403 11 ||| (1 <<< Int32.ofNat o)) 12 = μ 403 12 := by rw [upN (by omega), upN (by omega), upN (by omega)]
        have e8 : upd (upd (upd (μ 403) 10 (-1)) 5 0) 11 (μ 403 11 ||| (1 <<< Int32.ofNat o)) 8 = μ 403 8 := by rw [upN (by omega), upN (by omega), upN (by omega)]
        refine bind_step (cal_E (writes_E (by rw [e12]; exact hb) hb7)) ?_
        rw [e12, e8]
      · obtain ⟨k', n0', hk', hn0', -, -, hA5, hA0⟩ := PSw_nums hB.1
        have hkk : k' = k := by omega
        have hnn : n0' = n0 := by omega
        subst hkk hnn
        obtain ⟨q1, q2⟩ := keep_PS hK hk hn0 hB.1
        rw [e403] at q1 q2
        have q1' := q1
        obtain ⟨-, -, -, -, ⟨f1, f2, f3, f4, f5, f6, f7⟩, -, -⟩ := q1'
        have hmf : MFr μm zm (fM μm (μm 537) (upd (upd (upd (upd (upd (upd (keM k' n0' (μm 538)) (474 + 2 * b) (μ 403 10)) (475 + 2 * b) (μ 403 8)) 7 (μ 403 12 + 1)) (25 + 6 * o) 1) 17 (-1)) 13 0) (μm 543) (μm 545)) (zM zm (zm.1 544)) := MFr_M (fun _ _ => rfl)
        refine ⟨_, _, ?_, Both_next hB hc hmf ?_, hmf⟩
        · show mX2_land 537 (E μm zm) = _
          rw [WM_0]
          have f16 : keM k' n0' (μm 538) 16 = μ 403 8 := f1 8 (by omega)
          have e64 : irm (μ 403 12) 64 = some (μ 403 12) := irm_small (by omega) (by rw [hb]; show (b : Int) < 64; omega)
          have i474 : (474 + 2 * μ 403 12).toInt = ((474 + 2 * b : Nat) : Int) := addN (x := 474) rfl (mulN (x := 2) rfl hb (by omega)) (by omega)
          unfold mX2_land
          refine bind_step (gR_537_0 554 (by omega) _ _) ?_
          refine bind_step (iaA (n := 17) rfl (by omega)) ?_
          rw [p17 μm zm hB]
          refine (if_neg hx).trans ?_
          refine bind_step (recv_537 554 (by omega) _ _) ?_
          refine bind_step (cal_w hsM_E) ?_
          rw [phs μm zm hB]
          refine (if_pos hh).trans ?_
          refine bind_step (recv_537 554 (by omega) _ _) ?_
          refine bind_step (cal_E (keep_E hA5 hk30 hA0 hn8)) ?_
          refine bind_step (gR_537_0 554 (by omega) _ _) ?_
          refine bind_step (gR_537_0 554 (by omega) _ _) ?_
          refine bind_step (iaA (n := 7) rfl (by omega)) ?_
          rw [f4]
          refine bind_step e64 ?_
          refine bind_step (iasA (n := 474 + 2 * b) i474 (by omega)) ?_
          refine bind_step (gR_537_0 554 (by omega) _ _) ?_
          refine bind_step (gR_537_0 554 (by omega) _ _) ?_
          refine bind_step (iaA (n := 7) rfl (by omega)) ?_
          rw [upN (show (7 : Nat) ≠ 474 + 2 * b by omega), f4]
          refine bind_step e64 ?_
          refine bind_step (gR_537_0 554 (by omega) _ _) ?_
          refine bind_step (iaA (n := 16) rfl (by omega)) ?_
          rw [upN (show (16 : Nat) ≠ 474 + 2 * b by omega), f16]
          refine bind_step (iasA (n := 475 + 2 * b) (by rw [addN i474 (y := 1) rfl (by omega)]; omega) (by omega)) ?_
          refine bind_step (gR_537_0 554 (by omega) _ _) ?_
          refine bind_step (iaA (n := 7) rfl (by omega)) ?_
          rw [upN (show (7 : Nat) ≠ 475 + 2 * b by omega), upN (show (7 : Nat) ≠ 474 + 2 * b by omega), f4]
          refine bind_step (iasA (n := 7) rfl (by omega)) ?_
          refine bind_step (gR_537_0 554 (by omega) _ _) ?_
          refine bind_step (iasA (n := 25 + 6 * o) (by rw [addN (addN (x := 20) rfl (mulN (x := 6) rfl ho (by omega)) (by omega)) (y := 5) rfl (by omega)]; omega) (by omega)) ?_
          refine bind_step (gR_537_0 554 (by omega) _ _) ?_
          refine bind_step (iasA (n := 17) rfl (by omega)) ?_
          refine bind_step (gR_537_0 554 (by omega) _ _) ?_
          refine bind_step (iasA (n := 13) rfl (by omega)) ?_
          rfl
        · refine PSw_C (Or.inl rfl) ?_
          rw [fC_l okl_403]
          show PSw μ1 _ (upd (upd (upd (upd (upd (upd (keM k' n0' (μm 538)) (474 + 2 * b) (μ 403 10)) (475 + 2 * b) (μ 403 8)) 7 (μ 403 12 + 1)) (25 + 6 * o) 1) 17 (-1)) 13 0)
          generalize keM k' n0' (μm 538) = B at *
          refine (PS_land (s := 40) (o := o) (b := b) (by omega) ho hb ?_ ?_ ?_ upd_eq ?_ ?_ (fun j j5 j10 j11 j12 j13 j14 => ?_) ?_ upd_eq ?_ ?_ ?_ ?_ (fun i i7 i13 i17 i25 i474 i475 => ?_) q1 q2).1
          · rw [upN (by omega), upN (by omega), upN (by omega), upN (by omega), upN (by omega), upd_eq]
          · rw [upN (by omega), upN (by omega), upN (by omega), upN (by omega), upd_eq]
          · rw [upN (by omega), upN (by omega), upN (by omega), upd_eq]
          · rw [upN (by omega), upN (by omega), upd_eq]
          · rw [upN (by omega), upd_eq]
          · rw [upN j12, upN j14, upN j13, upN j11, upN j5, upN j10]
          · rw [upN (by omega), upd_eq]
          · rw [upN (by omega), upN (by omega), upd_eq]
          · rw [upN (by omega), upN (by omega), upN (by omega), upd_eq]
          · rw [upN (by omega), upN (by omega), upN (by omega), upN (by omega), upN (by omega), upd_eq]
          · rw [upN (by omega), upN (by omega), upN (by omega), upN (by omega), upd_eq]
          · rw [upN i13, upN i17, upN i25, upN i7, upN i475, upN i474]
    · refine Op_same (-1) ?_ (fun μm zm h => ?_)
      · show mX0_land 400 (E μ z) = _
        unfold mX0_land
        refine bind_step (gR_400_0 554 (by omega) _ _) ?_
        refine bind_step (gR_401_1 554 (by omega) _ _) ?_
        refine bind_step (ia_E (n := 10) isI_403 rfl (by omega)) ?_
        refine (if_neg hx).trans ?_
        refine bind_step (gR_400_0 554 (by omega) _ _) ?_
        refine bind_step (gR_401_1 554 (by omega) _ _) ?_
        refine bind_step (recv_400 554 (by omega) _ _) ?_
        refine bind_step (cal_w (hs0 μ rfl)) ?_
        exact if_neg hh
      · show mX2_land 537 (E μm zm) = _
        rw [WM_0]
        unfold mX2_land
        refine bind_step (gR_537_0 554 (by omega) _ _) ?_
        refine bind_step (iaA (n := 17) rfl (by omega)) ?_
        rw [p17 μm zm h]
        refine (if_neg hx).trans ?_
        refine bind_step (recv_537 554 (by omega) _ _) ?_
        refine bind_step (cal_w hsM_E) ?_
        rw [phs μm zm h]
        exact if_neg hh
theorem ow_land (L : Nat) (xs : Nat → Int32) : Ow_land (Inv (TX TT) L xs) := fun n μ z hI => Agr_op (by omega) hI land_op
