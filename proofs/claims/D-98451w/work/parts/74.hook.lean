/-! ===== hook, land ===== -/
theorem bit_01 : ∀ (k : Fin 256) (o : Fin 8), bitAt (Int32.ofNat k.val) o.val = 0 ∨ bitAt (Int32.ofNat k.val) o.val = 1 := by decide +kernel
theorem bit01 {v : Int32} {o : Nat} (hv : bd v 0 255) (ho : o < 8) : bitAt v o = 0 ∨ bitAt v o = 1 := by
  obtain ⟨k, hk⟩ : ∃ k : Nat, v.toInt = (k : Int) := ⟨v.toInt.toNat, by have := hv.1; omega⟩
  have := bit_01 ⟨k, by have := hv.2; omega⟩ ⟨o, ho⟩
  rw [← I_nat hk] at this
  exact this
theorem WC_00 (μ : Mu) (z : Zt) (l : Nat) : E μ z = WC μ z l (μ 400) (μ 518) (μ l) := by
  show E μ z = E (fC μ l (μ 400) (μ 518) (μ l)) z
  rw [fC_0]
theorem isOrder0_E {μ : Mu} {z : Zt} {a : Int32} : mX0_isOrder 400 a (E μ z) = some (inB a 0 (μ 402 0 - 1), E μ z) := by
  unfold mX0_isOrder
  refine bind_step (gR_400_0 554 (by omega) _ _) ?_
  refine bind_step (gR_401_0 554 (by omega) _ _) ?_
  refine bind_step (ia_E (n := 0) isI_402 rfl (by omega)) ?_
  refine bind_step (cal_w (in_E _ _ _ _)) ?_
  rcases inB_01 a 0 (μ 402 0 - 1) with h | h
  · rw [h]; exact bind_step nok0 rfl
  · rw [h]; exact bind_step nok1 rfl
theorem isOrder2_E {μ : Mu} {z : Zt} {F A N T : Nat → Int32} {V : Nat → Int64} {a : Int32} : mX2_isOrder 537 a (WM μ z F A N T V) = some (inB a 0 (A 0 - 1), WM μ z F A N T V) := by
  unfold mX2_isOrder
  refine bind_step (gR_537_0 554 (by omega) _ _) ?_
  refine bind_step (iaA (n := 0) rfl (by omega)) ?_
  refine bind_step (cal_w (isIn_E _ _ _ _)) ?_
  rcases inB_01 a 0 (A 0 - 1) with h | h
  · rw [h]; exact bind_step nok0 rfl
  · rw [h]; exact bind_step nok1 rfl
theorem has_E {v i : Int32} {o : Nat} {w : Wd} (hv : bd v 0 255) (hi : i.toInt = (o : Int)) (ho : o < 8) : mX0_has v i w = some (bitAt v o, w) := by
  unfold mX0_has
  rw [I_nat hi, and_31 ⟨o, ho⟩]
  show (if ¬ bitAt v o = 1 then _ else _) = _
  rcases bit01 hv ho with h | h
  · rw [h]
    refine (if_pos (by decide)).trans ?_
    exact bind_step nok0 rfl
  · rw [h]
    refine (if_neg (by decide)).trans ?_
    exact bind_step nok1 rfl
/-- an order by its number -/
theorem ord_of {a n : Int32} {n0 : Nat} (hn : n.toInt = (n0 : Int)) (h8 : n0 ≤ 8) (h : inB a 0 (n - 1) = 1) : ∃ o : Nat, a.toInt = (o : Int) ∧ o < n0 := by
  have := inB_bd.mp h
  have e : (n - 1).toInt = (n0 : Int) - 1 := I32_sub hn rfl (by show -1000000000 ≤ (n0 : Int) - 1 ∧ (n0 : Int) - 1 ≤ 1000000000; omega)
  rw [e] at this
  obtain ⟨h1, h2⟩ := this
  have z0 : (0 : Int32).toInt = 0 := rfl
  exact ⟨a.toInt.toNat, by omega, by omega⟩
theorem hook_op (a : Int32) : Op Int32 0 0 (fun w => mX0_hook 400 a w) (fun w => mX2_hook 537 a w) := by
  intro μ z ⟨μm0, zm0, hB0⟩
  obtain ⟨k, n0, hk, hn0, hk30, hn8, -⟩ := PSw_nums hB0.1
  obtain ⟨-, -, -, -, -, ⟨⟨r0, r1, r2, r3, r4, r5, r6, r7, r8, r9, r10, r11, r12⟩, -⟩, -⟩ := hB0.1
  have p0 : ∀ μm zm, Both μ z μm zm → μm 538 0 = μ 402 0 := fun μm zm h => h.1.1.1.1
  have p17 : ∀ μm zm, Both μ z μm zm → μm 538 17 = μ 403 10 := fun μm zm h => h.1.2.2.2.2.1.2.2.1
  rcases inB_01 a 0 (μ 402 0 - 1) with hin | hin
  · refine Op_same 0 ?_ (fun μm zm h => ?_)
    · show mX0_hook 400 a (E μ z) = _
      unfold mX0_hook
      refine bind_step (recv_400 554 (by omega) _ _) ?_
      refine bind_step (cal_w isOrder0_E) ?_
      refine (if_pos hin).trans ?_
      exact bind_step nok0 rfl
    · show mX2_hook 537 a (E μm zm) = _
      rw [WM_0]
      unfold mX2_hook
      refine bind_step (recv_537 554 (by omega) _ _) ?_
      refine bind_step (cal_w isOrder2_E) ?_
      rw [p0 μm zm h]
      refine (if_pos hin).trans ?_
      exact bind_step nok0 rfl
  · have hn : ¬ inB a 0 (μ 402 0 - 1) = 0 := by rw [hin]; exact one_ne
    obtain ⟨o, ho, ho8⟩ := ord_of hn0 hn8 hin
    have pb : ∀ μm zm, Both μ z μm zm → μm 538 (20 + 6 * o + 5) = bitAt (μ 403 11) o := fun μm zm h => by
      rw [show 20 + 6 * o + 5 = 25 + 6 * o by omega]
      exact h.1.2.2.2.2.1.2.2.2.2.2.1 o (by omega)
    have hb01 := bit01 r11 (show o < 8 by omega)
    by_cases hno : bitAt (μ 403 11) o = 1 ∨ ¬ μ 403 10 = -1
    · refine Op_same 0 ?_ (fun μm zm h => ?_)
      · show mX0_hook 400 a (E μ z) = _
        unfold mX0_hook
        refine bind_step (recv_400 554 (by omega) _ _) ?_
        refine bind_step (cal_w isOrder0_E) ?_
        refine (if_neg hn).trans ?_
        refine bind_step (gR_400_0 554 (by omega) _ _) ?_
        refine bind_step (gR_401_1 554 (by omega) _ _) ?_
        refine bind_step (ia_E (n := 11) isI_403 rfl (by omega)) ?_
        refine bind_step (cal_w (has_E r11 ho (by omega))) ?_
        by_cases hb : ¬ bitAt (μ 403 11) o = 0
        · refine (if_pos hb).trans ?_
          exact bind_step nok0 rfl
        · refine (if_neg hb).trans ?_
          refine bind_step (gR_400_0 554 (by omega) _ _) ?_
          refine bind_step (gR_401_1 554 (by omega) _ _) ?_
          refine bind_step (ia_E (n := 10) isI_403 rfl (by omega)) ?_
          refine (if_neg (hno.resolve_left (fun q => hb (by rw [q]; decide)))).trans ?_
          exact bind_step nok0 rfl
      · show mX2_hook 537 a (E μm zm) = _
        rw [WM_0]
        unfold mX2_hook
        refine bind_step (recv_537 554 (by omega) _ _) ?_
        refine bind_step (cal_w isOrder2_E) ?_
        rw [p0 μm zm h]
        refine (if_neg hn).trans ?_
        refine bind_step (gR_537_0 554 (by omega) _ _) ?_
        refine bind_step (iaA (n := 17) rfl (by omega)) ?_
        rw [p17 μm zm h]
        by_cases hx : ¬ μ 403 10 = -1
        · refine (if_pos hx).trans ?_
          exact bind_step nok0 rfl
        · refine (if_neg hx).trans ?_
          refine bind_step (recv_537 554 (by omega) _ _) ?_
          refine bind_step (cal_w (get_E (o := o) (w := 5) ho rfl (by omega) (by omega))) ?_
          rw [pb μm zm h]
          refine (if_neg (fun q => q (hno.resolve_right hx))).trans ?_
          exact bind_step nok0 rfl
    · have hb0 : bitAt (μ 403 11) o = 0 := hb01.resolve_right (fun q => hno (Or.inl q))
      have hx : μ 403 10 = -1 := Decidable.not_not.mp (fun q => hno (Or.inr q))
      obtain ⟨μ1, e, hK⟩ := keeps_E (z := z) hk hk30
      have e403 : μ1 403 = μ 403 := hK.1 403 (by omega) (by omega)
      have eord : μ1 (405 + o) = μ (405 + o) := hK.1 _ (by omega) (by omega)
      have e0 : ∀ Y, fC μ1 403 (μ1 400) (μ1 518) Y (405 + o) = μ (405 + o) := fun Y => by rw [fC_o (by omega) (by omega) (by omega)]; exact eord
      have hw : E μ1 z = WC μ1 z 403 (μ1 400) (μ1 518) (μ 403) := by rw [WC_00 μ1 z 403, e403]
      rw [hw] at e
      have hc : CFr 0 0 μ z (fC μ1 403 (μ1 400) (μ1 518) (upd (upd (upd (μ 403) 10 a) 5 (μ (405 + o) 0)) 7 (μ (405 + o) 1 * 10))) z := CFr_C (Or.inl rfl) ⟨rfl, rfl, rfl, rfl⟩ (Kp_CFr hK)
      refine ⟨1, _, z, ?_, hc, fun μm zm hB => ?_⟩
      · show mX0_hook 400 a (E μ z) = _
        unfold mX0_hook
        refine bind_step (recv_400 554 (by omega) _ _) ?_
        refine bind_step (cal_w isOrder0_E) ?_
        refine (if_neg hn).trans ?_
        refine bind_step (gR_400_0 554 (by omega) _ _) ?_
        refine bind_step (gR_401_1 554 (by omega) _ _) ?_
        refine bind_step (ia_E (n := 11) isI_403 rfl (by omega)) ?_
        refine bind_step (cal_w (has_E r11 ho (by omega))) ?_
        refine (if_neg (fun q => q hb0)).trans ?_
        refine bind_step (gR_400_0 554 (by omega) _ _) ?_
        refine bind_step (gR_401_1 554 (by omega) _ _) ?_
        refine bind_step (ia_E (n := 10) isI_403 rfl (by omega)) ?_
        refine (if_pos hx).trans ?_
        refine bind_step (gR_400_0 554 (by omega) _ _) ?_
        refine bind_step (recv_401 554 (by omega) _ _) ?_
        refine bind_step (cal_E e) ?_
        refine bind_step (gR_400_0 554 (by omega) _ _) ?_
        refine bind_step (gR_401_1 554 (by omega) _ _) ?_
        refine bind_step (iasX (n := 10) okl_403 rfl (by omega)) ?_
        refine bind_step (gR_400_0 554 (by omega) _ _) ?_
        refine bind_step (gR_401_1 554 (by omega) _ _) ?_
        refine bind_step (gR_400_0 554 (by omega) _ _) ?_
        refine bind_step (gR_401_2 554 (by omega) _ _) ?_
        refine bind_step (aa_E (n := o) isA_404 ho (by omega)) ?_
        refine bind_step (ia_E (n := 0) (isI_405 o (by omega)) rfl (by omega)) ?_
        rw [e0]
        refine bind_step (iasX (n := 5) okl_403 rfl (by omega)) ?_
        refine bind_step (gR_400_0 554 (by omega) _ _) ?_
        refine bind_step (gR_401_1 554 (by omega) _ _) ?_
        refine bind_step (gR_400_0 554 (by omega) _ _) ?_
        refine bind_step (gR_401_2 554 (by omega) _ _) ?_
        refine bind_step (aa_E (n := o) isA_404 ho (by omega)) ?_
        refine bind_step (ia_E (n := 1) (isI_405 o (by omega)) rfl (by omega)) ?_
        rw [e0]
        refine bind_step (iasX (n := 7) okl_403 rfl (by omega)) ?_
        exact bind_step nok1 rfl
      · obtain ⟨k', n0', hk', hn0', -, -, hA5, hA0⟩ := PSw_nums hB.1
        have hkk : k' = k := by omega
        have hnn : n0' = n0 := by omega
        subst hkk hnn
        obtain ⟨q1, q2⟩ := keep_PS hK hk hn0 hB.1
        rw [e403] at q1 q2
        have q1' := q1
        obtain ⟨⟨⟨u0, u1, u3, u4, u5, u6, u18⟩, -⟩, op2, -, -, ⟨f1, f2, f3, f4, f5, f6, f7⟩, ⟨⟨r0, r1, r2, r3, r4, r5, r6, r7, r8, r9, r10, r11, r12⟩, hr, g1, g2, g3⟩, -⟩ := q1'
        have en : μ1 402 0 = μ 402 0 := hK.2.1 0 (by omega)
        obtain ⟨o1, o2, o3, -⟩ := op2 o (by rw [en]; omega)
        have ef : ∀ j, fam μ1 405 8 o j = μ (405 + o) j := fun j => by rw [fam_at (by omega), eord]
        have ow0 : keM k' n0' (μm 538) (20 + 6 * o + 0) = μ (405 + o) 0 := (o1 0 (by omega)).trans (ef 0)
        have ow1 : keM k' n0' (μm 538) (20 + 6 * o + 1) = μ (405 + o) 1 := (o1 1 (by omega)).trans (ef 1)
        rw [ef] at o2 o3
        have em10 : μ (405 + o) 1 * 10 = 10 * μ (405 + o) 1 := Int32.mul_comm _ _
        have e10 : (10 * μ (405 + o) 1).toInt = 10 * (μ (405 + o) 1).toInt := I32_mul (a := 10) (x := 10) rfl rfl (by have := o3.1; have := o3.2; omega)
        have hmf : MFr μm zm (fM μm (μm 537) (upd (upd (upd (keM k' n0' (μm 538)) 17 a) 13 (μ (405 + o) 0)) 15 (10 * μ (405 + o) 1)) (μm 543) (μm 545)) (zM zm (zm.1 544)) := MFr_M (fun _ _ => rfl)
        refine ⟨_, _, ?_, Both_next hB hc hmf ?_, hmf⟩
        · show mX2_hook 537 a (E μm zm) = _
          rw [WM_0]
          unfold mX2_hook
          refine bind_step (recv_537 554 (by omega) _ _) ?_
          refine bind_step (cal_w isOrder2_E) ?_
          rw [p0 μm zm hB]
          refine (if_neg hn).trans ?_
          refine bind_step (gR_537_0 554 (by omega) _ _) ?_
          refine bind_step (iaA (n := 17) rfl (by omega)) ?_
          rw [p17 μm zm hB]
          refine (if_neg (fun q => q hx)).trans ?_
          refine bind_step (recv_537 554 (by omega) _ _) ?_
          refine bind_step (cal_w (get_E (o := o) (w := 5) ho rfl (by omega) (by omega))) ?_
          rw [pb μm zm hB, hb0]
          refine (if_pos (show ¬ (0 : Int32) = 1 by decide)).trans ?_
          refine bind_step (recv_537 554 (by omega) _ _) ?_
          refine bind_step (cal_E (keep_E hA5 hk30 hA0 hn8)) ?_
          refine bind_step (gR_537_0 554 (by omega) _ _) ?_
          refine bind_step (iasA (n := 17) rfl (by omega)) ?_
          refine bind_step (gR_537_0 554 (by omega) _ _) ?_
          refine bind_step (recv_537 554 (by omega) _ _) ?_
          refine bind_step (cal_w (get_E (o := o) (w := 0) ho rfl (by omega) (by omega))) ?_
          rw [upN (show 20 + 6 * o + 0 ≠ 17 by omega), ow0]
          refine bind_step (iasA (n := 13) rfl (by omega)) ?_
          refine bind_step (gR_537_0 554 (by omega) _ _) ?_
          refine bind_step (recv_537 554 (by omega) _ _) ?_
          refine bind_step (cal_w (get_E (o := o) (w := 1) ho rfl (by omega) (by omega))) ?_
          rw [upN (show 20 + 6 * o + 1 ≠ 13 by omega), upN (show 20 + 6 * o + 1 ≠ 17 by omega), ow1]
          refine bind_step (iasA (n := 15) rfl (by omega)) ?_
          exact bind_step nok1 rfl
        · refine PSw_C (Or.inl rfl) ?_
          rw [fC_l okl_403, em10]
          show PSw μ1 _ (upd (upd (upd (keM k' n0' (μm 538)) 17 a) 13 (μ (405 + o) 0)) 15 (10 * μ (405 + o) 1))
          generalize μ (405 + o) 0 = w0 at *
          generalize 10 * μ (405 + o) 1 = w1 at *
          generalize keM k' n0' (μm 538) = B at *
          refine (PS_nums (s := 40) (by omega) (fun j j4 j5 j7 j10 => by rw [upN j7, upN j5, upN j10]) (by rw [upN (by omega), upN (by omega), upN (by omega)]; exact r4) (by rw [upN (by omega), upd_eq]; exact bd_w o2 (by omega) (by omega)) (by rw [upd_eq]; exact ⟨by rw [e10]; have := o3.1; omega, by rw [e10]; have := o3.2; omega⟩) (by rw [upN (by omega), upN (by omega), upd_eq, en]; omega) (fun o' h' => ?_) (fun j hj => ?_) ?_ (fun i hi => ?_) q1 q2).1
          · rw [upN (by omega), upN (by omega), upd_eq] at h'
            rw [show o' = o by omega]
            exact hb0
          · match j, hj with
            | 0, _ => rw [upN (by omega), upN (by omega), upN (by omega), upN (by omega), upN (by omega), upN (by omega)]; exact f1 0 (by omega)
            | 1, _ => rw [upN (by omega), upN (by omega), upN (by omega), upN (by omega), upN (by omega), upN (by omega)]; exact f1 1 (by omega)
            | 2, _ => rw [upN (by omega), upN (by omega), upN (by omega), upN (by omega), upN (by omega), upN (by omega)]; exact f1 2 (by omega)
            | 3, _ => rw [upN (by omega), upN (by omega), upN (by omega), upN (by omega), upN (by omega), upN (by omega)]; exact f1 3 (by omega)
            | 4, _ => rw [upN (by omega), upN (by omega), upN (by omega), upN (by omega), upN (by omega), upN (by omega)]; exact f1 4 (by omega)
            | 5, _ => rw [upN (show 8 + 5 ≠ 15 by omega), show 8 + 5 = 13 from rfl, upd_eq, upN (by omega), upd_eq]
            | 6, _ => rw [upN (by omega), upN (by omega), upN (by omega), upN (by omega), upN (by omega), upN (by omega)]; exact f1 6 (by omega)
            | 7, _ => rw [show 8 + 7 = 15 from rfl, upd_eq, upd_eq]
            | 8, _ => rw [upN (by omega), upN (by omega), upN (by omega), upN (by omega), upN (by omega), upN (by omega)]; exact f1 8 (by omega)
          · rw [upN (by omega), upN (by omega), upd_eq, upN (by omega), upN (by omega), upd_eq]
          · rw [upN (by omega), upN (by omega), upN (by omega)]
theorem ow_hook (L : Nat) (xs : Nat → Int32) : Ow_hook (Inv (TX TT) L xs) := fun n μ z a hI => Agr_op (by omega) hI (hook_op a)
