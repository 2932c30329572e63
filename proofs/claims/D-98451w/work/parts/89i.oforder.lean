/-! ===== ofOrder ===== -/
theorem ow_ofOrder (L : Nat) (xs : Nat → Int32) : Ow_ofOrder (Inv (TX TT) L xs) := by
  intro n μ z a b hI
  obtain ⟨t, ht, ht9, hgo, hTc, hn1, h4, h2, hc7, hf25⟩ := Inv_q hI
  obtain ⟨m, hm, hm8, e0, ho⟩ := Inv_o hI
  have hz := hI.2.2.2.1.2.1
  have hgo' := hgo
  obtain ⟨hr, hmR, -⟩ := hgo'
  have c0 : (0 : Int32).toInt = 0 := rfl
  have c7 : (7 : Int32).toInt = 7 := rfl
  have c5 : (5 : Int32).toInt = 5 := rfl
  have c1 : (1 : Int32).toInt = 1 := rfl
  have em : (μ 402 0 - 1).toInt = (m : Int) - 1 := I32_sub hm c1 (by omega)
  rcases inB_01 a 0 (μ 402 0 - 1) with h | h
  · refine Agr_ro hI (-1) ?_ ?_
    · show mX0_ofOrder 400 a b (E μ z) = _
      unfold mX0_ofOrder
      refine bind_step (recv_400 554 (by omega) _ _) ?_
      refine bind_step (cal_w isOrder0_E) ?_
      exact if_pos h
    · show mX2_ofOrder 537 a b (E μ z) = _
      unfold mX2_ofOrder
      rw [WM_0]
      refine bind_step (recv_537 554 (by omega) _ _) ?_
      refine bind_step (cal_w isOrder2_E) ?_
      rw [e0]
      exact if_pos h
  have nh : ¬ inB a 0 (μ 402 0 - 1) = 0 := by rw [h]; exact one_ne
  have ba := inB_bd.mp h
  obtain ⟨o, hao⟩ : ∃ o : Nat, a.toInt = (o : Int) := ⟨a.toInt.toNat, by have := ba.1; omega⟩
  have hom : o < m := by have := ba.2; omega
  have ho8 : o < 8 := by omega
  obtain ⟨o1, o2, o3, o4⟩ := ho o hom
  rcases inB_01 b 0 7 with hb | hb
  · refine Agr_ro hI (-1) ?_ ?_
    · show mX0_ofOrder 400 a b (E μ z) = _
      unfold mX0_ofOrder
      refine bind_step (recv_400 554 (by omega) _ _) ?_
      refine bind_step (cal_w isOrder0_E) ?_
      refine (if_neg nh).trans ?_
      refine bind_step (cal_w (in_E _ _ _ _)) ?_
      exact if_neg (fun q => q hb)
    · show mX2_ofOrder 537 a b (E μ z) = _
      unfold mX2_ofOrder
      rw [WM_0]
      refine bind_step (recv_537 554 (by omega) _ _) ?_
      refine bind_step (cal_w isOrder2_E) ?_
      rw [e0]
      refine (if_neg nh).trans ?_
      refine bind_step (cal_w (isIn_E _ _ _ _)) ?_
      exact if_neg (fun q => q hb)
  have nb : ¬ inB b 0 7 = 0 := by rw [hb]; exact one_ne
  have bb := inB_bd.mp hb
  obtain ⟨j, hj⟩ : ∃ j : Nat, b.toInt = (j : Int) := ⟨b.toInt.toNat, by have := bb.1; omega⟩
  have hj7 : j ≤ 7 := by have := bb.2; omega
  have e405 : μ (405 + o) = fam μ 405 8 o := (fam_at (by omega)).symm
  have st0 : ∀ r w', (5 ≤ b → ∀ x, x = (if ¬ b = 5 then (if ¬ b = 6 then ((gR (E μ z) (some 400) 0 0).bind fun v4 => (gR (E μ z) v4 1 2).bind fun v5 => (aa (E μ z) v5 a).bind fun v6 => (ia (E μ z) v6 1).bind fun v7 => (recv (E μ z) (some 400) 0).bind fun b9 => (cal (E μ z) (mX0_holdsAt b9 v7 (E μ z))).bind fun r8 => some (r8.1, r8.2)) else ((recv (E μ z) (some 400) 0).bind fun b11 => (cal (E μ z) (mX0_lastsOf b11 a (E μ z))).bind fun r10 => some (r10.1, r10.2))) else ((gR (E μ z) (some 400) 0 0).bind fun v12 => (gR (E μ z) v12 1 1).bind fun v13 => (ia (E μ z) v13 11).bind fun v14 => some ((v14 >>> (a &&& 31)) &&& 1, E μ z))) → x = some (r, w')) → 5 ≤ b → mX0_ofOrder 400 a b (E μ z) = some (r, w') := by
    intro r w' hx h5
    unfold mX0_ofOrder
    refine bind_step (recv_400 554 (by omega) _ _) ?_
    refine bind_step (cal_w isOrder0_E) ?_
    refine (if_neg nh).trans ?_
    refine bind_step (cal_w (in_E _ _ _ _)) ?_
    refine (if_pos nb).trans ?_
    refine (if_pos h5).trans ?_
    exact hx h5 _ rfl
  have st2 : ∀ (μ1 : Mu) (r : Int32) (w' : Wd), μ1 538 0 = μ 402 0 → (∀ x, x = (if ¬ b = 6 then (if ¬ b = 7 then ((recv (E μ1 z) (some 537) 2).bind fun b5 => (cal (E μ1 z) (mX2_get b5 a b (E μ1 z))).bind fun r4 => some (r4.1, r4.2)) else ((recv (E μ1 z) (some 537) 2).bind fun b7 => (cal (E μ1 z) (mX2_get b7 a 1 (E μ1 z))).bind fun r6 => (recv r6.2 (some 537) 2).bind fun b9 => (cal r6.2 (mX2_holdsAt b9 r6.1 r6.2)).bind fun r8 => some (r8.1, r8.2))) else ((recv (E μ1 z) (some 537) 2).bind fun b11 => (cal (E μ1 z) (mX2_lastsOf b11 a (E μ1 z))).bind fun r10 => some (r10.1, r10.2))) → x = some (r, w')) → mX2_ofOrder 537 a b (E μ1 z) = some (r, w') := by
    intro μ1 r w' h538 hx
    unfold mX2_ofOrder
    refine bind_step (recv_537 554 (by omega) _ _) ?_
    refine bind_step (cal_w (v := inB a 0 (μ 402 0 - 1)) (by rw [WM_0, isOrder2_E, h538])) ?_
    refine (if_neg nh).trans ?_
    refine bind_step (cal_w (isIn_E _ _ _ _)) ?_
    refine (if_pos nb).trans ?_
    exact hx _ rfl
  by_cases h5 : 5 ≤ b
  · have h5' := h5
    rw [Int32.le_iff_toInt_le, c5, hj] at h5'
    by_cases hb5 : b = 5
    · refine Agr_ro hI (bitAt (μ 403 11) o) (st0 _ _ (fun _ x hx => ?_) h5) (st2 μ _ _ e0 (fun x hx => ?_))
      · rw [hx]
        refine (if_neg (fun q => q hb5)).trans ?_
        refine bind_step (gR_400_0 554 (by omega) _ _) ?_
        refine bind_step (gR_401_1 554 (by omega) _ _) ?_
        refine bind_step (ia_E (n := 11) isI_403 rfl (by omega)) ?_
        rw [I_nat hao, show Int32.ofNat o &&& 31 = Int32.ofNat o from and_31 ⟨o, ho8⟩]
        rfl
      · rw [hx]
        refine (if_pos (by rw [hb5]; decide)).trans ?_
        refine (if_pos (by rw [hb5]; decide)).trans ?_
        refine bind_step (recv_537 554 (by omega) _ _) ?_
        rw [WM_0]
        refine bind_step (cal_w (get_E (o := o) (w := 5) hao (by rw [hb5]; rfl) ho8 (by omega))) ?_
        rw [show 20 + 6 * o + 5 = 25 + 6 * o by omega, o4]
    · by_cases hb6 : b = 6
      · have br : bd (μ 403 4) (-1000000) 1000000 := bd_w hr.2.2.2.2.1 (by omega) (by omega)
        have bw : bd (fam μ 405 8 o 0) (-1000000) 1000000 := bd_w o2 (by omega) (by omega)
        have by' : bd (fam μ 405 8 o 1) (-1000000) 1000000 := bd_w o3 (by omega) (by omega)
        have f1 := lasts0_E hz hTc hao ho8 br (by rw [e405]; exact bw) (by rw [e405]; exact by')
        rw [e405] at f1
        generalize hμ1 : setM μ 518 (upd (upd (upd (μ 518) 5 (μ 403 4)) 6 (fam μ 405 8 o 0)) 7 (fam μ 405 8 o 1)) = μ1 at f1
        have hQ : Q8 μ μ1 := fun q hq => by rw [← hμ1]; exact setM_ne hq
        have e538 : μ1 538 = μ 538 := hQ 538 (by omega)
        have ea0 : μ 538 (20 + 6 * o) = fam μ 405 8 o 0 := o1 0 (by omega)
        have ea1 : μ 538 (20 + 6 * o + 1) = fam μ 405 8 o 1 := o1 1 (by omega)
        have e12 : μ 538 12 = μ 403 4 := hmR 4 (by omega)
        obtain ⟨T', V', f2⟩ := lasts2_E (μ := μ1) (z := z) (F := μ1 537) (A := μ1 538) (N := μ1 543) (T := μ1 545) (V := z.1 544) (a := a) (o := o) (hQ.tc hz hTc).2.1 (by rw [e538, hQ 402 (by omega), h4]; exact hTc.2.2) hao ho8 (by rw [e538, e12]; exact br) (by rw [e538, ea0]; exact bw) (by rw [e538, ea1]; exact by')
        rw [e538, e12, ea0, ea1, h4, hQ 540 (by omega)] at f2
        refine Agr_q hI ht (laF (μ 540) (μ 402 3) (μ 403 4) (fam μ 405 8 o 0) (fam μ 405 8 o 1)) (μ1 := μ1) (st0 _ _ (fun _ x hx => ?_) h5) hQ.cq (μ2 := fM μ1 (μ1 537) (μ 538) (upd (upd (upd (μ1 543) 5 (μ 403 4)) 6 (fam μ 405 8 o 0)) 7 (fam μ 405 8 o 1)) T') (z2 := zM z V') (st2 μ1 _ _ (by rw [e538]; exact e0) (fun x hx => ?_)) (MFr_M (fun j hj => rfl)) ?_
        · rw [hx]
          refine (if_pos hb5).trans ?_
          refine (if_neg (fun q => q hb6)).trans ?_
          refine bind_step (recv_400 554 (by omega) _ _) ?_
          refine bind_step (cal_E f1) ?_
          rfl
        · rw [hx]
          refine (if_neg (fun q => q hb6)).trans ?_
          refine bind_step (recv_537 554 (by omega) _ _) ?_
          rw [WM_0, e538]
          refine bind_step (calM f2) ?_
          rfl
        · exact RgOk.refl _ _
      · have hb7 : b = 7 := I32_eq (by
          have n5 : j ≠ 5 := fun q => hb5 (I32_eq (by rw [hj, q]; rfl))
          have n6 : j ≠ 6 := fun q => hb6 (I32_eq (by rw [hj, q]; rfl))
          rw [hj, c7]
          omega)
        have by' : bd (fam μ 405 8 o 1) (-1000000) 1000000 := bd_w o3 (by omega) (by omega)
        have f1 := holds0_E (a := fam μ 405 8 o 1) hz hTc by'
        generalize hμ1 : setM μ 518 (upd (μ 518) 7 (fam μ 405 8 o 1)) = μ1 at f1
        have hQ : Q8 μ μ1 := fun q hq => by rw [← hμ1]; exact setM_ne hq
        have e538 : μ1 538 = μ 538 := hQ 538 (by omega)
        have ea1 : μ 538 (20 + 6 * o + 1) = fam μ 405 8 o 1 := o1 1 (by omega)
        obtain ⟨T', V', f2⟩ := holds2_E (μ := μ1) (z := z) (F := μ1 537) (A := μ1 538) (N := μ1 543) (T := μ1 545) (V := z.1 544) (a := fam μ 405 8 o 1) (hQ.tc hz hTc).2.1 (by rw [e538, hQ 402 (by omega), h4]; exact hTc.2.2) by'
        rw [e538, h4, hQ 540 (by omega)] at f2
        refine Agr_q hI ht (hdF (μ 540) (μ 402 3) (fam μ 405 8 o 1)) (μ1 := μ1) (st0 _ _ (fun _ x hx => ?_) h5) hQ.cq (μ2 := fM μ1 (μ1 537) (μ 538) (upd (μ1 543) 7 (fam μ 405 8 o 1)) T') (z2 := zM z V') (st2 μ1 _ _ (by rw [e538]; exact e0) (fun x hx => ?_)) (MFr_M (fun j hj => rfl)) ?_
        · rw [hx]
          refine (if_pos hb5).trans ?_
          refine (if_pos hb6).trans ?_
          refine bind_step (gR_400_0 554 (by omega) _ _) ?_
          refine bind_step (gR_401_2 554 (by omega) _ _) ?_
          refine bind_step (aa_E (n := o) isA_404 hao ho8) ?_
          refine bind_step (ia_E (n := 1) (isI_405 o ho8) rfl (by omega)) ?_
          rw [e405]
          refine bind_step (recv_400 554 (by omega) _ _) ?_
          refine bind_step (cal_E f1) ?_
          rfl
        · rw [hx]
          refine (if_pos hb6).trans ?_
          refine (if_neg (fun q => q hb7)).trans ?_
          refine bind_step (recv_537 554 (by omega) _ _) ?_
          rw [WM_0, e538]
          refine bind_step (cal_w (get_E (o := o) (w := 1) hao rfl ho8 (by omega))) ?_
          rw [ea1]
          refine bind_step (recv_537 554 (by omega) _ _) ?_
          refine bind_step (calM f2) ?_
          rfl
        · exact RgOk.refl _ _
  · have hj5 : j < 5 := by
      rw [Int32.le_iff_toInt_le, c5, hj] at h5
      omega
    refine Agr_ro hI (fam μ 405 8 o j) ?_ (st2 μ _ _ e0 (fun x hx => ?_))
    · show mX0_ofOrder 400 a b (E μ z) = _
      unfold mX0_ofOrder
      refine bind_step (recv_400 554 (by omega) _ _) ?_
      refine bind_step (cal_w isOrder0_E) ?_
      refine (if_neg nh).trans ?_
      refine bind_step (cal_w (in_E _ _ _ _)) ?_
      refine (if_pos nb).trans ?_
      refine (if_neg h5).trans ?_
      refine bind_step (gR_400_0 554 (by omega) _ _) ?_
      refine bind_step (gR_401_2 554 (by omega) _ _) ?_
      refine bind_step (aa_E (n := o) isA_404 hao ho8) ?_
      refine bind_step (ia_E (n := j) (isI_405 o ho8) hj (by omega)) ?_
      rw [e405]
    · have n6 : ¬ b = 6 := fun q => by
        rw [q] at hj
        have : (6 : Int32).toInt = 6 := rfl
        omega
      have n7 : ¬ b = 7 := fun q => by
        rw [q] at hj
        omega
      rw [hx]
      refine (if_pos n6).trans ?_
      refine (if_pos n7).trans ?_
      refine bind_step (recv_537 554 (by omega) _ _) ?_
      rw [WM_0]
      refine bind_step (cal_w (get_E (o := o) (w := j) hao hj ho8 (by omega))) ?_
      rw [o1 j hj5]
