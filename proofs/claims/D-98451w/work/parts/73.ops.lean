/-! ===== the rope, the goal, the hook ===== -/
theorem WM_0 (μ : Mu) (z : Zt) : E μ z = WM μ z (μ 537) (μ 538) (μ 543) (μ 545) (z.1 544) := by
  show E μ z = E (fM μ (μ 537) (μ 538) (μ 543) (μ 545)) (zM z (z.1 544))
  rw [fM_0, zM_0]
theorem MFr_M {μ : Mu} {z : Zt} {F A N T : Nat → Int32} {V : Nat → Int64} (h : ∀ j, (j = 4 ∨ j = 5 ∨ j = 6 ∨ j = 25) → F j = μ 537 j) : MFr μ z (fM μ F A N T) (zM z V) :=
  ⟨fun k hk => fM_o ⟨by omega, by omega, by omega, by omega⟩, h, rfl⟩
theorem Kp_CFr {μ μ' : Mu} {z : Zt} {k : Nat} (h : Kp μ μ' k) : CFr 0 0 μ z μ' z := by
  obtain ⟨k1, k2, -⟩ := h
  have e := k1 400 (by omega) (by omega)
  exact ⟨fun q q1 q2 => k1 q (by omega) (by omega), by rw [e]; exact ⟨rfl, rfl, rfl, rfl⟩, fun j hj => k2 j (by omega), fun q q1 q2 => k1 q (by omega) (by omega), rfl, fun _ _ => rfl, by omega, by omega⟩
theorem CFr_set {c s : Nat} {μ μ1 : Mu} {z z1 : Zt} {Y : Nat → Int32} (h : CFr c s μ z μ1 z1) : CFr c s μ z (setM μ1 403 Y) z1 := by
  obtain ⟨a1, ⟨a2, a3, a4, a5⟩, a6, a7, a8⟩ := h
  have e : ∀ q, q ≠ 403 → setM μ1 403 Y q = μ1 q := fun q hq => setM_ne hq
  exact ⟨fun q q1 q2 => by rw [e q (by omega)]; exact a1 q q1 q2, by rw [e 400 (by omega)]; exact ⟨a2, a3, a4, a5⟩, fun j hj => by rw [e 402 (by omega)]; exact a6 j hj, fun q q1 q2 => by rw [e q (by omega)]; exact a7 q q1 q2, a8⟩
theorem CFr_C {c s l : Nat} {μ μ1 : Mu} {z z1 : Zt} {C N X : Nat → Int32} (hl : l = 403 ∨ (519 ≤ l ∧ l ≤ 536)) (hC : C 3 = μ1 400 3 ∧ C 4 = μ1 400 4 ∧ C 5 = μ1 400 5 ∧ C 7 = μ1 400 7) (h : CFr c s μ z μ1 z1) : CFr c s μ z (fC μ1 l C N X) z1 := by
  obtain ⟨a1, ⟨a2, a3, a4, a5⟩, a6, a7, a8⟩ := h
  have e : ∀ q, q ≠ 400 → q ≠ 518 → q ≠ l → fC μ1 l C N X q = μ1 q := fun q h1 h2 h3 => fC_o h1 h2 h3
  have e0 : fC μ1 l C N X 400 = C := rfl
  refine ⟨fun q q1 q2 => by rw [e q (by omega) (by omega) (by omega)]; exact a1 q q1 q2, ?_, fun j hj => by rw [e 402 (by omega) (by omega) (by omega)]; exact a6 j hj, fun q q1 q2 => by rw [e q (by omega) (by omega) (by omega)]; exact a7 q q1 q2, a8⟩
  rw [e0, hC.1, hC.2.1, hC.2.2.1, hC.2.2.2]
  exact ⟨a2, a3, a4, a5⟩
theorem PSw_set {μ : Mu} {X A Y : Nat → Int32} (h : PSw μ X A) : PSw (setM μ 403 Y) X A := by
  have e : ∀ q, q ≠ 403 → setM μ 403 Y q = μ q := fun q hq => setM_ne hq
  unfold PSw
  rw [e 402 (by omega), fam_congr (μ := μ) (fun k hk => e _ (by omega)), fam_congr (μ := μ) (b := 414) (fun k hk => e _ (by omega)), fam_congr (μ := μ) (b := 423) (fun k hk => e _ (by omega)), fam_congr (μ := μ) (b := 428) (fun k hk => e _ (by omega))]
  exact h
theorem PSw_C {μ : Mu} {l : Nat} {X A C N Y : Nat → Int32} (hl : l = 403 ∨ 519 ≤ l) (h : PSw μ X A) : PSw (fC μ l C N Y) X A := by
  have e : ∀ q, q ≠ 400 → q ≠ 518 → q ≠ l → fC μ l C N Y q = μ q := fun q h1 h2 h3 => fC_o h1 h2 h3
  unfold PSw
  rw [e 402 (by omega) (by omega) (by omega), fam_congr (μ := μ) (fun k hk => e _ (by omega) (by omega) (by omega)), fam_congr (μ := μ) (b := 414) (fun k hk => e _ (by omega) (by omega) (by omega)), fam_congr (μ := μ) (b := 423) (fun k hk => e _ (by omega) (by omega) (by omega)), fam_congr (μ := μ) (b := 428) (fun k hk => e _ (by omega) (by omega) (by omega))]
  exact h
theorem Both_next {c s : Nat} {μ μ' μm μm' : Mu} {z z' zm zm' : Zt} (hB : Both μ z μm zm) (hc : CFr c s μ z μ' z') (hm : MFr μm zm μm' zm') (hps : PSw μ' (μ' 403) (μm' 538)) : Both μ' z' μm' zm' := by
  obtain ⟨h1, h2, h3, h4, h5, h6, h7, h8⟩ := hB
  have hc' := hc
  obtain ⟨a1, ⟨a2, a3, a4, a5⟩, a6, a7, a8, a9, a10, a11⟩ := hc'
  have hm' := hm
  obtain ⟨b1, b2, b3⟩ := hm'
  exact ⟨hps, Tc_CFr hc h8 h2, TX_MFr hm h3, by rw [b1 540 (by omega), h4, a1 540 (by omega) (by omega)], by rw [b1 402 (by omega), h5, a6 2 (by omega)], by rw [a5]; exact h6, by rw [b2 25 (by omega)]; exact h7, by omega⟩
/-- a call that changes nothing -/
theorem Op_same {ρ : Type} {μ : Mu} {z : Zt} {f g : Wd → Option (ρ × Wd)} (r : ρ) (hf : f (E μ z) = some (r, E μ z)) (hg : ∀ μm zm, Both μ z μm zm → g (E μm zm) = some (r, E μm zm)) : ∃ (r : ρ) (μ' : Mu) (z' : Zt), f (E μ z) = some (r, E μ' z') ∧ CFr 0 0 μ z μ' z' ∧
    ∀ (μm : Mu) (zm : Zt), Both μ z μm zm → ∃ (μm' : Mu) (zm' : Zt), g (E μm zm) = some (r, E μm' zm') ∧ Both μ' z' μm' zm' ∧ MFr μm zm μm' zm' :=
  ⟨r, μ, z, hf, CFr.refl μ z, fun μm zm h => ⟨μm, zm, hg μm zm h, h, MFr.refl μm zm⟩⟩
/-- the numbers of steps and orders of a State -/
theorem PSw_nums {μ : Mu} {X A : Nat → Int32} (h : PSw μ X A) : ∃ k n0 : Nat, (μ 402 4).toInt = (k : Int) ∧ (μ 402 0).toInt = (n0 : Int) ∧ k ≤ 30 ∧ n0 ≤ 8 ∧ (A 5).toInt = (k : Int) ∧ (A 0).toInt = (n0 : Int) := by
  obtain ⟨⟨a0, a1, a3, a4, a5, a6, a18⟩, b0, b1, b2, b3, b4, b5, b6⟩ := h.1
  exact ⟨(μ 402 4).toInt.toNat, (μ 402 0).toInt.toNat, by have := b4.1; omega, by have := b0.1; omega, by have := b4.2; omega, by have := b0.2; omega, by rw [a5]; have := b4.1; omega, by rw [a0]; have := b0.1; omega⟩
theorem up_403 {μ μ1 : Mu} {p : Nat} {a : Int32} (e : μ1 403 = μ 403) : up μ1 403 p a = setM μ1 403 (upd (μ 403) p a) := by
  show setM μ1 403 (upd (μ1 403) p a) = _
  rw [e]
theorem sets_go {μ : Mu} {z : Zt} {k p : Nat} {i a : Int32} (hk : (μ 402 4).toInt = (k : Int)) (h30 : k ≤ 30) (hi : i.toInt = (p : Int)) (hp : p < 413) (h : ¬ μ 403 p = a) : ∃ μ1, Kp μ μ1 k ∧ mX0_sets 400 i a (E μ z) = some (1, E (setM μ1 403 (upd (μ 403) p a)) z) := by
  obtain ⟨μ1, e, hK⟩ := keeps_E (z := z) hk h30
  refine ⟨μ1, hK, ?_⟩
  unfold mX0_sets
  refine bind_step (gR_400_0 554 (by omega) _ _) ?_
  refine bind_step (gR_401_1 554 (by omega) _ _) ?_
  refine bind_step (ia_E (n := p) isI_403 hi (by omega)) ?_
  refine (if_pos h).trans ?_
  refine bind_step (gR_400_0 554 (by omega) _ _) ?_
  refine bind_step (recv_401 554 (by omega) _ _) ?_
  refine bind_step (cal_E e) ?_
  refine bind_step (gR_400_0 554 (by omega) _ _) ?_
  refine bind_step (gR_401_1 554 (by omega) _ _) ?_
  refine bind_step (ias_E (n := p) isI_403 hi (by omega)) ?_
  rw [up_403 (hK.1 403 (by omega) (by omega))]
  exact bind_step nok1 rfl
theorem sets_no {μ : Mu} {z : Zt} {p : Nat} {i a : Int32} (hi : i.toInt = (p : Int)) (hp : p < 413) (h : μ 403 p = a) : mX0_sets 400 i a (E μ z) = some (0, E μ z) := by
  unfold mX0_sets
  refine bind_step (gR_400_0 554 (by omega) _ _) ?_
  refine bind_step (gR_401_1 554 (by omega) _ _) ?_
  refine bind_step (ia_E (n := p) isI_403 hi (by omega)) ?_
  refine (if_neg (fun q => q h)).trans ?_
  exact bind_step nok0 rfl
theorem one_ne : ¬ (1 : Int32) = 0 := by decide
theorem hoist_op (a : Int32) : Op Int32 0 0 (fun w => mX0_hoist 400 a w) (fun w => mX2_hoist 537 a w) := by
  intro μ z ⟨μm0, zm0, hB0⟩
  have p4 : ∀ μm zm, Both μ z μm zm → μm 538 12 = μ 403 4 := fun μm zm h => h.1.2.2.2.2.1.1 4 (by omega)
  rcases inB_01 a 1 24 with hin | hin
  · refine Op_same 0 ?_ (fun μm zm h => ?_)
    · show mX0_hoist 400 a (E μ z) = _
      unfold mX0_hoist
      refine bind_step (cal_w (in_E _ _ _ _)) ?_
      refine (if_pos hin).trans ?_
      exact bind_step nok0 rfl
    · show mX2_hoist 537 a (E μm zm) = _
      unfold mX2_hoist
      refine bind_step (cal_w (isIn_E _ _ _ _)) ?_
      refine (if_pos hin).trans ?_
      exact bind_step nok0 rfl
  · have hn : ¬ inB a 1 24 = 0 := by rw [hin]; exact one_ne
    by_cases hx : μ 403 4 = a
    · refine Op_same 0 ?_ (fun μm zm h => ?_)
      · show mX0_hoist 400 a (E μ z) = _
        unfold mX0_hoist
        refine bind_step (cal_w (in_E _ _ _ _)) ?_
        refine (if_neg hn).trans ?_
        refine bind_step (recv_400 554 (by omega) _ _) ?_
        refine bind_step (cal_w (sets_no (p := 4) rfl (by omega) hx)) ?_
        refine (if_pos rfl).trans ?_
        exact bind_step nok0 rfl
      · show mX2_hoist 537 a (E μm zm) = _
        unfold mX2_hoist
        refine bind_step (cal_w (isIn_E _ _ _ _)) ?_
        refine (if_neg hn).trans ?_
        refine bind_step (gR_537_0 554 (by omega) _ _) ?_
        refine bind_step (ia_E (n := 12) isI_538 rfl (by omega)) ?_
        rw [p4 μm zm h]
        refine (if_neg (fun q => q hx)).trans ?_
        exact bind_step nok0 rfl
    · obtain ⟨k, n0, hk, hn0, hk30, hn8, -⟩ := PSw_nums hB0.1
      obtain ⟨μ1, hK, e⟩ := sets_go (z := z) (i := 4) (p := 4) (a := a) hk hk30 rfl (by omega) hx
      have hc : CFr 0 0 μ z (setM μ1 403 (upd (μ 403) 4 a)) z := CFr_set (Kp_CFr hK)
      refine ⟨1, _, z, ?_, hc, fun μm zm hB => ?_⟩
      · show mX0_hoist 400 a (E μ z) = _
        unfold mX0_hoist
        refine bind_step (cal_w (in_E _ _ _ _)) ?_
        refine (if_neg hn).trans ?_
        refine bind_step (recv_400 554 (by omega) _ _) ?_
        refine bind_step (cal_E e) ?_
        refine (if_neg one_ne).trans ?_
        exact bind_step nok1 rfl
      · obtain ⟨k', n0', hk', hn0', -, -, hA5, hA0⟩ := PSw_nums hB.1
        have hkk : k' = k := by omega
        have hnn : n0' = n0 := by omega
        subst hkk hnn
        have hmf : MFr μm zm (fM μm (μm 537) (upd (keM k' n0' (μm 538)) 12 a) (μm 543) (μm 545)) (zM zm (zm.1 544)) := MFr_M (fun _ _ => rfl)
        refine ⟨_, _, ?_, Both_next hB hc hmf ?_, hmf⟩
        · show mX2_hoist 537 a (E μm zm) = _
          rw [WM_0]
          unfold mX2_hoist
          refine bind_step (cal_w (isIn_E _ _ _ _)) ?_
          refine (if_neg hn).trans ?_
          refine bind_step (gR_537_0 554 (by omega) _ _) ?_
          refine bind_step (iaA (n := 12) rfl (by omega)) ?_
          rw [p4 μm zm hB]
          refine (if_pos hx).trans ?_
          refine bind_step (recv_537 554 (by omega) _ _) ?_
          refine bind_step (cal_E (keep_E hA5 hk30 hA0 hn8)) ?_
          refine bind_step (gR_537_0 554 (by omega) _ _) ?_
          refine bind_step (iasA (n := 12) rfl (by omega)) ?_
          exact bind_step nok1 rfl
        · obtain ⟨q1, q2⟩ := keep_PS hK hk hn0 hB.1
          have e403 : μ1 403 = μ 403 := hK.1 403 (by omega) (by omega)
          rw [e403] at q1 q2
          refine PSw_set ?_
          rw [setM_same]
          have q1' := q1
          obtain ⟨⟨-, -⟩, -, -, -, ⟨f1, f2, f3, f4, f5, f6, f7⟩, ⟨⟨r0, r1, r2, r3, r4, r5, r6, r7, r8, r9, r10, r11, r12⟩, hr, g1, g2, g3⟩, -⟩ := q1'
          have hv := inB_bd.mp hin
          refine (PS_nums (s := 40) (by omega) (fun j j4 _ _ _ => upN j4) (by rw [upd_eq]; exact hv) (by rw [upN (by omega)]; exact r5) (by rw [upN (by omega)]; exact r7) (by rw [upN (by omega)]; exact ⟨r10.1, f7⟩) (by rw [upN (by omega)]; exact g2) (fun j hj => ?_) ?_ (fun i hi => ?_) q1 q2).1
          · by_cases j4 : j = 4
            · subst j4
              show upd (keM k' n0' (μm 538)) 12 a 12 = upd (μ 403) 4 a 4
              rw [upd_eq, upd_eq]
            · show upd (keM k' n0' (μm 538)) 12 a (8 + j) = _
              rw [upN (by omega), upN j4]
              exact f1 j hj
          · show upd (keM k' n0' (μm 538)) 12 a 17 = _
            rw [upN (by omega), upN (by omega)]
            exact f3
          · exact upN (by omega)
theorem aim_op (a : Int32) : Op Int32 0 0 (fun w => mX0_aim 400 a w) (fun w => mX2_aim 537 a w) := by
  intro μ z ⟨μm0, zm0, hB0⟩
  have p4 : ∀ μm zm, Both μ z μm zm → μm 538 15 = μ 403 7 := fun μm zm h => h.1.2.2.2.2.1.1 7 (by omega)
  rcases inB_01 a 0 600 with hin | hin
  · refine Op_same 0 ?_ (fun μm zm h => ?_)
    · show mX0_aim 400 a (E μ z) = _
      unfold mX0_aim
      refine bind_step (cal_w (in_E _ _ _ _)) ?_
      refine (if_pos hin).trans ?_
      exact bind_step nok0 rfl
    · show mX2_aim 537 a (E μm zm) = _
      unfold mX2_aim
      refine bind_step (cal_w (isIn_E _ _ _ _)) ?_
      refine (if_pos hin).trans ?_
      exact bind_step nok0 rfl
  · have hn : ¬ inB a 0 600 = 0 := by rw [hin]; exact one_ne
    by_cases hx : μ 403 7 = a
    · refine Op_same 0 ?_ (fun μm zm h => ?_)
      · show mX0_aim 400 a (E μ z) = _
        unfold mX0_aim
        refine bind_step (cal_w (in_E _ _ _ _)) ?_
        refine (if_neg hn).trans ?_
        refine bind_step (recv_400 554 (by omega) _ _) ?_
        refine bind_step (cal_w (sets_no (p := 7) rfl (by omega) hx)) ?_
        refine (if_pos rfl).trans ?_
        exact bind_step nok0 rfl
      · show mX2_aim 537 a (E μm zm) = _
        unfold mX2_aim
        refine bind_step (cal_w (isIn_E _ _ _ _)) ?_
        refine (if_neg hn).trans ?_
        refine bind_step (gR_537_0 554 (by omega) _ _) ?_
        refine bind_step (ia_E (n := 15) isI_538 rfl (by omega)) ?_
        rw [p4 μm zm h]
        refine (if_neg (fun q => q hx)).trans ?_
        exact bind_step nok0 rfl
    · obtain ⟨k, n0, hk, hn0, hk30, hn8, -⟩ := PSw_nums hB0.1
      obtain ⟨μ1, hK, e⟩ := sets_go (z := z) (i := 7) (p := 7) (a := a) hk hk30 rfl (by omega) hx
      have hc : CFr 0 0 μ z (setM μ1 403 (upd (μ 403) 7 a)) z := CFr_set (Kp_CFr hK)
      refine ⟨1, _, z, ?_, hc, fun μm zm hB => ?_⟩
      · show mX0_aim 400 a (E μ z) = _
        unfold mX0_aim
        refine bind_step (cal_w (in_E _ _ _ _)) ?_
        refine (if_neg hn).trans ?_
        refine bind_step (recv_400 554 (by omega) _ _) ?_
        refine bind_step (cal_E e) ?_
        refine (if_neg one_ne).trans ?_
        exact bind_step nok1 rfl
      · obtain ⟨k', n0', hk', hn0', -, -, hA5, hA0⟩ := PSw_nums hB.1
        have hkk : k' = k := by omega
        have hnn : n0' = n0 := by omega
        subst hkk hnn
        have hmf : MFr μm zm (fM μm (μm 537) (upd (keM k' n0' (μm 538)) 15 a) (μm 543) (μm 545)) (zM zm (zm.1 544)) := MFr_M (fun _ _ => rfl)
        refine ⟨_, _, ?_, Both_next hB hc hmf ?_, hmf⟩
        · show mX2_aim 537 a (E μm zm) = _
          rw [WM_0]
          unfold mX2_aim
          refine bind_step (cal_w (isIn_E _ _ _ _)) ?_
          refine (if_neg hn).trans ?_
          refine bind_step (gR_537_0 554 (by omega) _ _) ?_
          refine bind_step (iaA (n := 15) rfl (by omega)) ?_
          rw [p4 μm zm hB]
          refine (if_pos hx).trans ?_
          refine bind_step (recv_537 554 (by omega) _ _) ?_
          refine bind_step (cal_E (keep_E hA5 hk30 hA0 hn8)) ?_
          refine bind_step (gR_537_0 554 (by omega) _ _) ?_
          refine bind_step (iasA (n := 15) rfl (by omega)) ?_
          exact bind_step nok1 rfl
        · obtain ⟨q1, q2⟩ := keep_PS hK hk hn0 hB.1
          have e403 : μ1 403 = μ 403 := hK.1 403 (by omega) (by omega)
          rw [e403] at q1 q2
          refine PSw_set ?_
          rw [setM_same]
          have q1' := q1
          obtain ⟨⟨-, -⟩, -, -, -, ⟨f1, f2, f3, f4, f5, f6, f7⟩, ⟨⟨r0, r1, r2, r3, r4, r5, r6, r7, r8, r9, r10, r11, r12⟩, hr, g1, g2, g3⟩, -⟩ := q1'
          have hv := inB_bd.mp hin
          refine (PS_nums (s := 40) (by omega) (fun j _ _ j7 _ => upN j7) (by rw [upN (by omega)]; exact r4) (by rw [upN (by omega)]; exact r5) (by rw [upd_eq]; exact hv) (by rw [upN (by omega)]; exact ⟨r10.1, f7⟩) (by rw [upN (by omega)]; exact g2) (fun j hj => ?_) ?_ (fun i hi => ?_) q1 q2).1
          · by_cases j4 : j = 7
            · subst j4
              show upd (keM k' n0' (μm 538)) 15 a 15 = upd (μ 403) 7 a 7
              rw [upd_eq, upd_eq]
            · show upd (keM k' n0' (μm 538)) 15 a (8 + j) = _
              rw [upN (by omega), upN j4]
              exact f1 j hj
          · show upd (keM k' n0' (μm 538)) 15 a 17 = _
            rw [upN (by omega), upN (by omega)]
            exact f3
          · exact upN (by omega)
theorem ow_hoist (L : Nat) (xs : Nat → Int32) : Ow_hoist (Inv (TX TT) L xs) := fun n μ z a hI => Agr_op (by omega) hI (hoist_op a)
theorem ow_aim (L : Nat) (xs : Nat → Int32) : Ow_aim (Inv (TX TT) L xs) := fun n μ z a hI => Agr_op (by omega) hI (aim_op a)
