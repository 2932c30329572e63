/-! ===== by ===== -/
/-- by: the text that is played by -/
theorem PS_by {n X A : Nat → Int32} {ord said bar step : Nat → Nat → Int32} {v : Int32} (hv : -1 ≤ v.toInt ∧ v.toInt < (n 2).toInt) (h : PS n X ord said bar step A) : PS (upd n 3 v) X ord said bar step (upd A 4 v) := by
  obtain ⟨⟨⟨a0, a1, a3, a4, a5, a6, a18⟩, b0, b1, b2, b3, b4, b5, b6⟩, p2, p3, p4, p5, rw, p6⟩ := h
  have e : ∀ j, j ≠ 3 → upd n 3 v j = n j := fun j hj => upd_ne hj
  have eA : ∀ i, i ≠ 4 → upd A 4 v i = A i := fun i hi => upd_ne hi
  refine ⟨⟨⟨?_, ?_, ?_, ?_, ?_, ?_, ?_⟩, ?_, ?_, ?_, ?_, ?_, ?_, ?_⟩, P2_congr (e 0 (by omega)) b0.2 (fun i _ _ => eA i (by omega)) p2, P3_congr (e 5 (by omega)) b5.2 (fun i _ _ => eA i (by omega)) p3, P4_congr (e 6 (by omega)) b6.2 (fun i _ _ => eA i (by omega)) p4, P5_congr (e 0 (by omega)) b0.2 rw.1.2.2.2.2.2.2.2.2.2.2.2.2.2 (fun i _ => eA i (by omega)) p5, RW_congr (e 0 (by omega)) (fun i _ _ => eA i (by omega)) rw, P6_congr (e 0 (by omega)) (e 4 (by omega)) b4.2 (fun i _ _ => eA i (by omega)) (fun i _ _ => eA i (by omega)) p6⟩
  · rw [eA _ (by omega), e _ (by omega)]; exact a0
  · rw [eA _ (by omega), e _ (by omega)]; exact a1
  · rw [eA _ (by omega), e _ (by omega)]; exact a3
  · rw [upd_eq, upd_eq]
  · rw [eA _ (by omega), e _ (by omega)]; exact a5
  · rw [eA _ (by omega), e _ (by omega)]; exact a6
  · rw [eA _ (by omega), e _ (by omega)]; exact a18
  · rw [e _ (by omega)]; exact b0
  · rw [e _ (by omega)]; exact b1
  · rw [e _ (by omega)]; exact b2
  · rw [upd_eq, e _ (by omega)]; exact hv
  · rw [e _ (by omega)]; exact b4
  · rw [e _ (by omega)]; exact b5
  · rw [e _ (by omega)]; exact b6
theorem by0_go {μ : Mu} {z : Zt} {a : Int32} (h : a = -1 ∨ inB a 0 (μ 402 2 - 1) = 1) : mX0_by 400 a (E μ z) = some (1, E (up μ 402 3 a) z) := by
  unfold mX0_by
  by_cases h1 : a = -1
  · refine (if_pos h1).trans ?_
    refine bind_step (gR_400_0 554 (by omega) _ _) ?_
    refine bind_step (gR_401_0 554 (by omega) _ _) ?_
    refine bind_step (ias_E (n := 3) isI_402 rfl (by omega)) ?_
    refine bind_step nok1 ?_
    rfl
  · refine (if_neg h1).trans ?_
    refine bind_step (recv_400 554 (by omega) _ _) ?_
    refine bind_step (cal_w isText0_E) ?_
    rw [h.resolve_left h1]
    refine (if_pos one_ne).trans ?_
    refine bind_step (gR_400_0 554 (by omega) _ _) ?_
    refine bind_step (gR_401_0 554 (by omega) _ _) ?_
    refine bind_step (ias_E (n := 3) isI_402 rfl (by omega)) ?_
    refine bind_step nok1 ?_
    rfl
theorem by0_no {μ : Mu} {z : Zt} {a : Int32} (h1 : ¬ a = -1) (h : inB a 0 (μ 402 2 - 1) = 0) : mX0_by 400 a (E μ z) = some (0, E μ z) := by
  unfold mX0_by
  refine (if_neg h1).trans ?_
  refine bind_step (recv_400 554 (by omega) _ _) ?_
  refine bind_step (cal_w isText0_E) ?_
  rw [h]
  refine (if_neg (fun q => q rfl)).trans ?_
  refine bind_step nok0 ?_
  rfl
theorem by2_E {μ : Mu} {z : Zt} {a : Int32} : mX2_by 537 a (E μ z) = some (inB a (-1) (μ 538 3 - 1), if inB a (-1) (μ 538 3 - 1) = 1 then E (up μ 538 4 a) z else E μ z) := by
  unfold mX2_by
  refine bind_step (gR_537_0 554 (by omega) _ _) ?_
  refine bind_step (ia_E (n := 3) isI_538 rfl (by omega)) ?_
  refine bind_step (cal_w (isIn_E _ _ _ _)) ?_
  rcases inB_01 a (-1) (μ 538 3 - 1) with h | h
  · rw [h]
    rfl
  · rw [h]
    refine (if_pos one_ne).trans ?_
    refine bind_step (gR_537_0 554 (by omega) _ _) ?_
    refine bind_step (ias_E (n := 4) isI_538 rfl (by omega)) ?_
    refine bind_step nok1 ?_
    rfl
theorem ow_by (L : Nat) (xs : Nat → Int32) : Ow_by (Inv (TX TT) L xs) := by
  intro n μ z a hI
  have hB := Inv_Both hI
  have hp := hB.1.1
  have e3 : μ 538 3 = μ 402 2 := hp.1.2.2.1
  have b2 := hp.2.2.2.1
  have m1 : (-1 : Int32).toInt = -1 := rfl
  have m0 : (0 : Int32).toInt = 0 := rfl
  have s1 : (μ 402 2 - 1).toInt = (μ 402 2).toInt - 1 := I32_sub rfl (show (1 : Int32).toInt = 1 from rfl) (by have := b2.1; have := b2.2; omega)
  by_cases h1 : a = -1 ∨ inB a 0 (μ 402 2 - 1) = 1
  · have hv : -1 ≤ a.toInt ∧ a.toInt < (μ 402 2).toInt := by
      rcases h1 with h1 | h1
      · rw [h1, m1]; have := b2.1; omega
      · have h9 := inB_bd.mp h1
        have := h9.1; have := h9.2; omega
    have hin : inB a (-1) (μ 402 2 - 1) = 1 := inB_bd.mpr ⟨by omega, by omega⟩
    refine ⟨1, up μ 402 3 a, z, up (up μ 402 3 a) 538 4 a, z, by0_go h1, ?_, ⟨Nat.le_refl _, Nat.le_refl _⟩, ⟨Nat.le_refl _, Nat.le_refl _⟩, rfl, ?_⟩
    · show mX2_by 537 a (E (up μ 402 3 a) z) = _
      have e : up μ 402 3 a 538 = μ 538 := setM_ne (by decide)
      rw [by2_E, e, e3, hin, if_pos rfl]
    · obtain ⟨h1, h2, h3, h4, h5⟩ := hI.next
      have e : ∀ k, k ≠ 402 → k ≠ 538 → up (up μ 402 3 a) 538 4 a k = μ k := fun k k1 k2 => (setM_ne k2).trans (setM_ne k1)
      have e2 : up (up μ 402 3 a) 538 4 a 402 = upd (μ 402) 3 a := (setM_ne (by decide)).trans (setM_same _ _ _)
      have e3 : up (up μ 402 3 a) 538 4 a 538 = upd (μ 538) 4 a := (setM_same _ _ _).trans (congrArg (fun f => upd f 4 a) (setM_ne (show (538 : Nat) ≠ 402 by decide)))
      refine ⟨?_, RelS_congr (fun k k1 k2 => e k (by omega) (by omega)) (e 539 (by omega) (by omega)) h2, RelT_congr (fun k hk => e k (by omega) (by omega)) h3, h4, TX_ext (e 540 (by omega) (by omega)) ?_ (by rw [e 460 (by omega) (by omega)]) rfl (fun _ _ => rfl) (Nat.le_refl _) h5⟩
      · have h9 := PS_by hv h1
        unfold RelS
        rw [show (401 + 1 : Nat) = 402 from rfl, e2, e3, e (401 + 2) (by omega) (by omega), fam_congr (μ := μ) (fun k hk => e _ (by omega) (by omega)), fam_congr (μ := μ) (b := 401 + 13) (fun k hk => e _ (by omega) (by omega)), fam_congr (μ := μ) (b := 401 + 22) (fun k hk => e _ (by omega) (by omega)), fam_congr (μ := μ) (b := 401 + 27) (fun k hk => e _ (by omega) (by omega))]
        exact h9
      · rw [e2]
        exact upd_ne (by decide)
  · have h0 : inB a 0 (μ 402 2 - 1) = 0 := (inB_01 _ _ _).resolve_right (fun q => h1 (Or.inr q))
    have hn1 : ¬ a = -1 := fun q => h1 (Or.inl q)
    have hin : inB a (-1) (μ 402 2 - 1) = 0 := (inB_01 _ _ _).resolve_right (fun q => by
      have h9 := inB_bd.mp q
      have h8 : a.toInt ≠ -1 := fun q2 => hn1 (I32_eq q2)
      have : inB a 0 (μ 402 2 - 1) = 1 := inB_bd.mpr ⟨by have := h9.1; omega, h9.2⟩
      rw [h0] at this
      cases this)
    refine Agr_ro hI 0 (by0_no hn1 h0) ?_
    show mX2_by 537 a (E μ z) = _
    rw [by2_E, e3, hin, if_neg (by decide)]
