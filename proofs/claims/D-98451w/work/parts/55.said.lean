/-! ===== said ===== -/
theorem up_at {μ : Mu} {k j : Nat} {v : Int32} : up μ k j v k j = v := by
  show setM μ k (upd (μ k) j v) k j = v
  rw [setM_same, upd_eq]
theorem said0_clear {μ : Mu} {z : Zt} {b : Int32} : mX0_said 400 (-1) b (E μ z) = some (0, E (up μ 402 5 0) z) := by
  unfold mX0_said
  rw [if_neg (fun q => q rfl)]
  refine bind_step (gR_400_0 554 (by omega) _ _) ?_
  refine bind_step (gR_401_0 554 (by omega) _ _) ?_
  refine bind_step (ias_E (n := 5) isI_402 rfl (by omega)) ?_
  rfl
theorem said2_clear {μ : Mu} {z : Zt} {b : Int32} : mX2_said 537 (-1) b (E μ z) = some (0, E (up μ 538 6 0) z) := by
  unfold mX2_said
  rw [if_neg (fun q => q rfl)]
  refine bind_step (gR_537_0 554 (by omega) _ _) ?_
  refine bind_step (ias_E (n := 6) isI_538 rfl (by omega)) ?_
  rfl
theorem said0_no {μ : Mu} {z : Zt} {a b : Int32} (h0 : ¬ a = -1) (h : inB a 0 10 = 0 ∨ μ 402 5 = 8) : mX0_said 400 a b (E μ z) = some (-2, E μ z) := by
  unfold mX0_said
  rw [if_pos h0]
  refine bind_step (cal_w (in_E _ _ _ _)) ?_
  by_cases h1 : inB a 0 10 = 0
  · exact if_pos h1
  · refine (if_neg h1).trans ?_
    refine bind_step (gR_400_0 554 (by omega) _ _) ?_
    refine bind_step (gR_401_0 554 (by omega) _ _) ?_
    refine bind_step (ia_E (n := 5) isI_402 rfl (by omega)) ?_
    exact if_neg (fun q => q (h.resolve_left h1))
theorem said2_no {μ : Mu} {z : Zt} {a b : Int32} (h0 : ¬ a = -1) (h : inB a 0 10 = 0 ∨ μ 538 6 = 8) : mX2_said 537 a b (E μ z) = some (-2, E μ z) := by
  unfold mX2_said
  rw [if_pos h0]
  refine bind_step (cal_w (isIn_E _ _ _ _)) ?_
  by_cases h1 : inB a 0 10 = 0
  · exact if_pos h1
  · refine (if_neg h1).trans ?_
    refine bind_step (gR_537_0 554 (by omega) _ _) ?_
    refine bind_step (ia_E (n := 6) isI_538 rfl (by omega)) ?_
    exact if_neg (fun q => q (h.resolve_left h1))
theorem said0_go {μ : Mu} {z : Zt} {a b : Int32} {k : Nat} (h0 : ¬ a = -1) (h1 : inB a 0 10 = 1) (hk : (μ 402 5).toInt = (k : Int)) (hk8 : k < 8) (hb : b = 0 ∨ b = 1) : mX0_said 400 a b (E μ z) = some (μ 402 5 + 1, E (up (up (up μ (414 + k) 0 a) (414 + k) 1 b) 402 5 (μ 402 5 + 1)) z) := by
  have hI := isI_414 k (by omega)
  have n8 : ¬ μ 402 5 = 8 := fun q => by
    rw [q] at hk
    have : (8 : Int32).toInt = 8 := rfl
    omega
  have e1 : up μ (414 + k) 0 a 402 = μ 402 := setM_ne (by omega)
  have e2 : up (up μ (414 + k) 0 a) (414 + k) 1 b 402 = μ 402 := (setM_ne (by omega)).trans e1
  unfold mX0_said
  rw [if_pos h0]
  refine bind_step (cal_w (in_E _ _ _ _)) ?_
  refine (if_neg (show ¬ inB a 0 10 = 0 by rw [h1]; decide)).trans ?_
  refine bind_step (gR_400_0 554 (by omega) _ _) ?_
  refine bind_step (gR_401_0 554 (by omega) _ _) ?_
  refine bind_step (ia_E (n := 5) isI_402 rfl (by omega)) ?_
  refine (if_pos n8).trans ?_
  refine bind_step (gR_400_0 554 (by omega) _ _) ?_
  refine bind_step (gR_401_3 554 (by omega) _ _) ?_
  refine bind_step (gR_400_0 554 (by omega) _ _) ?_
  refine bind_step (gR_401_0 554 (by omega) _ _) ?_
  refine bind_step (ia_E (n := 5) isI_402 rfl (by omega)) ?_
  refine bind_step (aa_E (n := k) isA_413 hk hk8) ?_
  refine bind_step (ias_E (n := 0) hI rfl (by omega)) ?_
  refine bind_step (gR_400_0 554 (by omega) _ _) ?_
  refine bind_step (gR_401_3 554 (by omega) _ _) ?_
  refine bind_step (gR_400_0 554 (by omega) _ _) ?_
  refine bind_step (gR_401_0 554 (by omega) _ _) ?_
  refine bind_step (ia_E (n := 5) isI_402 rfl (by omega)) ?_
  refine bind_step (aa_E (n := k) isA_413 (by rw [e1]; exact hk) hk8) ?_
  have tail : mX0_said_p91 (E (up μ (414 + k) 0 a) z) (some 400) b 1 (some (414 + k)) = some (μ 402 5 + 1, E (up (up (up μ (414 + k) 0 a) (414 + k) 1 b) 402 5 (μ 402 5 + 1)) z) := by
    unfold mX0_said_p91
    refine bind_step (ias_E (n := 1) hI rfl (by omega)) ?_
    refine bind_step (gR_400_0 554 (by omega) _ _) ?_
    refine bind_step (gR_401_0 554 (by omega) _ _) ?_
    refine bind_step (ia_E (n := 5) isI_402 rfl (by omega)) ?_
    rw [e2]
    refine bind_step (ias_E (n := 5) isI_402 rfl (by omega)) ?_
    refine bind_step (gR_400_0 554 (by omega) _ _) ?_
    refine bind_step (gR_401_0 554 (by omega) _ _) ?_
    refine bind_step (ia_E (n := 5) isI_402 rfl (by omega)) ?_
    rw [up_at]
  rcases hb with rfl | rfl
  · exact (if_pos rfl).trans tail
  · exact (if_neg (by decide)).trans tail
theorem said2_go {μ : Mu} {z : Zt} {a b : Int32} {k : Nat} (h0 : ¬ a = -1) (h1 : inB a 0 10 = 1) (hk : (μ 538 6).toInt = (k : Int)) (hk8 : k < 8) (hb : b = 0 ∨ b = 1) : mX2_said 537 a b (E μ z) = some (μ 538 6 + 1, E (up (up (up μ 538 (68 + 2 * k) a) 538 (69 + 2 * k) b) 538 6 (μ 538 6 + 1)) z) := by
  have n8 : ¬ μ 538 6 = 8 := fun q => by
    rw [q] at hk
    have : (8 : Int32).toInt = 8 := rfl
    omega
  have e1 : up μ 538 (68 + 2 * k) a 538 6 = μ 538 6 := by
    show setM μ 538 (upd (μ 538) (68 + 2 * k) a) 538 6 = _
    rw [setM_same, upd_ne (by omega)]
  have e2 : up (up μ 538 (68 + 2 * k) a) 538 (69 + 2 * k) b 538 6 = μ 538 6 := by
    show setM _ 538 (upd (up μ 538 (68 + 2 * k) a 538) (69 + 2 * k) b) 538 6 = _
    rw [setM_same, upd_ne (by omega)]
    exact e1
  have i1 : (68 + 2 * μ 538 6).toInt = ((68 + 2 * k : Nat) : Int) := by
    have a1 := I32_mul (a := 2) (b := μ 538 6) (x := 2) (y := k) rfl hk (by omega)
    have a2 := I32_small (a := 68) (b := 2 * μ 538 6) (x := 68) (y := 2 * k) rfl a1 (by omega)
    rw [a2]
    omega
  unfold mX2_said
  rw [if_pos h0]
  refine bind_step (cal_w (isIn_E _ _ _ _)) ?_
  refine (if_neg (show ¬ inB a 0 10 = 0 by rw [h1]; decide)).trans ?_
  refine bind_step (gR_537_0 554 (by omega) _ _) ?_
  refine bind_step (ia_E (n := 6) isI_538 rfl (by omega)) ?_
  refine (if_pos n8).trans ?_
  refine bind_step (gR_537_0 554 (by omega) _ _) ?_
  refine bind_step (gR_537_0 554 (by omega) _ _) ?_
  refine bind_step (ia_E (n := 6) isI_538 rfl (by omega)) ?_
  refine bind_step (ias_E (n := 68 + 2 * k) isI_538 i1 (by omega)) ?_
  refine bind_step (gR_537_0 554 (by omega) _ _) ?_
  refine bind_step (gR_537_0 554 (by omega) _ _) ?_
  refine bind_step (ia_E (n := 6) isI_538 rfl (by omega)) ?_
  rw [e1]
  have i2 : (68 + 2 * μ 538 6 + 1).toInt = ((69 + 2 * k : Nat) : Int) := by
    rw [I32_small (a := 68 + 2 * μ 538 6) (b := 1) (y := 1) i1 rfl (by omega)]
    omega
  have tail : mX2_said_p85 (E (up μ 538 (68 + 2 * k) a) z) (some 537) b (68 + 2 * μ 538 6 + 1) (some 538) = some (μ 538 6 + 1, E (up (up (up μ 538 (68 + 2 * k) a) 538 (69 + 2 * k) b) 538 6 (μ 538 6 + 1)) z) := by
    unfold mX2_said_p85
    refine bind_step (ias_E (n := 69 + 2 * k) isI_538 i2 (by omega)) ?_
    refine bind_step (gR_537_0 554 (by omega) _ _) ?_
    refine bind_step (ia_E (n := 6) isI_538 rfl (by omega)) ?_
    rw [e2]
    refine bind_step (ias_E (n := 6) isI_538 rfl (by omega)) ?_
    refine bind_step (gR_537_0 554 (by omega) _ _) ?_
    refine bind_step (ia_E (n := 6) isI_538 rfl (by omega)) ?_
    rw [up_at]
  rcases hb with rfl | rfl
  · exact (if_pos rfl).trans tail
  · exact (if_neg (by decide)).trans tail
theorem PS_said {n n' X A A' : Nat → Int32} {ord said said' bar step : Nat → Nat → Int32} {k : Nat} {a b v : Int32} (hk : (n 5).toInt = (k : Int)) (hk8 : k < 8) (ha : bd a 0 10) (hb : bd b 0 1) (hn : ∀ j, j ≠ 5 → n' j = n j) (hn5 : n' 5 = v) (hv : v.toInt = ((k + 1 : Nat) : Int))
    (hs : ∀ o, o ≠ k → said' o = said o) (hs0 : said' k 0 = a) (hs1 : said' k 1 = b) (hA : ∀ i, i ≠ 6 → i ≠ 68 + 2 * k → i ≠ 69 + 2 * k → A' i = A i) (A6 : A' 6 = v) (Aa : A' (68 + 2 * k) = a) (Ab : A' (69 + 2 * k) = b) (h : PS n X ord said bar step A) : PS n' X ord said' bar step A' := by
  obtain ⟨⟨⟨a0, a1, a3, a4, a5, a6, a18⟩, b0, b1, b2, b3, b4, b5, b6⟩, p2, p3, p4, p5, rw, p6⟩ := h
  refine ⟨⟨⟨?_, ?_, ?_, ?_, ?_, ?_, ?_⟩, ?_, ?_, ?_, ?_, ?_, ?_, ?_⟩, P2_congr (hn 0 (by omega)) b0.2 (fun i _ _ => hA i (by omega) (by omega) (by omega)) p2, fun o ho => ?_, P4_congr (hn 6 (by omega)) b6.2 (fun i _ _ => hA i (by omega) (by omega) (by omega)) p4, P5_congr (hn 0 (by omega)) b0.2 rw.1.2.2.2.2.2.2.2.2.2.2.2.2.2 (fun i _ => hA i (by omega) (by omega) (by omega)) p5, RW_congr (hn 0 (by omega)) (fun i _ _ => hA i (by omega) (by omega) (by omega)) rw, P6_congr (hn 0 (by omega)) (hn 4 (by omega)) b4.2 (fun i _ _ => hA i (by omega) (by omega) (by omega)) (fun i _ _ => hA i (by omega) (by omega) (by omega)) p6⟩
  · rw [hA _ (by omega) (by omega) (by omega), hn _ (by omega)]; exact a0
  · rw [hA _ (by omega) (by omega) (by omega), hn _ (by omega)]; exact a1
  · rw [hA _ (by omega) (by omega) (by omega), hn _ (by omega)]; exact a3
  · rw [hA _ (by omega) (by omega) (by omega), hn _ (by omega)]; exact a4
  · rw [hA _ (by omega) (by omega) (by omega), hn _ (by omega)]; exact a5
  · rw [A6, hn5]
  · rw [hA _ (by omega) (by omega) (by omega), hn _ (by omega)]; exact a18
  · rw [hn _ (by omega)]; exact b0
  · rw [hn _ (by omega)]; exact b1
  · rw [hn _ (by omega)]; exact b2
  · rw [hn _ (by omega), hn _ (by omega)]; exact b3
  · rw [hn _ (by omega)]; exact b4
  · rw [hn5]
    exact ⟨by rw [hv]; omega, by rw [hv]; omega⟩
  · rw [hn _ (by omega)]; exact b6
  · rw [hn5, hv] at ho
    by_cases hok : o = k
    · subst hok
      refine ⟨fun j hj => ?_, by rw [hs0]; exact ha, by rw [hs1]; exact hb⟩
      match j, hj with
      | 0, _ => exact Aa.trans hs0.symm
      | 1, _ =>
        rw [show 68 + 2 * o + 1 = 69 + 2 * o by omega]
        exact Ab.trans hs1.symm
    · have ho' : (o : Int) < (n 5).toInt := by rw [hk]; omega
      obtain ⟨g1, g2⟩ := p3 o ho'
      rw [hs o hok]
      exact ⟨fun j hj => by rw [hA _ (by omega) (by omega) (by omega)]; exact g1 j hj, g2⟩
theorem PS_unsaid {n X A : Nat → Int32} {ord said bar step : Nat → Nat → Int32} (h : PS n X ord said bar step A) : PS (upd n 5 0) X ord said bar step (upd A 6 0) := by
  obtain ⟨⟨⟨a0, a1, a3, a4, a5, a6, a18⟩, b0, b1, b2, b3, b4, b5, b6⟩, p2, p3, p4, p5, rw, p6⟩ := h
  have e : ∀ j, j ≠ 5 → upd n 5 0 j = n j := fun j hj => upd_ne hj
  have eA : ∀ i, i ≠ 6 → upd A 6 0 i = A i := fun i hi => upd_ne hi
  refine ⟨⟨⟨?_, ?_, ?_, ?_, ?_, ?_, ?_⟩, ?_, ?_, ?_, ?_, ?_, ?_, ?_⟩, P2_congr (e 0 (by omega)) b0.2 (fun i _ _ => eA i (by omega)) p2, fun o ho => ?_, P4_congr (e 6 (by omega)) b6.2 (fun i _ _ => eA i (by omega)) p4, P5_congr (e 0 (by omega)) b0.2 rw.1.2.2.2.2.2.2.2.2.2.2.2.2.2 (fun i _ => eA i (by omega)) p5, RW_congr (e 0 (by omega)) (fun i _ _ => eA i (by omega)) rw, P6_congr (e 0 (by omega)) (e 4 (by omega)) b4.2 (fun i _ _ => eA i (by omega)) (fun i _ _ => eA i (by omega)) p6⟩
  · rw [eA _ (by omega), e _ (by omega)]; exact a0
  · rw [eA _ (by omega), e _ (by omega)]; exact a1
  · rw [eA _ (by omega), e _ (by omega)]; exact a3
  · rw [eA _ (by omega), e _ (by omega)]; exact a4
  · rw [eA _ (by omega), e _ (by omega)]; exact a5
  · rw [upd_eq, upd_eq]
  · rw [eA _ (by omega), e _ (by omega)]; exact a18
  · rw [e _ (by omega)]; exact b0
  · rw [e _ (by omega)]; exact b1
  · rw [e _ (by omega)]; exact b2
  · rw [e _ (by omega), e _ (by omega)]; exact b3
  · rw [e _ (by omega)]; exact b4
  · rw [upd_eq]; unfold bd; decide
  · rw [e _ (by omega)]; exact b6
  · rw [upd_eq, show (0 : Int32).toInt = 0 from rfl] at ho
    omega
theorem ow_said {T1 : (Nat → Option Cel) → Nat → Nat → (Nat → Int32) → Nat → Prop} (L : Nat) (xs : Nat → Int32) : Ow_said (Inv (TX T1) L xs) := by
  intro n μ z a b hb hI
  have h1 := hI.1
  have a6 : μ 538 6 = μ 402 5 := h1.1.1.2.2.2.2.2.1
  have b5 : bd (μ 402 5) 0 8 := h1.1.2.2.2.2.2.2.1
  by_cases h0 : a = -1
  · subst h0
    refine ⟨0, up μ 402 5 0, z, up (up μ 402 5 0) 538 6 0, z, said0_clear, said2_clear, ⟨Nat.le_refl _, Nat.le_refl _⟩, ⟨Nat.le_refl _, Nat.le_refl _⟩, rfl, ?_⟩
    obtain ⟨h1, h2, h3, h4, h5⟩ := hI.next
    have e : ∀ k, k ≠ 402 → k ≠ 538 → up (up μ 402 5 0) 538 6 0 k = μ k := fun k k1 k2 => (setM_ne k2).trans (setM_ne k1)
    have e2 : up (up μ 402 5 0) 538 6 0 402 = upd (μ 402) 5 0 := (setM_ne (by decide)).trans (setM_same _ _ _)
    have e3 : up (up μ 402 5 0) 538 6 0 538 = upd (μ 538) 6 0 := (setM_same _ _ _).trans (congrArg (fun f => upd f 6 0) (setM_ne (show (538 : Nat) ≠ 402 by decide)))
    refine ⟨?_, RelS_congr (fun k k1 k2 => e k (by omega) (by omega)) (e 539 (by omega) (by omega)) h2, RelT_congr (fun k hk => e k (by omega) (by omega)) h3, h4, TX_f T1 _ _ _ (e 540 (by omega) (by omega)) (fun k hk => ?_) h5⟩
    · have h9 := PS_unsaid h1
      unfold RelS
      rw [show (401 + 1 : Nat) = 402 from rfl, e2, e3, e (401 + 2) (by omega) (by omega), fam_congr (μ := μ) (fun k hk => e _ (by omega) (by omega)), fam_congr (μ := μ) (b := 401 + 13) (fun k hk => e _ (by omega) (by omega)), fam_congr (μ := μ) (b := 401 + 22) (fun k hk => e _ (by omega) (by omega)), fam_congr (μ := μ) (b := 401 + 27) (fun k hk => e _ (by omega) (by omega))]
      exact h9
    · rcases hk with rfl | rfl
      · rw [e2]
        exact ⟨upd_ne (by decide), upd_ne (by decide)⟩
      · rw [e 460 (by omega) (by omega)]
        exact ⟨rfl, rfl⟩
  · by_cases hno : inB a 0 10 = 0 ∨ μ 402 5 = 8
    · exact Agr_ro hI (-2) (said0_no h0 hno) (said2_no h0 (by rw [a6]; exact hno))
    · have hin : inB a 0 10 = 1 := (inB_01 a 0 10).resolve_left (fun q => hno (Or.inl q))
      have h8 : μ 402 5 ≠ 8 := fun q => hno (Or.inr q)
      obtain ⟨k, hk⟩ : ∃ k : Nat, (μ 402 5).toInt = (k : Int) := ⟨(μ 402 5).toInt.toNat, by have := b5.1; omega⟩
      have hk8 : k < 8 := by
        have := b5.2
        have : (μ 402 5).toInt ≠ 8 := fun q => h8 (Int32.toInt_inj.mp q)
        omega
      have hv : (μ 402 5 + 1).toInt = ((k + 1 : Nat) : Int) := inc_I hk (by omega)
      generalize hv9 : μ 402 5 + 1 = v at hv
      have g0 := said0_go (μ := μ) (z := z) h0 hin hk hk8 hb
      rw [hv9] at g0
      generalize hm : up (up (up μ (414 + k) 0 a) (414 + k) 1 b) 402 5 v = μ1 at g0
      have m0 : ∀ q, q ≠ 402 → q ≠ 414 + k → μ1 q = μ q := fun q q1 q2 => by rw [← hm]; exact (setM_ne q1).trans ((setM_ne q2).trans (setM_ne q2))
      have m1 : μ1 402 = upd (μ 402) 5 v := by
        rw [← hm]
        exact (setM_same _ _ _).trans (congrArg (fun f => upd f 5 v) ((setM_ne (show (402 : Nat) ≠ 414 + k by omega)).trans (setM_ne (show (402 : Nat) ≠ 414 + k by omega))))
      have m2 : μ1 (414 + k) = upd (upd (μ (414 + k)) 0 a) 1 b := by
        rw [← hm]
        refine (setM_ne (show 414 + k ≠ 402 by omega)).trans ((setM_same _ _ _).trans ?_)
        exact congrArg (fun f => upd f 1 b) (setM_same _ _ _)
      have e538 : μ1 538 = μ 538 := m0 538 (by omega) (by omega)
      have g2 := said2_go (μ := μ1) (z := z) h0 hin (by rw [e538, a6]; exact hk) hk8 hb
      rw [e538, a6, hv9] at g2
      generalize hm2 : up (up (up μ1 538 (68 + 2 * k) a) 538 (69 + 2 * k) b) 538 6 v = μ2 at g2
      have r0 : ∀ q, q ≠ 538 → μ2 q = μ1 q := fun q q1 => by rw [← hm2]; exact (setM_ne q1).trans ((setM_ne q1).trans (setM_ne q1))
      have r1 : μ2 538 = upd (upd (upd (μ 538) (68 + 2 * k) a) (69 + 2 * k) b) 6 v := by
        rw [← hm2]
        refine (setM_same _ _ _).trans (congrArg (fun f => upd f 6 v) ((setM_same _ _ _).trans (congrArg (fun f => upd f (69 + 2 * k) b) ((setM_same _ _ _).trans ?_))))
        rw [e538]
      have e : ∀ q, q ≠ 402 → q ≠ 414 + k → q ≠ 538 → μ2 q = μ q := fun q q1 q2 q3 => (r0 q q3).trans (m0 q q1 q2)
      refine ⟨v, μ1, z, μ2, z, g0, g2, ⟨Nat.le_refl _, Nat.le_refl _⟩, ⟨Nat.le_refl _, Nat.le_refl _⟩, rfl, ?_⟩
      obtain ⟨h1, h2, h3, h4, h5⟩ := hI.next
      have e402 : μ2 402 = upd (μ 402) 5 v := (r0 402 (by omega)).trans m1
      have hbb : bd b 0 1 := by
        rcases hb with hb | hb
        · rw [hb]; unfold bd; decide
        · rw [hb]; unfold bd; decide
      have hs9 : ∀ o, o ≠ k → fam μ2 (401 + 13) 8 o = fam μ (401 + 13) 8 o := fun o ho => by
        unfold fam
        by_cases h9 : o < 8
        · rw [if_pos h9, if_pos h9, e _ (by omega) (by omega) (by omega)]
        · rw [if_neg h9, if_neg h9]
      have hsk : fam μ2 (401 + 13) 8 k = upd (upd (μ (414 + k)) 0 a) 1 b := (fam_at hk8).trans ((r0 _ (by omega)).trans m2)
      refine ⟨?_, RelS_congr (fun q k1 k2 => e q (by omega) (by omega) (by omega)) (e 539 (by omega) (by omega) (by omega)) h2, RelT_congr (fun q hk => e q (by omega) (by omega) (by omega)) h3, h4, TX_f T1 _ _ _ (e 540 (by omega) (by omega) (by omega)) (fun q hq => ?_) h5⟩
      · unfold RelS
        rw [show (401 + 1 : Nat) = 402 from rfl, e402, r1, e (401 + 2) (by omega) (by omega) (by omega), fam_congr (μ := μ) (fun q hk => e _ (by omega) (by omega) (by omega)), fam_congr (μ := μ) (b := 401 + 22) (fun q hk => e _ (by omega) (by omega) (by omega)), fam_congr (μ := μ) (b := 401 + 27) (fun q hk => e _ (by omega) (by omega) (by omega))]
        refine PS_said hk hk8 (inB_bd.mp hin) hbb (fun j hj => upd_ne hj) upd_eq hv hs9 ?_ ?_ (fun i i1 i2 i3 => ?_) upd_eq ?_ ?_ h1
        · rw [hsk, upd_ne (by decide), upd_eq]
        · rw [hsk, upd_eq]
        · rw [upd_ne i1, upd_ne i3, upd_ne i2]
        · rw [upd_ne (by omega), upd_ne (by omega), upd_eq]
        · rw [upd_ne (by omega), upd_eq]
      · rcases hq with rfl | rfl
        · rw [e402]
          exact ⟨upd_ne (by decide), upd_ne (by decide)⟩
        · rw [e 460 (by omega) (by omega) (by omega)]
          exact ⟨rfl, rfl⟩
