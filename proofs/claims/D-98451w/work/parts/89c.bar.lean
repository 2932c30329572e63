/-! ===== bar ===== -/
/-- calls that write the numbers of the State -/
theorem Agr_w {ρ : Type} {L : Nat} {xs : Nat → Int32} {n : Nat} {μ μ1 μ2 : Mu} {z z1 z2 : Zt} {f g : Wd → Option (ρ × Wd)} (hI : Inv (TX TT) L xs n μ z) (r : ρ) (hf : f (E μ z) = some (r, E μ1 z1)) (hg : g (E μ1 z1) = some (r, E μ2 z2))
    (e1 : ∀ k, (459 ≤ k ∧ k ≤ 517) ∨ k = 539 ∨ k = 540 ∨ k = 541 → μ2 k = μ k) (e4 : ∀ j, (j = 3 ∨ j = 4 ∨ j = 5 ∨ j = 7) → μ2 400 j = μ 400 j) (e5 : ∀ j, (j = 4 ∨ j = 5 ∨ j = 6 ∨ j = 25) → μ2 537 j = μ 537 j) (e2 : μ2 402 2 = μ 402 2)
    (hz : z2.2.1 = z.2.1) (hd : ∀ k, k < z.2.2.2.1 → z2.2.2.1 k = z.2.2.1 k) (h01 : z.2.2.2.1 ≤ z1.2.2.2.1 ∧ z.2.2.2.2 ≤ z1.2.2.2.2) (h12 : z1.2.2.2.1 ≤ z2.2.2.2.1 ∧ z1.2.2.2.2 ≤ z2.2.2.2.2) (hr : z2.2.2.2.1 ≤ z.2.2.2.1 + 18000 ∧ z2.2.2.2.2 ≤ z.2.2.2.2 + 85000) (hz1 : ∀ k, k < z.2.2.2.1 → z1.2.2.1 k = z.2.2.1 k)
    (hps : PSw μ2 (μ2 403) (μ2 538)) : Agr ρ (Inv (TX TT) L xs) n μ z f g := by
  obtain ⟨h1, h2, h3, h4, h5⟩ := hI
  obtain ⟨t1, t2, t3, t4, t5, t6, t7⟩ := h3
  obtain ⟨z0, z5, z6, z7⟩ := h4
  refine ⟨r, μ1, z1, μ2, z2, hf, hg, h01, h12, hz1 0 (by omega), hps, RelS_congr (fun k k1 k2 => e1 k (by omega)) (e1 539 (by omega)) h2, ?_, ⟨fun k hk => (hd k (by omega)).trans (z0 k hk), by omega, by omega, by omega⟩, TX_ext (e1 540 (by omega)) e2 (by rw [e1 460 (by omega)]) hz hd (by omega) h5⟩
  unfold RelT
  rw [e4 3 (by omega), e4 4 (by omega), e4 5 (by omega), e4 7 (by omega), e5 4 (by omega), e5 5 (by omega), e5 6 (by omega), e5 25 (by omega), e1 541 (by omega), e1 517 (by omega)]
  exact ⟨t1, t2, t3, t4, t5, t6, t7⟩
/-- the bars' number -/
theorem PS_bars {n X A A' : Nat → Int32} {ord said bar bar' step : Nat → Nat → Int32} {v : Int32} (hv : bd v 0 4) (hA : ∀ i, i ≠ 18 → (i < 9818 ∨ 9834 ≤ i) → A' i = A i) (A18 : A' 18 = v) (hb : P4 (upd n 6 v) bar' A') (h : PS n X ord said bar step A) : PS (upd n 6 v) X ord said bar' step A' := by
  obtain ⟨⟨⟨a0, a1, a3, a4, a5, a6, a18⟩, b0, b1, b2, b3, b4, b5, b6⟩, p2, p3, p4, p5, rw, p6⟩ := h
  have e : ∀ j, j ≠ 6 → upd n 6 v j = n j := fun j hj => upd_ne hj
  refine ⟨⟨⟨?_, ?_, ?_, ?_, ?_, ?_, ?_⟩, ?_, ?_, ?_, ?_, ?_, ?_, ?_⟩, P2_congr (e 0 (by omega)) b0.2 (fun i _ _ => hA i (by omega) (by omega)) p2, P3_congr (e 5 (by omega)) b5.2 (fun i _ _ => hA i (by omega) (by omega)) p3, hb, P5_congr (e 0 (by omega)) b0.2 rw.1.2.2.2.2.2.2.2.2.2.2.2.2.2 (fun i _ => hA i (by omega) (by omega)) p5, RW_congr (e 0 (by omega)) (fun i _ _ => hA i (by omega) (by omega)) rw, P6_congr (e 0 (by omega)) (e 4 (by omega)) b4.2 (fun i _ _ => hA i (by omega) (by omega)) (fun i _ _ => hA i (by omega) (by omega)) p6⟩
  · rw [hA _ (by omega) (by omega), e _ (by omega)]; exact a0
  · rw [hA _ (by omega) (by omega), e _ (by omega)]; exact a1
  · rw [hA _ (by omega) (by omega), e _ (by omega)]; exact a3
  · rw [hA _ (by omega) (by omega), e _ (by omega)]; exact a4
  · rw [hA _ (by omega) (by omega), e _ (by omega)]; exact a5
  · rw [hA _ (by omega) (by omega), e _ (by omega)]; exact a6
  · rw [A18, upd_eq]
  · rw [e _ (by omega)]; exact b0
  · rw [e _ (by omega)]; exact b1
  · rw [e _ (by omega)]; exact b2
  · rw [e _ (by omega), e _ (by omega)]; exact b3
  · rw [e _ (by omega)]; exact b4
  · rw [e _ (by omega)]; exact b5
  · rw [upd_eq]; exact hv
def f4 (a b c d : Int32) : Nat → Int32 := upd (upd (upd (upd (fun _ => 0) 0 a) 1 b) 2 c) 3 d
/-- the four numbers laid in a new array -/
def z4 (z : Zt) (a b c d : Int32) : Zt := setD (setD (setD (setD (newZ z (.inl (.int, 4, .inl (fun _ => 0))) 4) z.2.2.2.1 (.inl (.int, 4, .inl (upd (fun _ => 0) 0 a)))) z.2.2.2.1 (.inl (.int, 4, .inl (upd (upd (fun _ => 0) 0 a) 1 b)))) z.2.2.2.1 (.inl (.int, 4, .inl (upd (upd (upd (fun _ => 0) 0 a) 1 b) 2 c)))) z.2.2.2.1 (.inl (.int, 4, .inl (f4 a b c d)))
theorem z4_fr {z : Zt} {a b c d : Int32} : (z4 z a b c d).2.1 = z.2.1 ∧ (∀ k, k < z.2.2.2.1 → (z4 z a b c d).2.2.1 k = z.2.2.1 k) ∧ (z4 z a b c d).2.2.2.1 = z.2.2.2.1 + 1 ∧ (z4 z a b c d).2.2.2.2 = z.2.2.2.2 + 4 := by
  refine ⟨rfl, fun k hk => ?_, rfl, rfl⟩
  have h : k ≠ z.2.2.2.1 := by omega
  show (if k = z.2.2.2.1 then _ else if k = z.2.2.2.1 then _ else if k = z.2.2.2.1 then _ else if k = z.2.2.2.1 then _ else if k = z.2.2.2.1 then _ else z.2.2.1 k) = z.2.2.1 k
  rw [if_neg h, if_neg h, if_neg h, if_neg h, if_neg h]
theorem bar0_go {μ : Mu} {z : Zt} {a b c d : Int32} {k : Nat} (hz : 554 ≤ z.2.2.2.1) (hm : ¬ a = -1) (ha : inB a 0 600 = 1) (hb : inB b a 600 = 1) (hc : inB c 0 9999 = 1) (hd : inB d c 9999 = 1) (hk : (μ 402 6).toInt = (k : Int)) (hk8 : k < 4) :
    mX0_bar 400 a b c d (E μ z) = some (μ 402 6 + 1, E (up (setM μ (423 + k) (va_cpy (f4 a b c d) (μ (423 + k)) 0 0 4)) 402 6 (μ 402 6 + 1)) (z4 z a b c d)) := by
  have n8 : ¬ μ 402 6 = 4 := fun q => by
    rw [q] at hk
    have : (4 : Int32).toInt = 4 := rfl
    omega
  have no : ∀ {x : Int32}, x = 1 → ¬ x = 0 := fun h => by rw [h]; decide
  unfold mX0_bar
  refine (if_pos hm).trans ?_
  refine bind_step (cal_w (in_E _ _ _ _)) ?_
  refine (if_neg (no ha)).trans ?_
  refine bind_step (cal_w (in_E _ _ _ _)) ?_
  refine (if_neg (no hb)).trans ?_
  refine bind_step (cal_w (in_E _ _ _ _)) ?_
  refine (if_neg (no hc)).trans ?_
  refine bind_step (cal_w (in_E _ _ _ _)) ?_
  refine (if_neg (no hd)).trans ?_
  refine bind_step (gR_400_0 554 (by omega) _ _) ?_
  refine bind_step (gR_401_0 554 (by omega) _ _) ?_
  refine bind_step (ia_E (n := 6) isI_402 rfl (by omega)) ?_
  refine (if_pos n8).trans ?_
  refine bind_step (a := 4) rfl ?_
  refine bind_step (congrArg some (wnew_E hz)) ?_
  refine bind_step (ias_D (n := 0) hz (newZ_at _ _ _) rfl (by omega)) ?_
  refine bind_step (ias_D (n := 1) hz (setD_at _ _ _) rfl (by omega)) ?_
  refine bind_step (ias_D (n := 2) hz (setD_at _ _ _) rfl (by omega)) ?_
  refine bind_step (ias_D (n := 3) hz (setD_at _ _ _) rfl (by omega)) ?_
  refine bind_step (gR_400_0 554 (by omega) _ _) ?_
  refine bind_step (gR_401_4 554 (by omega) _ _) ?_
  refine bind_step (gR_400_0 554 (by omega) _ _) ?_
  refine bind_step (gR_401_0 554 (by omega) _ _) ?_
  refine bind_step (ia_E (n := 6) isI_402 rfl (by omega)) ?_
  refine bind_step (aa_E (n := k) isA_422 hk hk8) ?_
  refine bind_step (cal_Z (copy_D hz (setD_at _ _ _) (isI_423 k hk8) (by omega) (by omega) (by omega)) (Nat.le_refl _) (Nat.le_refl _)) ?_
  refine bind_step (gR_400_0 554 (by omega) _ _) ?_
  refine bind_step (gR_401_0 554 (by omega) _ _) ?_
  refine bind_step (ia_E (n := 6) isI_402 rfl (by omega)) ?_
  refine bind_step (ias_E (n := 6) isI_402 rfl (by omega)) ?_
  rw [setM_ne (show (402 : Nat) ≠ 423 + k by omega)]
  refine bind_step (gR_400_0 554 (by omega) _ _) ?_
  refine bind_step (gR_401_0 554 (by omega) _ _) ?_
  refine bind_step (ia_E (n := 6) isI_402 rfl (by omega)) ?_
  show some (up (setM μ (423 + k) (va_cpy (f4 a b c d) (μ (423 + k)) 0 0 4)) 402 6 (μ 402 6 + 1) 402 6, _) = _
  rw [show up (setM μ (423 + k) (va_cpy (f4 a b c d) (μ (423 + k)) 0 0 4)) 402 6 (μ 402 6 + 1) 402 6 = μ 402 6 + 1 from (congrFun (setM_same _ _ _) 6).trans upd_eq]
  rfl
/-- what bar refuses -/
def noBar (a b c d n6 : Int32) : Prop := inB a 0 600 = 0 ∨ inB b a 600 = 0 ∨ inB c 0 9999 = 0 ∨ inB d c 9999 = 0 ∨ n6 = 4
theorem bar0_no {μ : Mu} {z : Zt} {a b c d : Int32} (hm : ¬ a = -1) (h : noBar a b c d (μ 402 6)) : mX0_bar 400 a b c d (E μ z) = some (-2, E μ z) := by
  unfold noBar at h
  unfold mX0_bar
  refine (if_pos hm).trans ?_
  refine bind_step (cal_w (in_E _ _ _ _)) ?_
  by_cases h1 : inB a 0 600 = 0
  · exact if_pos h1
  refine (if_neg h1).trans ?_
  refine bind_step (cal_w (in_E _ _ _ _)) ?_
  by_cases h2 : inB b a 600 = 0
  · exact if_pos h2
  refine (if_neg h2).trans ?_
  refine bind_step (cal_w (in_E _ _ _ _)) ?_
  by_cases h3 : inB c 0 9999 = 0
  · exact if_pos h3
  refine (if_neg h3).trans ?_
  refine bind_step (cal_w (in_E _ _ _ _)) ?_
  by_cases h4 : inB d c 9999 = 0
  · exact if_pos h4
  refine (if_neg h4).trans ?_
  refine bind_step (gR_400_0 554 (by omega) _ _) ?_
  refine bind_step (gR_401_0 554 (by omega) _ _) ?_
  refine bind_step (ia_E (n := 6) isI_402 rfl (by omega)) ?_
  exact if_neg (fun q => q ((((h.resolve_left h1).resolve_left h2).resolve_left h3).resolve_left h4))
theorem bar2_no {μ : Mu} {z : Zt} {a b c d : Int32} (hm : ¬ a = -1) (h : noBar a b c d (μ 538 18)) : mX2_bar 537 a b c d (E μ z) = some (-2, E μ z) := by
  unfold noBar at h
  unfold mX2_bar
  refine (if_pos hm).trans ?_
  refine bind_step (cal_w (isIn_E _ _ _ _)) ?_
  by_cases h1 : inB a 0 600 = 0
  · exact if_pos h1
  refine (if_neg h1).trans ?_
  refine bind_step (cal_w (isIn_E _ _ _ _)) ?_
  by_cases h2 : inB b a 600 = 0
  · exact if_pos h2
  refine (if_neg h2).trans ?_
  refine bind_step (cal_w (isIn_E _ _ _ _)) ?_
  by_cases h3 : inB c 0 9999 = 0
  · exact if_pos h3
  refine (if_neg h3).trans ?_
  refine bind_step (cal_w (isIn_E _ _ _ _)) ?_
  by_cases h4 : inB d c 9999 = 0
  · exact if_pos h4
  refine (if_neg h4).trans ?_
  refine bind_step (gR_537_0 554 (by omega) _ _) ?_
  refine bind_step (ia_E (n := 18) isI_538 rfl (by omega)) ?_
  exact if_neg (fun q => q ((((h.resolve_left h1).resolve_left h2).resolve_left h3).resolve_left h4))
/-- the model's row with a new bar -/
def A4 (A : Nat → Int32) (k : Nat) (a b c d v : Int32) : Nat → Int32 := upd (upd (upd (upd (upd A (9818 + 4 * k) a) (9819 + 4 * k) b) (9820 + 4 * k) c) (9821 + 4 * k) d) 18 v
theorem bar2_go {μ : Mu} {z : Zt} {a b c d : Int32} {k : Nat} (hm : ¬ a = -1) (ha : inB a 0 600 = 1) (hb : inB b a 600 = 1) (hc : inB c 0 9999 = 1) (hd : inB d c 9999 = 1) (hk : (μ 538 18).toInt = (k : Int)) (hk8 : k < 4) :
    mX2_bar 537 a b c d (E μ z) = some (μ 538 18 + 1, E (setM μ 538 (A4 (μ 538) k a b c d (μ 538 18 + 1))) z) := by
  have n8 : ¬ μ 538 18 = 4 := fun q => by
    rw [q] at hk
    have : (4 : Int32).toInt = 4 := rfl
    omega
  have no : ∀ {x : Int32}, x = 1 → ¬ x = 0 := fun h => by rw [h]; decide
  have i0 : (9818 + 4 * μ 538 18).toInt = ((9818 + 4 * k : Nat) : Int) := addN (x := 9818) rfl (mulN (x := 4) rfl hk (by omega)) (by omega)
  have ij : ∀ (j : Nat) (jj : Int32), jj.toInt = (j : Int) → j < 6 → (9818 + 4 * μ 538 18 + jj).toInt = ((9818 + j + 4 * k : Nat) : Int) := fun j jj h1 h2 => by
    rw [addN i0 h1 (by omega)]
    omega
  unfold mX2_bar
  refine (if_pos hm).trans ?_
  refine bind_step (cal_w (isIn_E _ _ _ _)) ?_
  refine (if_neg (no ha)).trans ?_
  refine bind_step (cal_w (isIn_E _ _ _ _)) ?_
  refine (if_neg (no hb)).trans ?_
  refine bind_step (cal_w (isIn_E _ _ _ _)) ?_
  refine (if_neg (no hc)).trans ?_
  refine bind_step (cal_w (isIn_E _ _ _ _)) ?_
  refine (if_neg (no hd)).trans ?_
  refine bind_step (gR_537_0 554 (by omega) _ _) ?_
  refine bind_step (ia_E (n := 18) isI_538 rfl (by omega)) ?_
  refine (if_pos n8).trans ?_
  refine bind_step (gR_537_0 554 (by omega) _ _) ?_
  refine bind_step (ia_E (n := 18) isI_538 rfl (by omega)) ?_
  refine bind_step (gR_537_0 554 (by omega) _ _) ?_
  refine bind_step (ias_E (n := 9818 + 4 * k) isI_538 i0 (by omega)) ?_
  refine bind_step (gR_537_0 554 (by omega) _ _) ?_
  refine bind_step (ias_E (n := 9819 + 4 * k) isI_538 (ij 1 1 rfl (by omega)) (by omega)) ?_
  rw [up_up]
  refine bind_step (gR_537_0 554 (by omega) _ _) ?_
  refine bind_step (ias_E (n := 9820 + 4 * k) isI_538 (ij 2 2 rfl (by omega)) (by omega)) ?_
  rw [up_up]
  refine bind_step (gR_537_0 554 (by omega) _ _) ?_
  refine bind_step (ias_E (n := 9821 + 4 * k) isI_538 (ij 3 3 rfl (by omega)) (by omega)) ?_
  rw [up_up]
  refine bind_step (gR_537_0 554 (by omega) _ _) ?_
  refine bind_step (ia_E (n := 18) isI_538 rfl (by omega)) ?_
  rw [setM_same, upd_ne (by omega), upd_ne (by omega), upd_ne (by omega), upd_ne (by omega)]
  refine bind_step (ias_E (n := 18) isI_538 rfl (by omega)) ?_
  rw [up_up]
  refine bind_step (gR_537_0 554 (by omega) _ _) ?_
  refine bind_step (ia_E (n := 18) isI_538 rfl (by omega)) ?_
  rw [setM_same, upd_eq]
  rfl
theorem ow_bar (L : Nat) (xs : Nat → Int32) : Ow_bar (Inv (TX TT) L xs) := by
  intro n μ z a b c d hI
  have hB := Inv_Both hI
  have hp := hB.1
  have hz := hB.2.2.2.2.2.2.2
  have e18 : μ 538 18 = μ 402 6 := hp.1.1.2.2.2.2.2.2
  have b6 := hp.1.2.2.2.2.2.2.2
  obtain ⟨k, hk⟩ : ∃ k : Nat, (μ 402 6).toInt = (k : Int) := ⟨(μ 402 6).toInt.toNat, by have := b6.1; omega⟩
  have hk4 : k ≤ 4 := by have := b6.2; omega
  by_cases hm : ¬ a = -1
  · by_cases hno : noBar a b c d (μ 402 6)
    · refine Agr_ro hI (-2) (bar0_no hm hno) (bar2_no hm (by rw [e18]; exact hno))
    · have one : ∀ {x lo hi : Int32}, ¬ inB x lo hi = 0 → inB x lo hi = 1 := fun {x lo hi} h => (inB_01 x lo hi).resolve_left h
      have ha := one (fun q => hno (Or.inl q))
      have hb := one (fun q => hno (Or.inr (Or.inl q)))
      have hc := one (fun q => hno (Or.inr (Or.inr (Or.inl q))))
      have hd := one (fun q => hno (Or.inr (Or.inr (Or.inr (Or.inl q)))))
      have hk3 : k < 4 := by
        have : (μ 402 6).toInt ≠ 4 := fun q => hno (Or.inr (Or.inr (Or.inr (Or.inr (I32_eq q)))))
        omega
      have g0 := bar0_go (z := z) hz hm ha hb hc hd hk hk3
      have hv : (μ 402 6 + 1).toInt = ((k + 1 : Nat) : Int) := inc_I hk (by omega)
      generalize hv9 : μ 402 6 + 1 = v at g0 hv
      generalize hf5 : va_cpy (f4 a b c d) (μ (423 + k)) 0 0 4 = f at g0
      have fv : ∀ j, j < 4 → f j = f4 a b c d j := fun j hj => by
        rw [← hf5]
        unfold va_cpy
        rw [if_pos (by omega)]
        congr 1
        omega
      have e402 : up (setM μ (423 + k) f) 402 6 v 402 = upd (μ 402) 6 v := by
        show setM (setM μ (423 + k) f) 402 (upd (setM μ (423 + k) f 402) 6 v) 402 = _
        rw [setM_same, setM_ne (show (402 : Nat) ≠ 423 + k by omega)]
      have eo : ∀ q, q ≠ 402 → q ≠ 423 + k → up (setM μ (423 + k) f) 402 6 v q = μ q := fun q q1 q2 => (setM_ne q1).trans (setM_ne q2)
      have ek : up (setM μ (423 + k) f) 402 6 v (423 + k) = f := (setM_ne (by omega)).trans (setM_same _ _ _)
      obtain ⟨z1, z2, z3, z4'⟩ := z4_fr (z := z) (a := a) (b := b) (c := c) (d := d)
      generalize up (setM μ (423 + k) f) 402 6 v = μ1 at *
      have e538 : μ1 538 = μ 538 := eo 538 (by omega) (by omega)
      have g2 := bar2_go (z := z4 z a b c d) (μ := μ1) hm ha hb hc hd (by rw [e538, e18]; exact hk) hk3
      rw [e538, e18, hv9] at g2
      have m1 : ∀ q, q ≠ 538 → setM μ1 538 (A4 (μ 538) k a b c d v) q = μ1 q := fun q hq => setM_ne hq
      refine Agr_w hI v g0 g2 (fun q hq => (m1 q (by omega)).trans (eo q (by omega) (by omega))) (fun j _ => by rw [m1 400 (by omega), eo 400 (by omega) (by omega)]) (fun j _ => by rw [m1 537 (by omega), eo 537 (by omega) (by omega)]) (by rw [m1 402 (by omega), e402]; exact upN (by omega)) z1 z2 (by omega) (by omega) (by omega) z2 ?_
      rw [setM_same, m1 403 (by omega), eo 403 (by omega) (by omega)]
      unfold PSw
      rw [m1 402 (by omega), e402, fam_congr (μ := μ) (b := 405) (fun q hq => (m1 _ (by omega)).trans (eo _ (by omega) (by omega))), fam_congr (μ := μ) (b := 414) (fun q hq => (m1 _ (by omega)).trans (eo _ (by omega) (by omega))), fam_congr (μ := μ) (b := 428) (fun q hq => (m1 _ (by omega)).trans (eo _ (by omega) (by omega)))]
      have A9 : ∀ i, i ≠ 18 → (i < 9818 + 4 * k ∨ 9822 + 4 * k ≤ i) → A4 (μ 538) k a b c d v i = μ 538 i := fun i i0 hi => by
        unfold A4
        rw [upN i0, upN (by omega), upN (by omega), upN (by omega), upN (by omega)]
      refine PS_bars (bar := fam μ 423 4) ⟨by rw [hv]; omega, by rw [hv]; omega⟩ (fun i i0 hi => A9 i i0 (by omega)) upd_eq (fun q hq => ?_) hp
      rw [upd_eq, hv] at hq
      intro j hj
      by_cases hqk : q = k
      · subst hqk
        rw [fam_at hk3, m1 _ (by omega), ek, fv j hj]
        unfold A4
        match j, hj with
        | 0, _ => rw [upN (by omega), upN (by omega), upN (by omega), upN (by omega)]; exact upd_eq
        | 1, _ => rw [show 9818 + 4 * q + 1 = 9819 + 4 * q by omega, upN (by omega), upN (by omega), upN (by omega)]; exact upd_eq
        | 2, _ => rw [show 9818 + 4 * q + 2 = 9820 + 4 * q by omega, upN (by omega), upN (by omega)]; exact upd_eq
        | 3, _ => rw [show 9818 + 4 * q + 3 = 9821 + 4 * q by omega, upN (by omega)]; exact upd_eq
      · have h9 := hp.2.2.2.1 q (by rw [hk]; omega) j hj
        rw [A9 _ (by omega) (by omega), h9]
        unfold fam
        rw [if_pos (by omega), if_pos (by omega), m1 _ (by omega), eo _ (by omega) (by omega)]
  · have e : ∀ q, q ≠ 402 → q ≠ 538 → up (up μ 402 6 0) 538 18 0 q = μ q := fun q k1 k2 => (setM_ne k2).trans (setM_ne k1)
    have e2 : up (up μ 402 6 0) 538 18 0 402 = upd (μ 402) 6 0 := (setM_ne (by decide)).trans (setM_same _ _ _)
    have e3 : up (up μ 402 6 0) 538 18 0 538 = upd (μ 538) 18 0 := (setM_same _ _ _).trans (congrArg (fun f => upd f 18 0) (setM_ne (show (538 : Nat) ≠ 402 by decide)))
    refine Agr_w (μ1 := up μ 402 6 0) (μ2 := up (up μ 402 6 0) 538 18 0) (z1 := z) (z2 := z) hI 0 ?_ ?_ (fun q hq => e q (by omega) (by omega)) (fun j _ => by rw [e 400 (by omega) (by omega)]) (fun j _ => by rw [e 537 (by omega) (by omega)]) (by rw [e2]; exact upN (by omega)) rfl (fun _ _ => rfl) (by omega) (by omega) (by omega) (fun _ _ => rfl) ?_
    · show mX0_bar 400 a b c d (E μ z) = _
      unfold mX0_bar
      refine (if_neg hm).trans ?_
      refine bind_step (gR_400_0 554 (by omega) _ _) ?_
      refine bind_step (gR_401_0 554 (by omega) _ _) ?_
      refine bind_step (ias_E (n := 6) isI_402 rfl (by omega)) ?_
      rfl
    · show mX2_bar 537 a b c d (E (up μ 402 6 0) z) = _
      unfold mX2_bar
      refine (if_neg hm).trans ?_
      refine bind_step (gR_537_0 554 (by omega) _ _) ?_
      refine bind_step (ias_E (n := 18) isI_538 rfl (by omega)) ?_
      rfl
    · unfold PSw
      rw [e2, e3, e 403 (by omega) (by omega), fam_congr (μ := μ) (b := 405) (fun q hq => e _ (by omega) (by omega)), fam_congr (μ := μ) (b := 414) (fun q hq => e _ (by omega) (by omega)), fam_congr (μ := μ) (b := 423) (fun q hq => e _ (by omega) (by omega)), fam_congr (μ := μ) (b := 428) (fun q hq => e _ (by omega) (by omega))]
      refine PS_bars (bar := fam μ 423 4) ⟨by decide, by decide⟩ (fun i i0 _ => upN i0) upd_eq (fun q hq => ?_) hp
      rw [upd_eq] at hq
      have : (0 : Int32).toInt = 0 := rfl
      omega
