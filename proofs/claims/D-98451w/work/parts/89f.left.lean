/-! ===== left ===== -/
/-- the product of what was said, for l -/
def prF (sd : Nat → Nat → Int32) (l : Int32) : Nat → Int64
  | 0 => 1
  | k + 1 => if ¬ sd k 1 = l then prF sd l k * ((10 - sd k 0 : Int32).toInt64) else prF sd l k * ((sd k 0 : Int32).toInt64)
theorem ten_sub {v : Int32} (h : bd v 0 10) : ∃ u x : Nat, ((10 - v : Int32).toInt64).toInt = (u : Int) ∧ ((v : Int32).toInt64).toInt = (x : Int) ∧ u ≤ 10 ∧ x ≤ 10 := by
  have c10 : (10 : Int32).toInt = 10 := rfl
  have h1 := h.1
  have h2 := h.2
  have e : (10 - v).toInt = 10 - v.toInt := I32_sub rfl rfl (by omega)
  exact ⟨(10 - v.toInt).toNat, v.toInt.toNat, by rw [toI64, e]; omega, by rw [toI64]; omega, by omega, by omega⟩
theorem prF_bd {sd : Nat → Nat → Int32} {l : Int32} : ∀ k, k ≤ 8 → (∀ o, o < k → bd (sd o 0) 0 10) → ∃ p : Nat, (prF sd l k).toInt = (p : Int) ∧ p ≤ 10 ^ k := by
  intro k
  induction k with
  | zero => exact fun _ _ => ⟨1, rfl, by omega⟩
  | succ k ih =>
    intro h8 hb
    obtain ⟨p, p1, p2⟩ := ih (by omega) (fun o ho => hb o (by omega))
    obtain ⟨u, x, u1, x1, u2, x2⟩ := ten_sub (hb k (by omega))
    have b2 : 10 ^ k ≤ 10 ^ 8 := Nat.pow_le_pow_right (by omega) (by omega)
    have m1 : p * u ≤ 10 ^ k * 10 := Nat.mul_le_mul p2 u2
    have m2 : p * x ≤ 10 ^ k * 10 := Nat.mul_le_mul p2 x2
    by_cases h : ¬ sd k 1 = l
    · exact ⟨p * u, by rw [show prF sd l (k + 1) = prF sd l k * ((10 - sd k 0 : Int32).toInt64) from if_pos h, J64_mul p1 u1 (by omega)], by rw [Nat.pow_succ]; exact m1⟩
    · exact ⟨p * x, by rw [show prF sd l (k + 1) = prF sd l k * ((sd k 0 : Int32).toInt64) from if_neg h, J64_mul p1 x1 (by omega)], by rw [Nat.pow_succ]; exact m2⟩
theorem prod_loop {μ : Mu} {z : Zt} {l1 : Int32} {n : Nat} (hn : (μ 402 5).toInt = (n : Int)) (h8 : n ≤ 8) : ∀ (d k fu : Nat) (l4 : Int32), n = k + d → l4.toInt = (k : Int) → d < fu →
    mX0_productOf_l5 fu (E μ z) (some 400) l1 (prF (fam μ 414 8) l1 k) l4 = some (prF (fam μ 414 8) l1 n, E μ z) := by
  intro d
  induction d with
  | zero =>
    intro k fu l4 hk h4 hf
    obtain ⟨e, rfl⟩ : ∃ e, fu = e + 1 := ⟨fu - 1, by omega⟩
    have hkn : k = n := by omega
    subst hkn
    show mX0_productOf_b5 _ _ _ _ _ _ = _
    unfold mX0_productOf_b5
    refine bind_step (gR_400_0 554 (by omega) _ _) ?_
    refine bind_step (gR_401_0 554 (by omega) _ _) ?_
    refine bind_step (ia_E (n := 5) isI_402 rfl (by omega)) ?_
    exact if_pos (by rw [Int32.le_iff_toInt_le, hn, h4]; omega)
  | succ d ih =>
    intro k fu l4 hk h4 hf
    obtain ⟨e, rfl⟩ : ∃ e, fu = e + 1 := ⟨fu - 1, by omega⟩
    have hnx := ih (k + 1) e (l4 + 1) (by omega) (inc_I h4 (by omega)) (by omega)
    have e1 : fam μ 414 8 k = μ (414 + k) := fam_at (by omega)
    show mX0_productOf_b5 _ _ _ _ _ _ = _
    unfold mX0_productOf_b5
    refine bind_step (gR_400_0 554 (by omega) _ _) ?_
    refine bind_step (gR_401_0 554 (by omega) _ _) ?_
    refine bind_step (ia_E (n := 5) isI_402 rfl (by omega)) ?_
    refine (if_neg (by rw [Int32.le_iff_toInt_le, hn, h4]; omega)).trans ?_
    refine bind_step (gR_400_0 554 (by omega) _ _) ?_
    refine bind_step (gR_401_3 554 (by omega) _ _) ?_
    refine bind_step (aa_E (n := k) isA_413 h4 (by omega)) ?_
    refine bind_step (ia_E (n := 1) (isI_414 k (by omega)) rfl (by omega)) ?_
    by_cases hc : ¬ μ (414 + k) 1 = l1
    · refine (if_pos hc).trans ?_
      refine bind_step (gR_400_0 554 (by omega) _ _) ?_
      refine bind_step (gR_401_3 554 (by omega) _ _) ?_
      refine bind_step (aa_E (n := k) isA_413 h4 (by omega)) ?_
      refine bind_step (ia_E (n := 0) (isI_414 k (by omega)) rfl (by omega)) ?_
      refine bind_step rfl ?_
      rw [show prF (fam μ 414 8) l1 (k + 1) = prF (fam μ 414 8) l1 k * ((10 - fam μ 414 8 k 0 : Int32).toInt64) from if_pos (by rw [e1]; exact hc), e1] at hnx
      exact hnx
    · refine (if_neg hc).trans ?_
      refine bind_step (gR_400_0 554 (by omega) _ _) ?_
      refine bind_step (gR_401_3 554 (by omega) _ _) ?_
      refine bind_step (aa_E (n := k) isA_413 h4 (by omega)) ?_
      refine bind_step (ia_E (n := 0) (isI_414 k (by omega)) rfl (by omega)) ?_
      refine bind_step rfl ?_
      rw [show prF (fam μ 414 8) l1 (k + 1) = prF (fam μ 414 8) l1 k * ((fam μ 414 8 k 0 : Int32).toInt64) from if_neg (by rw [e1]; exact hc), e1] at hnx
      exact hnx
/-- what left answers -/
def lefF (s : Int32) (x y g : Int64) : Int64 := if ¬ lg_cmp (x + y) 0 = 0 then (if s = 0 then x else x + y) / g else (if s = 0 then 0 else 1)
theorem left_loop {μ : Mu} {z : Zt} {s : Int32} {sd : Nat → Nat → Int32} {n : Nat} {g : Int64} (hn : (μ 538 6).toInt = (n : Int)) (h8 : n ≤ 8) (hsd : ∀ k, k < n → μ 538 (68 + 2 * k) = sd k 0 ∧ μ 538 (68 + 2 * k + 1) = sd k 1) (h01 : ∀ k, k < n → sd k 1 = 0 ∨ sd k 1 = 1)
    (hg : ¬ lg_cmp (prF sd 1 n + prF sd 0 n) 0 = 0 → g ≠ 0 ∧ mX2_common (prF sd 1 n) (prF sd 1 n + prF sd 0 n) (E μ z) = some (g, E μ z)) : ∀ (d k fu : Nat) (l6 : Int32), n = k + d → l6.toInt = (k : Int) → d < fu →
    mX2_left_l8 fu (E μ z) (some 537) s (prF sd 1 k) (prF sd 0 k) l6 = some (lefF s (prF sd 1 n) (prF sd 0 n) g, E μ z) := by
  intro d
  induction d with
  | zero =>
    intro k fu l6 hk h6 hf
    obtain ⟨e, rfl⟩ : ∃ e, fu = e + 1 := ⟨fu - 1, by omega⟩
    have hkn : k = n := by omega
    subst hkn
    show mX2_left_b8 _ _ _ _ _ _ _ = _
    unfold mX2_left_b8
    refine bind_step (gR_537_0 554 (by omega) _ _) ?_
    refine bind_step (ia_E (n := 6) isI_538 rfl (by omega)) ?_
    refine (if_pos (by rw [Int32.le_iff_toInt_le, hn, h6]; omega)).trans ?_
    unfold lefF
    by_cases hc : ¬ lg_cmp (prF sd 1 k + prF sd 0 k) 0 = 0
    · obtain ⟨g1, g2⟩ := hg hc
      refine (if_pos hc).trans ?_
      rw [if_pos hc]
      by_cases hs : s = 0
      · refine (if_pos hs).trans ?_
        rw [if_pos hs]
        unfold mX2_left_p138
        refine bind_step (cal_w g2) ?_
        refine bind_step (ldv_ne g1) ?_
        rfl
      · refine (if_neg hs).trans ?_
        rw [if_neg hs]
        unfold mX2_left_p138
        refine bind_step (cal_w g2) ?_
        refine bind_step (ldv_ne g1) ?_
        rfl
    · refine (if_neg hc).trans ?_
      rw [if_neg hc]
      by_cases hs : s = 0
      · refine (if_pos hs).trans ?_
        rw [if_pos hs]
      · refine (if_neg hs).trans ?_
        rw [if_neg hs]
  | succ d ih =>
    intro k fu l6 hk h6 hf
    obtain ⟨e, rfl⟩ : ∃ e, fu = e + 1 := ⟨fu - 1, by omega⟩
    have hnx := ih (k + 1) e (l6 + 1) (by omega) (inc_I h6 (by omega)) (by omega)
    obtain ⟨s0, s1⟩ := hsd k (by omega)
    have i0 : (68 + 2 * l6).toInt = ((68 + 2 * k : Nat) : Int) := addN (x := 68) rfl (mulN (x := 2) rfl h6 (by omega)) (by omega)
    show mX2_left_b8 _ _ _ _ _ _ _ = _
    unfold mX2_left_b8
    refine bind_step (gR_537_0 554 (by omega) _ _) ?_
    refine bind_step (ia_E (n := 6) isI_538 rfl (by omega)) ?_
    refine (if_neg (by rw [Int32.le_iff_toInt_le, hn, h6]; omega)).trans ?_
    refine bind_step (gR_537_0 554 (by omega) _ _) ?_
    refine bind_step (ia_E (n := 68 + 2 * k) isI_538 i0 (by omega)) ?_
    refine bind_step (gR_537_0 554 (by omega) _ _) ?_
    refine bind_step (ia_E (n := 68 + 2 * k + 1) isI_538 (addN i0 (y := 1) rfl (by omega)) (by omega)) ?_
    rw [s0, s1]
    by_cases hc : sd k 1 = 1
    · have n0 : ¬ sd k 1 = 0 := by rw [hc]; decide
      refine (if_neg (fun q => q hc)).trans ?_
      unfold mX2_left_p57
      refine (if_neg (by decide)).trans ?_
      unfold mX2_left_p77
      refine (if_neg (by decide)).trans ?_
      refine bind_step rfl ?_
      rw [show prF sd 1 (k + 1) = prF sd 1 k * ((sd k 0 : Int32).toInt64) from if_neg (fun q => q hc), show prF sd 0 (k + 1) = prF sd 0 k * ((10 - sd k 0 : Int32).toInt64) from if_pos n0] at hnx
      exact hnx
    · have n0 : sd k 1 = 0 := (h01 k (by omega)).resolve_right hc
      refine (if_pos hc).trans ?_
      unfold mX2_left_p57
      refine (if_pos rfl).trans ?_
      unfold mX2_left_p77
      refine (if_pos rfl).trans ?_
      refine bind_step rfl ?_
      rw [show prF sd 1 (k + 1) = prF sd 1 k * ((10 - sd k 0 : Int32).toInt64) from if_pos hc, show prF sd 0 (k + 1) = prF sd 0 k * ((sd k 0 : Int32).toInt64) from if_neg (fun q => q n0)] at hnx
      exact hnx
theorem ow_left {TX : Mu → Zt → Prop} (L : Nat) (xs : Nat → Int32) : Ow_left (Inv TX L xs) := by
  intro n μ z s hs hI
  obtain ⟨⟨⟨-, -, -, -, -, a6, -⟩, -, -, -, -, -, b5, -⟩, -, p3, -⟩ := hI.1
  have e6 : μ 538 6 = μ 402 5 := a6
  obtain ⟨m, hm⟩ : ∃ m : Nat, (μ 402 5).toInt = (m : Int) := ⟨(μ 402 5).toInt.toNat, by have := b5.1; show (μ 402 5).toInt = _; have h9 : (0 : Int) ≤ (μ 402 5).toInt := this; omega⟩
  have hm8 : m ≤ 8 := by have h9 : (μ 402 5).toInt ≤ 8 := b5.2; omega
  have q3 : ∀ k, k < m → (∀ j, j < 2 → μ 538 (68 + 2 * k + j) = fam μ 414 8 k j) ∧ bd (fam μ 414 8 k 0) 0 10 ∧ bd (fam μ 414 8 k 1) 0 1 := fun k hk => p3 k (by show (k : Int) < (μ 402 5).toInt; omega)
  obtain ⟨x, x1, x2⟩ := prF_bd (sd := fam μ 414 8) (l := 1) m hm8 (fun o ho => (q3 o ho).2.1)
  obtain ⟨y, y1, y2⟩ := prF_bd (sd := fam μ 414 8) (l := 0) m hm8 (fun o ho => (q3 o ho).2.1)
  have b2 : 10 ^ m ≤ 10 ^ 8 := Nat.pow_le_pow_right (by omega) hm8
  have hsum : (prF (fam μ 414 8) 1 m + prF (fam μ 414 8) 0 m).toInt = ((x + y : Nat) : Int) := J64_add x1 y1 (by omega)
  have key : ∃ g : Int64, ¬ lg_cmp (prF (fam μ 414 8) 1 m + prF (fam μ 414 8) 0 m) 0 = 0 → g ≠ 0 ∧ (∀ t : Int32, mX0_inLowest (prF (fam μ 414 8) 1 m) (prF (fam μ 414 8) 1 m + prF (fam μ 414 8) 0 m) t (E μ z) = some ((if t = 0 then prF (fam μ 414 8) 1 m else prF (fam μ 414 8) 1 m + prF (fam μ 414 8) 0 m) / g, E μ z)) ∧ mX2_common (prF (fam μ 414 8) 1 m) (prF (fam μ 414 8) 1 m + prF (fam μ 414 8) 0 m) (E μ z) = some (g, E μ z) := by
    by_cases hc : ¬ lg_cmp (prF (fam μ 414 8) 1 m + prF (fam μ 414 8) 0 m) 0 = 0
    · have h0 : x + y ≠ 0 := fun q => hc ((cmp_0 hsum).mpr q)
      obtain ⟨g, g1, g2, g3⟩ := low_E (w := E μ z) (w' := E μ z) x1 hsum (by omega) (by omega) h0
      exact ⟨g, fun _ => ⟨g1, g2, g3⟩⟩
    · exact ⟨1, fun q => absurd q hc⟩
  obtain ⟨g, hg⟩ := key
  have h01 : ∀ k, k < m → fam μ 414 8 k 1 = 0 ∨ fam μ 414 8 k 1 = 1 := fun k hk => by
    have h9 := (q3 k hk).2.2
    have := h9.1
    have := h9.2
    by_cases h0 : (fam μ 414 8 k 1).toInt = 0
    · exact Or.inl (I32_eq h0)
    · exact Or.inr (I32_eq (show (fam μ 414 8 k 1).toInt = 1 by omega))
  refine Agr_ro hI (lefF s (prF (fam μ 414 8) 1 m) (prF (fam μ 414 8) 0 m) g) ?_ ?_
  · show mX0_left 400 s (E μ z) = _
    unfold mX0_left mX0_productOf
    refine bind_step (recv_400 554 (by omega) _ _) ?_
    refine bind_step (cal_w (prod_loop (l1 := 1) hm hm8 m 0 FU 0 (by omega) rfl (by unfold FU; omega))) ?_
    refine bind_step (recv_400 554 (by omega) _ _) ?_
    refine bind_step (cal_w (prod_loop (l1 := 0) hm hm8 m 0 FU 0 (by omega) rfl (by unfold FU; omega))) ?_
    unfold lefF
    by_cases hc : ¬ lg_cmp (prF (fam μ 414 8) 1 m + prF (fam μ 414 8) 0 m) 0 = 0
    · refine (if_pos hc).trans ?_
      rw [if_pos hc]
      refine bind_step (cal_w ((hg hc).2.1 s)) ?_
      rfl
    · refine (if_neg hc).trans ?_
      rw [if_neg hc]
      by_cases hs : s = 0
      · refine (if_pos hs).trans ?_
        rw [if_pos hs]
      · refine (if_neg hs).trans ?_
        rw [if_neg hs]
  · show mX2_left 537 s (E μ z) = _
    unfold mX2_left
    exact left_loop (sd := fam μ 414 8) (by rw [e6]; exact hm) hm8 (fun k hk => ⟨(q3 k hk).1 0 (by omega), (q3 k hk).1 1 (by omega)⟩) h01 (fun hc => ⟨(hg hc).1, (hg hc).2.2⟩) m 0 FU 0 (by omega) rfl (by unfold FU; omega)
