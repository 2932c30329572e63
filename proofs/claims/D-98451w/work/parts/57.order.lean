/-! ===== order ===== -/
def f5 (a b c d e : Int32) : Nat → Int32 := upd (upd (upd (upd (upd (fun _ => 0) 0 a) 1 b) 2 c) 3 d) 4 e
/-- the five numbers laid in a new array -/
def z5 (z : Zt) (a b c d e : Int32) : Zt := setD (setD (setD (setD (setD (newZ z (.inl (.int, 5, .inl (fun _ => 0))) 5) z.2.2.2.1 (.inl (.int, 5, .inl (upd (fun _ => 0) 0 a)))) z.2.2.2.1 (.inl (.int, 5, .inl (upd (upd (fun _ => 0) 0 a) 1 b)))) z.2.2.2.1 (.inl (.int, 5, .inl (upd (upd (upd (fun _ => 0) 0 a) 1 b) 2 c)))) z.2.2.2.1 (.inl (.int, 5, .inl (upd (upd (upd (upd (fun _ => 0) 0 a) 1 b) 2 c) 3 d)))) z.2.2.2.1 (.inl (.int, 5, .inl (f5 a b c d e)))
theorem order0_go {μ : Mu} {z : Zt} {a b c d e : Int32} {k : Nat} (hz : 554 ≤ z.2.2.2.1) (ha : inB a 1 99 = 1) (hb : inB b 0 60 = 1) (hc : inB c 0 999 = 1) (hd : inB d 0 9 = 1) (he : inB e 0 1 = 1) (hk : (μ 402 0).toInt = (k : Int)) (hk8 : k < 8) :
    mX0_order 400 a b c d e (E μ z) = some (μ 402 0, E (up (setM μ (405 + k) (va_cpy (f5 a b c d e) (μ (405 + k)) 0 0 5)) 402 0 (μ 402 0 + 1)) (z5 z a b c d e)) := by
  have n8 : ¬ μ 402 0 = 8 := fun q => by
    rw [q] at hk
    have : (8 : Int32).toInt = 8 := rfl
    omega
  have no : ∀ {x : Int32}, x = 1 → ¬ x = 0 := fun h => by rw [h]; decide
  unfold mX0_order
  refine bind_step (gR_400_0 554 (by omega) _ _) ?_
  refine bind_step (gR_401_0 554 (by omega) _ _) ?_
  refine bind_step (ia_E (n := 0) isI_402 rfl (by omega)) ?_
  refine bind_step (cal_w (in_E _ _ _ _)) ?_
  refine (if_neg (no ha)).trans ?_
  refine bind_step (cal_w (in_E _ _ _ _)) ?_
  refine (if_neg (no hb)).trans ?_
  refine bind_step (cal_w (in_E _ _ _ _)) ?_
  refine (if_neg (no hc)).trans ?_
  refine bind_step (cal_w (in_E _ _ _ _)) ?_
  refine (if_neg (no hd)).trans ?_
  refine bind_step (cal_w (in_E _ _ _ _)) ?_
  refine (if_neg (no he)).trans ?_
  refine (if_pos n8).trans ?_
  refine bind_step (a := 5) rfl ?_
  refine bind_step (congrArg some (wnew_E hz)) ?_
  refine bind_step (ias_D (n := 0) hz (newZ_at _ _ _) rfl (by omega)) ?_
  refine bind_step (ias_D (n := 1) hz (setD_at _ _ _) rfl (by omega)) ?_
  refine bind_step (ias_D (n := 2) hz (setD_at _ _ _) rfl (by omega)) ?_
  refine bind_step (ias_D (n := 3) hz (setD_at _ _ _) rfl (by omega)) ?_
  refine bind_step (ias_D (n := 4) hz (setD_at _ _ _) rfl (by omega)) ?_
  refine bind_step (gR_400_0 554 (by omega) _ _) ?_
  refine bind_step (gR_401_2 554 (by omega) _ _) ?_
  refine bind_step (aa_E (n := k) isA_404 hk hk8) ?_
  refine bind_step (cal_Z (copy_D hz (setD_at _ _ _) (isI_405 k hk8) (by omega) (by omega) (by omega)) (Nat.le_refl _) (Nat.le_refl _)) ?_
  refine bind_step (gR_400_0 554 (by omega) _ _) ?_
  refine bind_step (gR_401_0 554 (by omega) _ _) ?_
  refine bind_step (ia_E (n := 0) isI_402 rfl (by omega)) ?_
  refine bind_step (ias_E (n := 0) isI_402 rfl (by omega)) ?_
  rw [setM_ne (show (402 : Nat) ≠ 405 + k by omega)]
  rfl
/-- what order refuses -/
def noOrd (a b c d e n0 : Int32) : Prop := inB a 1 99 = 0 ∨ inB b 0 60 = 0 ∨ inB c 0 999 = 0 ∨ inB d 0 9 = 0 ∨ inB e 0 1 = 0 ∨ n0 = 8
theorem order0_no {μ : Mu} {z : Zt} {a b c d e : Int32} (h : noOrd a b c d e (μ 402 0)) : mX0_order 400 a b c d e (E μ z) = some (-1, E μ z) := by
  unfold noOrd at h
  unfold mX0_order
  refine bind_step (gR_400_0 554 (by omega) _ _) ?_
  refine bind_step (gR_401_0 554 (by omega) _ _) ?_
  refine bind_step (ia_E (n := 0) isI_402 rfl (by omega)) ?_
  refine bind_step (cal_w (in_E _ _ _ _)) ?_
  by_cases h1 : inB a 1 99 = 0
  · exact if_pos h1
  refine (if_neg h1).trans ?_
  refine bind_step (cal_w (in_E _ _ _ _)) ?_
  by_cases h2 : inB b 0 60 = 0
  · exact if_pos h2
  refine (if_neg h2).trans ?_
  refine bind_step (cal_w (in_E _ _ _ _)) ?_
  by_cases h3 : inB c 0 999 = 0
  · exact if_pos h3
  refine (if_neg h3).trans ?_
  refine bind_step (cal_w (in_E _ _ _ _)) ?_
  by_cases h4 : inB d 0 9 = 0
  · exact if_pos h4
  refine (if_neg h4).trans ?_
  refine bind_step (cal_w (in_E _ _ _ _)) ?_
  by_cases h5 : inB e 0 1 = 0
  · exact if_pos h5
  refine (if_neg h5).trans ?_
  exact if_neg (fun q => q ((((((h.resolve_left h1).resolve_left h2).resolve_left h3).resolve_left h4).resolve_left h5)))
theorem order2_no {μ : Mu} {z : Zt} {a b c d e : Int32} (h : noOrd a b c d e (μ 538 0)) : mX2_order 537 a b c d e (E μ z) = some (-1, E μ z) := by
  unfold noOrd at h
  unfold mX2_order
  refine bind_step (cal_w (isIn_E _ _ _ _)) ?_
  by_cases h1 : inB a 1 99 = 0
  · exact if_pos h1
  refine (if_neg h1).trans ?_
  refine bind_step (cal_w (isIn_E _ _ _ _)) ?_
  by_cases h2 : inB b 0 60 = 0
  · exact if_pos h2
  refine (if_neg h2).trans ?_
  refine bind_step (cal_w (isIn_E _ _ _ _)) ?_
  by_cases h3 : inB c 0 999 = 0
  · exact if_pos h3
  refine (if_neg h3).trans ?_
  refine bind_step (cal_w (isIn_E _ _ _ _)) ?_
  by_cases h4 : inB d 0 9 = 0
  · exact if_pos h4
  refine (if_neg h4).trans ?_
  refine bind_step (cal_w (isIn_E _ _ _ _)) ?_
  by_cases h5 : inB e 0 1 = 0
  · exact if_pos h5
  refine (if_neg h5).trans ?_
  refine bind_step (gR_537_0 554 (by omega) _ _) ?_
  refine bind_step (ia_E (n := 0) isI_538 rfl (by omega)) ?_
  exact if_neg (fun q => q ((((((h.resolve_left h1).resolve_left h2).resolve_left h3).resolve_left h4).resolve_left h5)))
/-- the model's row with a new order -/
def A5 (A : Nat → Int32) (k : Nat) (a b c d e v : Int32) : Nat → Int32 := upd (upd (upd (upd (upd (upd (upd A (20 + 6 * k) a) (21 + 6 * k) b) (22 + 6 * k) c) (23 + 6 * k) d) (24 + 6 * k) e) (25 + 6 * k) 0) 0 v
theorem up_up {μ : Mu} {k : Nat} {f : Nat → Int32} {j : Nat} {v : Int32} : up (setM μ k f) k j v = setM μ k (upd f j v) := by
  show setM (setM μ k f) k (upd (setM μ k f k) j v) = _
  rw [setM_same, setM_setM]
theorem order2_go {μ : Mu} {z : Zt} {a b c d e : Int32} {k : Nat} (ha : inB a 1 99 = 1) (hb : inB b 0 60 = 1) (hc : inB c 0 999 = 1) (hd : inB d 0 9 = 1) (he : inB e 0 1 = 1) (hk : (μ 538 0).toInt = (k : Int)) (hk8 : k < 8) :
    mX2_order 537 a b c d e (E μ z) = some (μ 538 0, E (setM μ 538 (A5 (μ 538) k a b c d e (μ 538 0 + 1))) z) := by
  have n8 : ¬ μ 538 0 = 8 := fun q => by
    rw [q] at hk
    have : (8 : Int32).toInt = 8 := rfl
    omega
  have no : ∀ {x : Int32}, x = 1 → ¬ x = 0 := fun h => by rw [h]; decide
  have i0 : (20 + 6 * μ 538 0).toInt = ((20 + 6 * k : Nat) : Int) := by
    have a1 := I32_mul (a := 6) (b := μ 538 0) (x := 6) (y := k) rfl hk (by omega)
    have a2 := I32_small (a := 20) (b := 6 * μ 538 0) (x := 20) (y := 6 * k) rfl a1 (by omega)
    rw [a2]
    omega
  have ij : ∀ (j : Nat) (jj : Int32), jj.toInt = (j : Int) → j < 6 → (20 + 6 * μ 538 0 + jj).toInt = ((20 + j + 6 * k : Nat) : Int) := fun j jj h1 h2 => by
    rw [I32_small (a := 20 + 6 * μ 538 0) (b := jj) i0 h1 (by omega)]
    omega
  unfold mX2_order
  refine bind_step (cal_w (isIn_E _ _ _ _)) ?_
  refine (if_neg (no ha)).trans ?_
  refine bind_step (cal_w (isIn_E _ _ _ _)) ?_
  refine (if_neg (no hb)).trans ?_
  refine bind_step (cal_w (isIn_E _ _ _ _)) ?_
  refine (if_neg (no hc)).trans ?_
  refine bind_step (cal_w (isIn_E _ _ _ _)) ?_
  refine (if_neg (no hd)).trans ?_
  refine bind_step (cal_w (isIn_E _ _ _ _)) ?_
  refine (if_neg (no he)).trans ?_
  refine bind_step (gR_537_0 554 (by omega) _ _) ?_
  refine bind_step (ia_E (n := 0) isI_538 rfl (by omega)) ?_
  refine (if_pos n8).trans ?_
  refine bind_step (gR_537_0 554 (by omega) _ _) ?_
  refine bind_step (ia_E (n := 0) isI_538 rfl (by omega)) ?_
  refine bind_step (gR_537_0 554 (by omega) _ _) ?_
  refine bind_step (ias_E (n := 20 + 6 * k) isI_538 i0 (by omega)) ?_
  refine bind_step (gR_537_0 554 (by omega) _ _) ?_
  refine bind_step (ias_E (n := 21 + 6 * k) isI_538 (ij 1 1 rfl (by omega)) (by omega)) ?_
  rw [up_up]
  refine bind_step (gR_537_0 554 (by omega) _ _) ?_
  refine bind_step (ias_E (n := 22 + 6 * k) isI_538 (ij 2 2 rfl (by omega)) (by omega)) ?_
  rw [up_up]
  refine bind_step (gR_537_0 554 (by omega) _ _) ?_
  refine bind_step (ias_E (n := 23 + 6 * k) isI_538 (ij 3 3 rfl (by omega)) (by omega)) ?_
  rw [up_up]
  refine bind_step (gR_537_0 554 (by omega) _ _) ?_
  refine bind_step (ias_E (n := 24 + 6 * k) isI_538 (ij 4 4 rfl (by omega)) (by omega)) ?_
  rw [up_up]
  refine bind_step (gR_537_0 554 (by omega) _ _) ?_
  refine bind_step (ias_E (n := 25 + 6 * k) isI_538 (ij 5 5 rfl (by omega)) (by omega)) ?_
  rw [up_up]
  refine bind_step (gR_537_0 554 (by omega) _ _) ?_
  refine bind_step (ia_E (n := 0) isI_538 rfl (by omega)) ?_
  rw [setM_same, upd_ne (by omega), upd_ne (by omega), upd_ne (by omega), upd_ne (by omega), upd_ne (by omega), upd_ne (by omega)]
  refine bind_step (ias_E (n := 0) isI_538 rfl (by omega)) ?_
  rw [up_up]
  refine bind_step (gR_537_0 554 (by omega) _ _) ?_
  refine bind_step (ia_E (n := 0) isI_538 rfl (by omega)) ?_
  rw [setM_same, upd_eq, Int32.add_sub_cancel]
  rfl
