/-! ===== copying: State.copy, State.be ===== -/
theorem tI {n : Nat} (h : n < 2 ^ 31) : (Int32.ofNat n).toInt = (n : Int) := Int32.toInt_ofNat_of_lt h
theorem inc_I {i : Int32} {n : Nat} (h : i.toInt = (n : Int)) (hn : n < 1000000) : (i + 1).toInt = ((n + 1 : Nat) : Int) := by
  rw [Int32.toInt_add, h]
  show ((n : Int) + (1 : Int32).toInt).bmod (2 ^ 32) = _
  rw [show (1 : Int32).toInt = 1 from rfl, Int.bmod_eq_of_le (by omega) (by omega)]
  omega
theorem copy_E {p : Nat} {μ : Mu} {z : Zt} {k k' len : Nat} (h : isI k len) (h' : isI k' len) (hl : len < 2 ^ 31) (hp : k < p) (hp' : k' < p) : mX1_copy (some k) (some k') (Ep p μ z) = some ((), Ep p (setM μ k' (va_cpy (μ k) (μ k') 0 0 len)) z) := by
  unfold mX1_copy
  refine bind_step (alen_E h hp) ?_
  refine bind_step (acpI_E h h' (p := 0) (p' := 0) (n := len) rfl rfl (tI hl) (by omega) (by omega) hp hp') ?_
  rfl
/-- the first n of a row of arrays copied -/
def cp2 (μ : Mu) (b b' n len : Nat) : Mu := fun q => if b' ≤ q ∧ q < b' + n then va_cpy (μ (b + (q - b'))) (μ q) 0 0 len else μ q
theorem cp2_step {μ : Mu} {b b' i len : Nat} (hd : b + i < b' ∨ b' + i < b) : setM (cp2 μ b b' i len) (b' + i) (va_cpy (cp2 μ b b' i len (b + i)) (cp2 μ b b' i len (b' + i)) 0 0 len) = cp2 μ b b' (i + 1) len := by
  funext q
  unfold setM
  by_cases hq : q = b' + i
  · subst hq
    rw [if_pos rfl]
    unfold cp2
    rw [if_neg (show ¬ (b' ≤ b + i ∧ b + i < b' + i) by omega), if_neg (show ¬ (b' ≤ b' + i ∧ b' + i < b' + i) by omega), if_pos (show b' ≤ b' + i ∧ b' + i < b' + (i + 1) by omega), show b' + i - b' = i by omega]
  · rw [if_neg hq]
    unfold cp2
    by_cases h1 : b' ≤ q ∧ q < b' + i
    · rw [if_pos h1, if_pos (by omega)]
    · rw [if_neg h1, if_neg (by omega)]
theorem copy2_loop {p : Nat} {μ : Mu} {z : Zt} {k k' b b' n len : Nat} (h : isA k b n) (h' : isA k' b' n) (hi : ∀ i, i < n → isI (b + i) len) (hi' : ∀ i, i < n → isI (b' + i) len) (hn : n < 1000) (hl : len < 2 ^ 31) (hp : k < p) (hp' : k' < p) (hb : b + n ≤ p) (hb' : b' + n ≤ p) (hd : b + n ≤ b' ∨ b' + n ≤ b) :
    ∀ (d i fu : Nat) (l2 : Int32), n = i + d → l2.toInt = (i : Int) → d < fu → mX1_copy_2_l2 fu (Ep p (cp2 μ b b' i len) z) (some k) (some k') l2 = some ((), Ep p (cp2 μ b b' n len) z) := by
  intro d
  induction d with
  | zero =>
    intro i fu l2 hni h2 hf
    obtain ⟨f, rfl⟩ : ∃ f, fu = f + 1 := ⟨fu - 1, by omega⟩
    show mX1_copy_2_b2 _ _ _ _ _ = _
    unfold mX1_copy_2_b2
    refine bind_step (alen_A h hp) ?_
    have : Int32.ofNat n ≤ l2 := by
      rw [Int32.le_iff_toInt_le, tI (by omega), h2]
      omega
    rw [if_pos this]
    cases hni
    rfl
  | succ d ih =>
    intro i fu l2 hni h2 hf
    obtain ⟨f, rfl⟩ : ∃ f, fu = f + 1 := ⟨fu - 1, by omega⟩
    show mX1_copy_2_b2 _ _ _ _ _ = _
    unfold mX1_copy_2_b2
    refine bind_step (alen_A h hp) ?_
    have : ¬ Int32.ofNat n ≤ l2 := by
      rw [Int32.le_iff_toInt_le, tI (by omega), h2]
      omega
    rw [if_neg this]
    refine bind_step (aa_E h h2 (by omega) hp) ?_
    refine bind_step (aa_E h' h2 (by omega) hp') ?_
    refine bind_step (cal_Z (copy_E (hi i (by omega)) (hi' i (by omega)) hl (by omega) (by omega)) (Nat.le_refl _) (Nat.le_refl _)) ?_
    rw [cp2_step (by omega)]
    exact ih (i + 1) f (l2 + 1) (by omega) (inc_I h2 (by omega)) (by omega)
theorem cp2_0 (μ : Mu) (b b' len : Nat) : cp2 μ b b' 0 len = μ := by
  funext q
  unfold cp2
  rw [if_neg (by omega)]
theorem copy2_E {p : Nat} {μ : Mu} {z : Zt} {k k' b b' n len : Nat} (h : isA k b n) (h' : isA k' b' n) (hi : ∀ i, i < n → isI (b + i) len) (hi' : ∀ i, i < n → isI (b' + i) len) (hn : n < 1000) (hl : len < 2 ^ 31) (hp : k < p) (hp' : k' < p) (hb : b + n ≤ p) (hb' : b' + n ≤ p) (hd : b + n ≤ b' ∨ b' + n ≤ b) :
    mX1_copy_2 (some k) (some k') (Ep p μ z) = some ((), Ep p (cp2 μ b b' n len) z) := by
  have h9 := copy2_loop (μ := μ) (z := z) h h' hi hi' hn hl hp hp' hb hb' hd n 0 FU 0 (by omega) rfl (by show n < 100000; omega)
  rw [cp2_0] at h9
  exact h9
