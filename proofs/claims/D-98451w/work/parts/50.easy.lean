/-! ===== easy calls ===== -/
/-- calls that write nothing -/
theorem Agr_ro {ρ : Type} {TX : Mu → Zt → Prop} {L : Nat} {xs : Nat → Int32} {n : Nat} {μ : Mu} {z : Zt} {f g : Wd → Option (ρ × Wd)} (hI : Inv TX L xs n μ z) (r : ρ) (hf : f (E μ z) = some (r, E μ z)) (hg : g (E μ z) = some (r, E μ z)) : Agr ρ (Inv TX L xs) n μ z f g :=
  ⟨r, μ, z, μ, z, hf, hg, ⟨Nat.le_refl _, Nat.le_refl _⟩, ⟨Nat.le_refl _, Nat.le_refl _⟩, rfl, hI.next⟩
theorem ow_fault {TX : Mu → Zt → Prop} (L : Nat) (xs : Nat → Int32) : Ow_fault (Inv TX L xs) := by
  intro n μ z a hI
  obtain ⟨t1, t2, t3, t4, t5, t6, t7⟩ := hI.2.2.1
  refine Agr_ro hI (if a = 0 then μ 400 4 else if a = 1 then μ 400 5 else -1) ?_ ?_
  · show mX0_fault 400 a (E μ z) = _
    unfold mX0_fault
    by_cases h0 : a = 0
    · rw [if_neg (fun q => q h0), if_pos h0]
      refine bind_step (gI_400_4 554 (by omega) _ _) ?_
      rfl
    · rw [if_pos h0, if_neg h0]
      by_cases h1 : a = 1
      · rw [if_neg (fun q => q h1), if_pos h1]
        refine bind_step (gI_400_5 554 (by omega) _ _) ?_
        rfl
      · rw [if_pos h1, if_neg h1]
  · show mX2_fault 537 a (E μ z) = _
    unfold mX2_fault
    by_cases h0 : a = 0
    · rw [if_neg (fun q => q h0), if_pos h0]
      refine bind_step (gI_537_5 554 (by omega) _ _) ?_
      rw [t4]
    · rw [if_pos h0, if_neg h0]
      by_cases h1 : a = 1
      · rw [if_neg (fun q => q h1), if_pos h1]
        refine bind_step (gI_537_6 554 (by omega) _ _) ?_
        rw [t5]
      · rw [if_pos h1, if_neg h1]
theorem div_small {x m : Int32} (h0 : 0 ≤ x.toInt) (h1 : x.toInt < m.toInt) : x / m = 0 := by
  apply Int32.toInt_inj.mp
  rw [Int32.toInt_div, Int.tdiv_eq_zero_of_lt h0 h1]
  rfl
theorem irm_small {x m : Int32} (h0 : 0 ≤ x.toInt) (h1 : x.toInt < m.toInt) : irm x m = some x := by
  unfold irm
  rw [if_neg (fun q => by rw [q] at h1; have : (0 : Int32).toInt = 0 := rfl; omega), div_small h0 h1]
  congr 1
  apply Int32.toInt_inj.mp
  rw [Int32.zero_mul, Int32.sub_zero]
theorem end0_E {μ : Mu} {z : Zt} {a : Int32} : mX0_end 400 a (E μ z) = some (if inB a 0 (μ 400 3) = 1 then a else -1, if inB a 0 (μ 400 3) = 1 then E (up μ 400 3 a) z else E μ z) := by
  unfold mX0_end
  refine bind_step (gI_400_3 554 (by omega) _ _) ?_
  refine bind_step (cal_w (in_E _ _ _ _)) ?_
  rcases inB_01 a 0 (μ 400 3) with h | h
  · rw [h]
    rfl
  · rw [h]
    refine (if_pos (show ¬ (1 : Int32) = 0 by decide)).trans ?_
    refine bind_step (pf_E isF_400_3) ?_
    rfl
theorem end2_E {μ : Mu} {z : Zt} {a : Int32} : mX2_end 537 a (E μ z) = some (if inB a 0 (μ 537 4) = 1 then a else -1, if inB a 0 (μ 537 4) = 1 then E (up μ 537 4 a) z else E μ z) := by
  unfold mX2_end
  refine bind_step (gI_537_4 554 (by omega) _ _) ?_
  refine bind_step (cal_w (isIn_E _ _ _ _)) ?_
  rcases inB_01 a 0 (μ 537 4) with h | h
  · rw [h]
    rfl
  · rw [h]
    refine (if_pos (show ¬ (1 : Int32) = 0 by decide)).trans ?_
    refine bind_step (pf_E isF_537_4) ?_
    rfl
theorem ow_end {TX : Mu → Zt → Prop} (hTX : TXf TX) (L : Nat) (xs : Nat → Int32) : Ow_end (Inv TX L xs) := by
  intro n μ z a hI
  obtain ⟨t1, t2, t3, t4, t5, t6, t7⟩ := hI.2.2.1
  rcases inB_01 a 0 (μ 400 3) with h | h
  · refine Agr_ro hI (-1) ?_ ?_
    · show mX0_end 400 a (E μ z) = _
      rw [end0_E, h, if_neg (by decide), if_neg (by decide)]
    · show mX2_end 537 a (E μ z) = _
      rw [end2_E, t1, h, if_neg (by decide), if_neg (by decide)]
  · refine ⟨a, up μ 400 3 a, z, up (up μ 400 3 a) 537 4 a, z, ?_, ?_, ⟨Nat.le_refl _, Nat.le_refl _⟩, ⟨Nat.le_refl _, Nat.le_refl _⟩, rfl, ?_⟩
    · show mX0_end 400 a (E μ z) = _
      rw [end0_E, h, if_pos rfl, if_pos rfl]
    · show mX2_end 537 a (E (up μ 400 3 a) z) = _
      have e : up μ 400 3 a 537 = μ 537 := setM_ne (by decide)
      rw [end2_E, e, t1, h, if_pos rfl, if_pos rfl]
    · obtain ⟨h1, h2, -, h4, h5⟩ := hI.next
      have hv : bd a 0 (μ 400 3).toInt := inB_bd.mp h
      have e : ∀ k, k ≠ 400 → k ≠ 537 → up (up μ 400 3 a) 537 4 a k = μ k := fun k k1 k2 => (setM_ne k2).trans (setM_ne k1)
      have e2 : up (up μ 400 3 a) 537 4 a 400 = upd (μ 400) 3 a := (setM_ne (by decide)).trans (setM_same _ _ _)
      have e3 : up (up μ 400 3 a) 537 4 a 537 = upd (μ 537) 4 a := (setM_same _ _ _).trans (congrArg (fun f => upd f 4 a) (setM_ne (show (537 : Nat) ≠ 400 by decide)))
      refine ⟨RelS_congr (fun k k1 k2 => e k (by omega) (by omega)) (e 538 (by omega) (by omega)) h1, RelS_congr (fun k k1 k2 => e k (by omega) (by omega)) (e 539 (by omega) (by omega)) h2, ?_, h4, hTX _ _ _ (e 540 (by omega) (by omega)) (fun k hk => by rw [e k (by omega) (by omega)]; exact ⟨rfl, rfl⟩) h5⟩
      unfold RelT
      rw [e2, e3, e 541 (by omega) (by omega), e 517 (by omega) (by omega)]
      simp only [upd_eq, upd_ne (show (4 : Nat) ≠ 3 by decide), upd_ne (show (5 : Nat) ≠ 3 by decide), upd_ne (show (7 : Nat) ≠ 3 by decide), upd_ne (show (5 : Nat) ≠ 4 by decide), upd_ne (show (6 : Nat) ≠ 4 by decide), upd_ne (show (25 : Nat) ≠ 4 by decide)]
      refine ⟨trivial, ⟨hv.1, Int.le_trans hv.2 t2.2⟩, fun j hj => t3 j (Int.lt_of_lt_of_le hj hv.2), t4, t5, t6, t7⟩
