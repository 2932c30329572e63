/-! ===== order, by ===== -/
theorem z5_fr {z : Zt} {a b c d e : Int32} : (z5 z a b c d e).2.1 = z.2.1 ∧ (∀ k, k < z.2.2.2.1 → (z5 z a b c d e).2.2.1 k = z.2.2.1 k) ∧ (z5 z a b c d e).2.2.2.1 = z.2.2.2.1 + 1 ∧ (z5 z a b c d e).2.2.2.2 = z.2.2.2.2 + 5 := by
  refine ⟨rfl, fun k hk => ?_, rfl, rfl⟩
  have h : k ≠ z.2.2.2.1 := by omega
  show (if k = z.2.2.2.1 then _ else if k = z.2.2.2.1 then _ else if k = z.2.2.2.1 then _ else if k = z.2.2.2.1 then _ else if k = z.2.2.2.1 then _ else if k = z.2.2.2.1 then _ else z.2.2.1 k) = z.2.2.1 k
  rw [if_neg h, if_neg h, if_neg h, if_neg h, if_neg h, if_neg h]
theorem order_op (a b c d e : Int32) : Op Int32 1 5 (fun w => mX0_order 400 a b c d e w) (fun w => mX2_order 537 a b c d e w) := by
  intro μ z ⟨μm0, zm0, hB0⟩
  obtain ⟨k0, k, hk0, hk, -, hk8, -⟩ := PSw_nums hB0.1
  have p0 : ∀ μm zm, Both μ z μm zm → μm 538 0 = μ 402 0 := fun μm zm h => h.1.1.1.1
  by_cases hno : noOrd a b c d e (μ 402 0)
  · obtain ⟨r, μ', z', e1, e2, e3⟩ := Op_same (f := fun w => mX0_order 400 a b c d e w) (g := fun w => mX2_order 537 a b c d e w) (-1) (order0_no hno) (fun μm zm h => order2_no (by rw [p0 μm zm h]; exact hno))
    exact ⟨r, μ', z', e1, e2.more (by omega) (by omega), e3⟩
  · have one : ∀ {x lo hi : Int32}, ¬ inB x lo hi = 0 → inB x lo hi = 1 := fun {x lo hi} h => (inB_01 x lo hi).resolve_left h
    have ha := one (fun q => hno (Or.inl q))
    have hb := one (fun q => hno (Or.inr (Or.inl q)))
    have hc := one (fun q => hno (Or.inr (Or.inr (Or.inl q))))
    have hd := one (fun q => hno (Or.inr (Or.inr (Or.inr (Or.inl q)))))
    have he := one (fun q => hno (Or.inr (Or.inr (Or.inr (Or.inr (Or.inl q))))))
    have h8 : ¬ μ 402 0 = 8 := fun q => hno (Or.inr (Or.inr (Or.inr (Or.inr (Or.inr q)))))
    have hk7 : k < 8 := by
      have : (μ 402 0).toInt ≠ 8 := fun q => h8 (I32_eq q)
      omega
    have g0 := order0_go (z := z) hB0.2.2.2.2.2.2.2 ha hb hc hd he hk hk7
    have hv : (μ 402 0 + 1).toInt = ((k + 1 : Nat) : Int) := inc_I hk (by omega)
    generalize hv9 : μ 402 0 + 1 = v at g0 hv
    generalize hf5 : va_cpy (f5 a b c d e) (μ (405 + k)) 0 0 5 = f at g0
    have fv : ∀ j, j < 5 → f j = f5 a b c d e j := fun j hj => by
      rw [← hf5]
      unfold va_cpy
      rw [if_pos (by omega)]
      congr 1
      omega
    have e402 : up (setM μ (405 + k) f) 402 0 v 402 = upd (μ 402) 0 v := by
      show setM (setM μ (405 + k) f) 402 (upd (setM μ (405 + k) f 402) 0 v) 402 = _
      rw [setM_same, setM_ne (show (402 : Nat) ≠ 405 + k by omega)]
    have eo : ∀ q, q ≠ 402 → q ≠ 405 + k → up (setM μ (405 + k) f) 402 0 v q = μ q := fun q q1 q2 => (setM_ne q1).trans (setM_ne q2)
    have ek : up (setM μ (405 + k) f) 402 0 v (405 + k) = f := (setM_ne (by omega)).trans (setM_same _ _ _)
    obtain ⟨z1, z2, z3, z4⟩ := z5_fr (z := z) (a := a) (b := b) (c := c) (d := d) (e := e)
    have hcf : CFr 1 5 μ z (up (setM μ (405 + k) f) 402 0 v) (z5 z a b c d e) := by
      refine ⟨fun q q1 q2 => eo q (by omega) (by omega), by rw [eo 400 (by omega) (by omega)]; exact ⟨rfl, rfl, rfl, rfl⟩, fun j hj => by rw [e402]; exact upN (by omega), fun q q1 q2 => eo q (by omega) (by omega), z1, z2, by rw [z3]; omega, by rw [z4]; omega⟩
    refine ⟨μ 402 0, _, _, g0, hcf, fun μm zm hB => ?_⟩
    have g2 := order2_go (z := zm) (μ := μm) ha hb hc hd he (by rw [p0 μm zm hB]; exact hk) hk7
    rw [p0 μm zm hB, hv9] at g2
    have hmf : MFr μm zm (setM μm 538 (A5 (μm 538) k a b c d e v)) zm := ⟨fun q hq => setM_ne (by omega), fun j hj => by rw [setM_ne (show (537 : Nat) ≠ 538 by omega)], rfl⟩
    refine ⟨_, _, g2, Both_next hB hcf hmf ?_, hmf⟩
    rw [setM_same, eo 403 (by omega) (by omega)]
    unfold PSw
    rw [e402, fam_congr (μ := μ) (b := 414) (fun q hq => eo _ (by omega) (by omega)), fam_congr (μ := μ) (b := 423) (fun q hq => eo _ (by omega) (by omega)), fam_congr (μ := μ) (b := 428) (fun q hq => eo _ (by omega) (by omega))]
    have fk : ∀ j, fam (up (setM μ (405 + k) f) 402 0 v) 405 8 k j = f j := fun j => by rw [fam_at hk7, ek]
    refine PS_order (ord := fam μ 405 8) hk hk7 (inB_bd.mp ha) (inB_bd.mp hb) (inB_bd.mp hc) (inB_bd.mp hd) (inB_bd.mp he) (fun j hj => upN hj) upd_eq hv (fun o ho => ?_) ?_ ?_ ?_ ?_ ?_ (fun i i0 hi => ?_) upd_eq ?_ ?_ ?_ ?_ ?_ ?_ hB.1
    · unfold fam
      by_cases h9 : o < 8
      · rw [if_pos h9, if_pos h9, eo _ (by omega) (by omega)]
      · rw [if_neg h9, if_neg h9]
    · rw [fk, fv 0 (by omega)]; rfl
    · rw [fk, fv 1 (by omega)]; rfl
    · rw [fk, fv 2 (by omega)]; rfl
    · rw [fk, fv 3 (by omega)]; rfl
    · rw [fk, fv 4 (by omega)]; rfl
    · unfold A5
      rw [upN i0, upN (by omega), upN (by omega), upN (by omega), upN (by omega), upN (by omega), upN (by omega)]
    · unfold A5
      rw [upN (by omega), upN (by omega), upN (by omega), upN (by omega), upN (by omega), upN (by omega), upd_eq]
    · unfold A5
      rw [upN (by omega), upN (by omega), upN (by omega), upN (by omega), upN (by omega), upd_eq]
    · unfold A5
      rw [upN (by omega), upN (by omega), upN (by omega), upN (by omega), upd_eq]
    · unfold A5
      rw [upN (by omega), upN (by omega), upN (by omega), upd_eq]
    · unfold A5
      rw [upN (by omega), upN (by omega), upd_eq]
    · unfold A5
      rw [upN (by omega), upd_eq]
theorem ow_order (L : Nat) (xs : Nat → Int32) : Ow_order (Inv (TX TT) L xs) := fun n μ z a b c d e hI => Agr_op (by omega) hI (order_op a b c d e)
