/-! ===== saves: the component's tenths from rest ===== -/
/-- at rest, with a rope, a weight and a yard -/
def rsF (r wt yd : Int32) : Nat → Int32 := upd (upd (upd (fun _ => 0) 4 r) 5 wt) 7 (yd * 10)
theorem Gc_rest {r wt yd : Int32} (hr : bd r 1 24) (hw : bd wt 0 99) (hy : bd yd 0 60) : Gc 0 (rsF r wt yd) := by
  have e : ∀ j, j ≠ 4 → j ≠ 5 → j ≠ 7 → rsF r wt yd j = 0 := fun j h4 h5 h7 => by
    unfold rsF
    rw [upN h7, upN h5, upN h4]
  have z0 : ∀ a b : Int, a ≤ 0 → 0 ≤ b → bd 0 a b := fun a b ha hb => ⟨ha, hb⟩
  have e4 : rsF r wt yd 4 = r := by
    unfold rsF
    rw [upN (by omega), upN (by omega)]
    exact upd_eq
  have e5 : rsF r wt yd 5 = wt := by
    unfold rsF
    rw [upN (by omega)]
    exact upd_eq
  have e7 : rsF r wt yd 7 = yd * 10 := upd_eq
  have c10 : (10 : Int32).toInt = 10 := rfl
  have b7 : (yd * 10).toInt = yd.toInt * 10 := I32_mul rfl c10 (by have := hy.1; have := hy.2; omega)
  refine ⟨⟨by rw [e 0 (by omega) (by omega) (by omega)]; exact z0 _ _ (by omega) (by omega), by rw [e 1 (by omega) (by omega) (by omega)]; exact z0 _ _ (by omega) (by omega), by rw [e 2 (by omega) (by omega) (by omega)]; exact z0 _ _ (by omega) (by omega), by rw [e 3 (by omega) (by omega) (by omega)]; exact z0 _ _ (by omega) (by omega), by rw [e4]; exact hr, by rw [e5]; exact hw, by rw [e 6 (by omega) (by omega) (by omega)]; exact z0 _ _ (by omega) (by omega), by rw [e7]; exact ⟨by rw [b7]; have := hy.1; omega, by rw [b7]; have := hy.2; omega⟩, by rw [e 9 (by omega) (by omega) (by omega)]; exact z0 _ _ (by omega) (by omega)⟩, fun q j q1 q2 q3 hj => absurd q3 (by omega), by rw [e 8 (by omega) (by omega) (by omega)]; rfl⟩
theorem has0_E {a b : Int32} {w : Wd} : mX0_has a b w = some (if ((a >>> (b &&& 31)) &&& 1) = 1 then 1 else 0, w) := by
  unfold mX0_has
  by_cases h : ((a >>> (b &&& 31)) &&& 1) = 1
  · refine (if_neg (fun q => q h)).trans ?_
    rw [if_pos h]
    exact bind_step nok1 rfl
  · refine (if_pos h).trans ?_
    rw [if_neg h]
    exact bind_step nok0 rfl
theorem has2_E {a b : Int32} {w : Wd} : mX2_has a b w = some (if ((a >>> (b &&& 31)) &&& 1) = 1 then 1 else 0, w) := by
  unfold mX2_has
  by_cases h : ((a >>> (b &&& 31)) &&& 1) = 1
  · refine (if_neg (fun q => q h)).trans ?_
    rw [if_pos h]
    exact bind_step nok1 rfl
  · refine (if_pos h).trans ?_
    rw [if_neg h]
    exact bind_step nok0 rfl
/-- how many tenths, at most 200 -/
def tkO : Option Nat → Int32
  | none => 200
  | some j => Int32.ofNat j
abbrev sqS (μ : Mu) (t9 r wt yd : Int32) : Nat → Nat → Int32 := itH (μ 540) (μ 402 3) 1 (some t9) (rsF r wt yd)
theorem takes_E {μ : Mu} {z : Zt} {t9 a : Int32} {y o : Nat} {G : Option Nat} (hT : Tc μ z) (hy : txtOf μ z t9 y) (ha : a.toInt = (o : Int)) (ho : o < 8) (hr : bd (μ 403 4) 1 24) (hw : bd (μ (405 + o) 0) 0 99) (hyd : bd (μ (405 + o) 1) 0 60) (h7 : μ 400 7 = 0) (hG : fsW (μ 402 1) 0 (sqS μ t9 (μ 403 4) (μ (405 + o) 0) (μ (405 + o) 1)) 200 0 = G) (hGb : ∀ j, G = some j → 1 ≤ j ∧ j ≤ 200) :
    ∃ μ', mX0_takes 400 (some y) a (E μ z) = some (tkO G, E μ' z) ∧ CQ μ μ' := by
  have m1 : (-1 : Int32).toInt = -1 := rfl
  have ef := fill_E (μ := μ) (z := z) (v := 0) isI_519 (by omega) (by omega)
  rw [setM_fC okl_519] at ef
  have hX : Eq4 (rsF (μ 403 4) (μ (405 + o) 0) (μ (405 + o) 1)) (upd (upd (upd (fiK 413 0 (μ 519)) 4 (μ 403 4)) 5 (μ (405 + o) 0)) 7 (μ (405 + o) 1 * 10)) := fun j hj => by
    unfold rsF upd fiK
    by_cases j7 : j = 7
    · rw [if_pos j7, if_pos j7]
    · rw [if_neg j7, if_neg j7]
      by_cases j5 : j = 5
      · rw [if_pos j5, if_pos j5]
      · rw [if_neg j5, if_neg j5]
        by_cases j4 : j = 4
        · rw [if_pos j4, if_pos j4]
        · rw [if_neg j4, if_neg j4, if_pos hj]
  have hg : Gc 0 (upd (upd (upd (fiK 413 0 (μ 519)) 4 (μ 403 4)) 5 (μ (405 + o) 0)) 7 (μ (405 + o) 1 * 10)) := Gc_ext hX (Gc_rest hr hw hyd)
  obtain ⟨N', X', est⟩ := stillIn_loop (μ := μ) (z := z) (C := upd (μ 400) 7 1) (Xs := itH (μ 540) (μ 402 3) 1 (some t9) (upd (upd (upd (fiK 413 0 (μ 519)) 4 (μ 403 4)) 5 (μ (405 + o) 0)) 7 (μ (405 + o) 1 * 10))) (y := y) (w := 0) (t := 0) (l3 := 200) (calm := 1) hT hy upd_eq (fun k hk => Gc_it hg k (by omega)) (by omega) (fun k _ => rfl) 200 0 FU 1 (μ 518) rfl (by omega) rfl (by unfold FU; omega)
  rw [show fsW (μ 402 1) 0 (itH (μ 540) (μ 402 3) 1 (some t9) (upd (upd (upd (fiK 413 0 (μ 519)) 4 (μ 403 4)) 5 (μ (405 + o) 0)) 7 (μ (405 + o) 1 * 10))) 200 (0 + 0) = G by
    rw [← hG]
    exact fs_congr (it_congr hX) _ _] at est
  refine ⟨fC μ 519 (upd (upd (μ 400) 7 1) 7 0) N' X', ?_, CQ_C ⟨by omega, by omega⟩ (fun j hj => ?_) (CQ.refl μ)⟩
  · have o405 : ∀ (C N X : Nat → Int32), fC μ 519 C N X (405 + o) = μ (405 + o) := fun C N X => fC_o (by omega) (by omega) (by omega)
    have o403 : ∀ (C N X : Nat → Int32), fC μ 519 C N X 403 = μ 403 := fun C N X => fC_o (by omega) (by omega) (by omega)
    unfold mX0_takes
    refine bind_step (gR_400_8 554 (by omega) _ _) ?_
    refine bind_step (cal_E ef) ?_
    refine bind_step (gR_400_8 554 (by omega) _ _) ?_
    refine bind_step (gR_400_0 554 (by omega) _ _) ?_
    refine bind_step (gR_401_1 554 (by omega) _ _) ?_
    refine bind_step (ia_E (n := 4) isI_403 rfl (by omega)) ?_
    rw [o403]
    refine bind_step (iasX (n := 4) okl_519 rfl (by omega)) ?_
    refine bind_step (gR_400_8 554 (by omega) _ _) ?_
    refine bind_step (gR_400_0 554 (by omega) _ _) ?_
    refine bind_step (gR_401_2 554 (by omega) _ _) ?_
    refine bind_step (aa_E (n := o) isA_404 ha ho) ?_
    refine bind_step (ia_E (n := 0) (isI_405 o ho) rfl (by omega)) ?_
    rw [o405]
    refine bind_step (iasX (n := 5) okl_519 rfl (by omega)) ?_
    refine bind_step (gR_400_8 554 (by omega) _ _) ?_
    refine bind_step (gR_400_0 554 (by omega) _ _) ?_
    refine bind_step (gR_401_2 554 (by omega) _ _) ?_
    refine bind_step (aa_E (n := o) isA_404 ha ho) ?_
    refine bind_step (ia_E (n := 1) (isI_405 o ho) rfl (by omega)) ?_
    rw [o405]
    refine bind_step (iasX (n := 7) okl_519 rfl (by omega)) ?_
    refine bind_step (if_pos (Or.inr rfl)) ?_
    refine bind_step pfC_7 ?_
    refine bind_step (gR_400_8 554 (by omega) _ _) ?_
    refine bind_step (recv_400 554 (by omega) _ _) ?_
    unfold mX0_stillIn
    refine bind_step (cal_E est) ?_
    refine bind_step (if_pos (Or.inl rfl)) ?_
    refine bind_step pfC_7 ?_
    cases G with
    | none => exact if_neg (fun q => q rfl)
    | some j =>
      have hb := hGb j rfl
      exact if_pos (fun q => by
        have ej : (Int32.ofNat j).toInt = (j : Int) := tI (by omega)
        rw [show Int32.ofNat j = -1 from q, m1] at ej
        omega)
  · by_cases j7 : j = 7
    · rw [j7, upd_eq, h7]
    · rw [upN j7, upN j7]
