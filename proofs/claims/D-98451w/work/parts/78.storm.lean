/-! ===== storm ===== -/
theorem PS_draw {s : Int} {n X X' A A' : Nat → Int32} {ord said bar step : Nat → Nat → Int32} (hs0 : 0 ≤ s) (hX : ∀ j, j ≠ 6 → j ≠ 9 → X' j = X j) (b6 : bd (X' 6) 0 9) (b9 : bd (X' 9) 0 30252) (hA14 : A' 14 = X' 6) (hA2 : A' 2 = X' 9) (hAo : ∀ i, i ≠ 2 → i ≠ 14 → A' i = A i)
    (h : PS n X ord said bar step A) (hS : Sl s n X step) : PS n X' ord said bar step A' ∧ Sl s n X' step := by
  have h' := h
  obtain ⟨p1, p2, p3, p4, ⟨f1, f2, f3, f4, f5, f6, f7⟩, ⟨⟨r0, r1, r2, r3, r4, r5, r6, r7, r8, r9, r10, r11, r12⟩, hr, g1, g2, g3⟩, p6⟩ := h'
  have h08 := p1.2.1.2
  have e : ∀ j, j < 6 ∨ j = 7 ∨ j = 8 ∨ 10 ≤ j → X' j = X j := fun j hj => hX j (by omega) (by omega)
  have hHR : HR X' A' := by
    intro t t1 t2
    rw [e 8 (by omega)] at t1 t2
    obtain ⟨q1, q2⟩ := hr t t1 t2
    refine ⟨fun j hj => by rw [hAo _ (by omega) (by omega), e _ (by omega)]; exact q1 j hj, ?_⟩
    rw [e (53 + 6 * (t % 60)) (by omega), e (54 + 6 * (t % 60)) (by omega), e (55 + 6 * (t % 60)) (by omega), e (56 + 6 * (t % 60)) (by omega), e (57 + 6 * (t % 60)) (by omega), e (58 + 6 * (t % 60)) (by omega)]
    exact q2
  have := PS_row (s := s) (d := 0) (X' := X') (A' := A') ⟨by rw [e 8 (by omega)]; exact Int.le_refl _, by rw [e 8 (by omega)]; omega⟩ hs0 hs0 ⟨⟨by rw [e 0 (by omega)]; exact r0, by rw [e 1 (by omega)]; exact r1, by rw [e 2 (by omega)]; exact r2, by rw [e 3 (by omega)]; exact r3, by rw [e 4 (by omega)]; exact r4, by rw [e 5 (by omega)]; exact r5, b6, by rw [e 7 (by omega)]; exact r7, by rw [e 8 (by omega)]; exact r8, b9, by rw [e 10 (by omega)]; exact r10, by rw [e 11 (by omega)]; exact r11, by rw [e 12 (by omega)]; exact r12⟩, hHR, by rw [e 11 (by omega)]; exact g1, by rw [e 10 (by omega), e 11 (by omega)]; exact g2, ⟨by rw [e 11 (by omega), e 12 (by omega)]; exact g3.1, PT_keep (by rw [e 8 (by omega)]; exact Int.le_refl _) (e 12 (by omega)) r12.2 (fun i hi => e _ (by omega)) g3.2⟩⟩
    ⟨fun j hj => by
        by_cases j6 : j = 6
        · subst j6; exact hA14
        · rw [hAo _ (by omega) (by omega), e j (by omega)]; exact f1 j hj,
      hA2, by rw [hAo 17 (by omega) (by omega), e 10 (by omega)]; exact f3, by rw [hAo 7 (by omega) (by omega), e 12 (by omega)]; exact f4, fun i hi j hj => by rw [e 12 (by omega)] at hi; rw [hAo _ (by omega) (by omega), e _ (by omega)]; exact f5 i hi j hj, fun o h1 => by rw [hAo _ (by omega) (by omega), e 11 (by omega)]; exact f6 o h1, by rw [e 10 (by omega)]; exact f7⟩ (by rw [e 12 (by omega)]; exact Int.le_refl _) (fun i hi j hj => (e _ (by omega)).symm) (fun i hi i2 _ => hAo i i2 (by omega))
    (fun k hk hh => HR_ring (fun u u1 u2 j hj => hAo _ (by omega) (by omega)) hh) h hS
  rw [Int.sub_zero] at this
  exact this
def BS (s : Int) (μ : Mu) (z : Zt) (μm : Mu) (zm : Zt) : Prop := Both μ z μm zm ∧ Sl s (μ 402) (μ 403) (fam μ 428 30)
theorem rem3_bd {x : Int32} (h : bd x 0 30252) : bd (remF x 3 - 1) (-1) 1 := by
  obtain ⟨a, ha⟩ : ∃ a : Nat, x.toInt = (a : Int) := ⟨x.toInt.toNat, by have := h.1; omega⟩
  have e := remN (m := 3) (b := 3) ha rfl (by have := h.2; omega) (by omega)
  have hm := Nat.mod_lt a (show 0 < 3 by omega)
  have e2 : (remF x 3 - 1).toInt = ((a % 3 : Nat) : Int) - 1 := I32_sub e rfl (by show -1000000000 ≤ ((a % 3 : Nat) : Int) - 1 ∧ ((a % 3 : Nat) : Int) - 1 ≤ 1000000000; omega)
  exact ⟨by rw [e2]; omega, by rw [e2]; omega⟩
theorem rem10_bd {x : Int32} (h : bd x 0 30252) : bd (remF x 10) 0 9 := by
  obtain ⟨a, ha⟩ : ∃ a : Nat, x.toInt = (a : Int) := ⟨x.toInt.toNat, by have := h.1; omega⟩
  have e := remN (m := 10) (b := 10) ha rfl (by have := h.2; omega) (by omega)
  exact ⟨by rw [e]; omega, by rw [e]; omega⟩
/-- the row of one tenth of a storm -/
def sX2 (X : Nat → Int32) : Nat → Int32 := upd (upd X 6 (remF (X 9) 10)) 9 (remF (upd X 6 (remF (X 9) 10) 9 * 263 + 157) 30253)
def sX4 (tx : Nat → Int32) (t4 : Int32) (X : Nat → Int32) : Nat → Int32 :=
  let Y := tenF tx t4 0 (sX2 X) (remF (sX2 X 9) 3 - 1)
  upd Y 9 (remF (Y 9 * 263 + 157) 30253)
theorem sX2_PS {s : Int} {n X A : Nat → Int32} {ord said bar step : Nat → Nat → Int32} (hs0 : 0 ≤ s) (h : PS n X ord said bar step A) (hS : Sl s n X step) : (PS n (sX2 X) ord said bar step (upd (upd A 14 (remF (A 2) 10)) 2 (anewF (upd A 14 (remF (A 2) 10) 2))) ∧ Sl s n (sX2 X) step) ∧ sX2 X 8 = X 8 ∧ bd (sX2 X 9) 0 30252 := by
  have h9 : bd (X 9) 0 30252 := h.2.2.2.2.2.1.1.2.2.2.2.2.2.2.2.2.1
  have e2 : A 2 = X 9 := h.2.2.2.2.1.2.1
  have a := anew_eq h9
  have e9 : sX2 X 9 = remF (X 9 * 263 + 157) 30253 := by
    unfold sX2
    rw [upd_eq, upN (by omega)]
  have e6 : sX2 X 6 = remF (X 9) 10 := by
    unfold sX2
    rw [upN (by omega), upd_eq]
  have eo : ∀ j, j ≠ 6 → j ≠ 9 → sX2 X j = X j := fun j j6 j9 => by
    unfold sX2
    rw [upN j9, upN j6]
  have b9 : bd (sX2 X 9) 0 30252 := by rw [e9, ← a.1]; exact a.2
  refine ⟨PS_draw hs0 eo (by rw [e6]; exact rem10_bd h9) b9 ?_ ?_ (fun i i2 i14 => by rw [upN i2, upN i14]) h hS, eo 8 (by omega) (by omega), b9⟩
  · rw [upN (by omega), upd_eq, e6, e2]
  · rw [upd_eq, upN (by omega), e9, e2]
    exact a.1
theorem storm_loop : ∀ (d : Nat) (μ : Mu) (z : Zt) (t i fu : Nat) (s : Int) (l2 l3 : Int32), (∃ μm zm, BS s μ z μm zm) → (d : Int) ≤ s → s ≤ 40 → (μ 403 8).toInt = (t : Int) → t + d ≤ 9999 → l2.toInt = ((i + d : Nat) : Int) → l3.toInt = (i : Int) → d < fu → i + d < 1000 →
    ∃ μ', mX0_storm_l66 fu (E μ z) (some 400) l2 l3 = some (μ' 403 0, E μ' z) ∧ CFr 0 0 μ z μ' z ∧
      ∀ (μm : Mu) (zm : Zt) (fu2 : Nat), BS s μ z μm zm → d < fu2 → ∃ μm' zm', mX2_storm_l56 fu2 (E μm zm) (some 537) l2 l3 = some (μ' 403 0, E μm' zm') ∧ Both μ' z μm' zm' ∧ MFr μm zm μm' zm' := by
  intro d
  induction d with
  | zero =>
    intro μ z t i fu s l2 l3 hB hs hs4 ht h9 h1 h2 hf hi
    obtain ⟨g, rfl⟩ : ∃ g, fu = g + 1 := ⟨fu - 1, by omega⟩
    refine ⟨μ, ?_, CFr.refl μ z, fun μm zm fu2 hBm hf2 => ⟨μm, zm, ?_, hBm.1, MFr.refl μm zm⟩⟩
    · show mX0_storm_b66 _ _ _ _ _ = _
      unfold mX0_storm_b66
      refine (if_pos (by rw [Int32.le_iff_toInt_le, h1, h2]; omega)).trans ?_
      refine bind_step (gR_400_0 554 (by omega) _ _) ?_
      refine bind_step (gR_401_1 554 (by omega) _ _) ?_
      refine bind_step (ia_E (n := 0) isI_403 rfl (by omega)) ?_
      rfl
    · obtain ⟨g2, rfl⟩ : ∃ g, fu2 = g + 1 := ⟨fu2 - 1, by omega⟩
      show mX2_storm_b56 _ _ _ _ _ = _
      unfold mX2_storm_b56
      refine (if_pos (by rw [Int32.le_iff_toInt_le, h1, h2]; omega)).trans ?_
      refine bind_step (gR_537_0 554 (by omega) _ _) ?_
      refine bind_step (ia_E (n := 8) isI_538 rfl (by omega)) ?_
      have : μm 538 8 = μ 403 0 := hBm.1.1.2.2.2.2.1.1 0 (by omega)
      rw [this]
  | succ d ih =>
    intro μ z t i fu s l2 l3 ⟨μm0, zm0, hB0⟩ hs hs4 ht h9 h1 h2 hf hi
    obtain ⟨g, rfl⟩ : ∃ g, fu = g + 1 := ⟨fu - 1, by omega⟩
    obtain ⟨⟨p2, s2⟩, y8, y9⟩ := sX2_PS (by omega) hB0.1.1 hB0.2
    have ht2 : (sX2 (μ 403) 8).toInt = (t : Int) := by rw [y8]; exact ht
    obtain ⟨g1, g2, g3, g4, g5⟩ := PS_Go p2 ht2
    have hc := rem3_bd y9
    obtain ⟨N', e2⟩ := tenth_E (μ := μ) (z := z) (C := μ 400) (N := μ 518) okl_403 hB0.1.2.1 g1 ht2 (by omega) g3 hc
    rw [hB0.1.2.2.2.2.2.1] at e2
    have hcf : CFr 0 0 μ z (fC μ 403 (μ 400) N' (sX4 (μ 540) (μ 402 3) (μ 403))) z := CFr_C (Or.inl rfl) ⟨rfl, rfl, rfl, rfl⟩ (CFr.refl μ z)
    have step : ∀ μm zm, BS s μ z μm zm → ∃ F' A' N2 T' V', mX2_pass 537 (remF (sX2 (μ 403) 9) 3 - 1) (WM μm zm (μm 537) (upd (upd (μm 538) 14 (remF (μm 538 2) 10)) 2 (anewF (upd (μm 538) 14 (remF (μm 538 2) 10) 2))) (μm 543) (μm 545) (zm.1 544)) = some ((), WM μm zm F' A' N2 T' V') ∧ MFr μm zm (fM μm F' (upd A' 2 (anewF (A' 2))) N2 T') (zM zm V') ∧ BS (s - 1) (fC μ 403 (μ 400) N' (sX4 (μ 540) (μ 402 3) (μ 403))) z (fM μm F' (upd A' 2 (anewF (A' 2))) N2 T') (zM zm V') := by
      intro μm zm hB
      obtain ⟨⟨p2, s2⟩, -, -⟩ := sX2_PS (by omega) hB.1.1 hB.2
      have gg := PS_Go p2 ht2
      have a4 : upd (upd (μm 538) 14 (remF (μm 538 2) 10)) 2 (anewF (upd (μm 538) 14 (remF (μm 538 2) 10) 2)) 4 = μ 402 3 := by
        rw [upN (by omega), upN (by omega)]
        exact hB.1.1.1.1.2.2.2.1
      have hr4 : -1 ≤ (μ 402 3).toInt ∧ (μ 402 3).toInt < (μm 402 2).toInt := by rw [hB.1.2.2.2.2.1]; exact hB.1.2.1.2.2
      obtain ⟨F', A', N2, T', V', e, x1, x2, x3, x4, x5⟩ := pass_rel (μ := μm) (z := zm) (F := μm 537) (N := μm 543) (T := μm 545) (V := zm.1 544) (c := remF (sX2 (μ 403) 9) 3 - 1) (t4 := μ 402 3) hB.1.2.2.1 hr4 a4 (fun _ => p2.2.2.2.2.1.2.1) (by omega) gg
      rw [hB.1.2.2.2.2.2.2.1, hB.1.2.2.2.1] at x2 x3 x5
      obtain ⟨p3, s3⟩ := PS_ten (s := s) (by omega) hs4 ht2 (by omega) hc x2 (x3 rfl) x4 x5 p2 s2
      have hmf : MFr μm zm (fM μm F' (upd A' 2 (anewF (A' 2))) N2 T') (zM zm V') := MFr_M (fun j hj => x1 j (by omega) (by omega))
      have b9 : bd (tenF (μ 540) (μ 402 3) 0 (sX2 (μ 403)) (remF (sX2 (μ 403) 9) 3 - 1) 9) 0 30252 := p3.2.2.2.2.2.1.1.2.2.2.2.2.2.2.2.2.1
      have b6 : bd (tenF (μ 540) (μ 402 3) 0 (sX2 (μ 403)) (remF (sX2 (μ 403) 9) 3 - 1) 6) 0 9 := p3.2.2.2.2.2.1.1.2.2.2.2.2.2.1
      have aa := anew_eq b9
      obtain ⟨p4, s4⟩ := PS_draw (s := s - 1) (X' := sX4 (μ 540) (μ 402 3) (μ 403)) (A' := upd A' 2 (anewF (A' 2))) (by omega) (fun j _ j9 => upN j9) (by unfold sX4; rw [upN (by omega)]; exact b6) (by unfold sX4; rw [upd_eq, ← aa.1]; exact aa.2) (by unfold sX4; rw [upN (by omega), upN (by omega)]; exact x2 6 (by omega)) (by unfold sX4; rw [upd_eq, upd_eq, x3 rfl]; exact aa.1) (fun j j2 _ => upN j2) p3 s3
      refine ⟨F', A', N2, T', V', e, hmf, Both_next hB.1 hcf hmf ?_, ?_⟩
      · refine PSw_C (Or.inl rfl) ?_
        rw [fC_l okl_403]
        exact p4
      · have e402 : fC μ 403 (μ 400) N' (sX4 (μ 540) (μ 402 3) (μ 403)) 402 = μ 402 := fC_o (by omega) (by omega) (by omega)
        rw [e402, fC_l okl_403, fam_congr (μ := μ) (fun q hq => fC_o (by omega) (by omega) (by omega))]
        exact s4
    have hBn : ∃ μm zm, BS (s - 1) (fC μ 403 (μ 400) N' (sX4 (μ 540) (μ 402 3) (μ 403))) z μm zm := by
      obtain ⟨F', A', N2, T', V', -, -, hb⟩ := step μm0 zm0 hB0
      exact ⟨_, _, hb⟩
    have ht1 : (fC μ 403 (μ 400) N' (sX4 (μ 540) (μ 402 3) (μ 403)) 403 8).toInt = ((t + 1 : Nat) : Int) := by
      rw [fC_l okl_403]
      unfold sX4
      rw [upN (by omega), ten_8]
      exact inc_I ht2 (by omega)
    obtain ⟨μ', r1, r2, r4⟩ := ih _ z (t + 1) (i + 1) g (s - 1) l2 (l3 + 1) hBn (by omega) (by omega) ht1 (by omega) (by rw [h1]; omega) (inc_I h2 (by omega)) (by omega) (by omega)
    refine ⟨μ', ?_, CFr.trans hcf r2, fun μm zm fu2 hB hf2 => ?_⟩
    · show mX0_storm_b66 _ _ _ _ _ = _
      unfold mX0_storm_b66
      refine (if_neg (by rw [Int32.le_iff_toInt_le, h1, h2]; omega)).trans ?_
      rw [WC_00 μ z 403]
      refine bind_step (gR_400_0 554 (by omega) _ _) ?_
      refine bind_step (gR_401_1 554 (by omega) _ _) ?_
      refine bind_step (gR_400_0 554 (by omega) _ _) ?_
      refine bind_step (gR_401_1 554 (by omega) _ _) ?_
      refine bind_step (iaX (n := 9) okl_403 rfl (by omega)) ?_
      refine bind_step (irmF (by decide)) ?_
      refine bind_step (iasX (n := 6) okl_403 rfl (by omega)) ?_
      refine bind_step (gR_400_0 554 (by omega) _ _) ?_
      refine bind_step (gR_401_1 554 (by omega) _ _) ?_
      refine bind_step (cal_E (draws_E okl_403)) ?_
      refine bind_step (gR_400_0 554 (by omega) _ _) ?_
      refine bind_step (gR_401_1 554 (by omega) _ _) ?_
      refine bind_step (gR_400_0 554 (by omega) _ _) ?_
      refine bind_step (gR_401_1 554 (by omega) _ _) ?_
      refine bind_step (iaX (n := 9) okl_403 rfl (by omega)) ?_
      refine bind_step (irmF (by decide)) ?_
      refine bind_step (recv_400 554 (by omega) _ _) ?_
      refine bind_step (cal_E e2) ?_
      refine bind_step (gR_400_0 554 (by omega) _ _) ?_
      refine bind_step (gR_401_1 554 (by omega) _ _) ?_
      refine bind_step (cal_E (draws_E okl_403)) ?_
      exact r1
    · obtain ⟨g2, rfl⟩ : ∃ g, fu2 = g + 1 := ⟨fu2 - 1, by omega⟩
      obtain ⟨F', A', N2, T', V', x1, x2, x3⟩ := step μm zm hB
      obtain ⟨μm', zm', w1, w2, w3⟩ := r4 _ _ g2 x3 (by omega)
      refine ⟨μm', zm', ?_, w2, MFr.trans x2 w3⟩
      have ed : upd (upd (μm 538) 14 (remF (μm 538 2) 10)) 2 (anewF (upd (μm 538) 14 (remF (μm 538 2) 10) 2)) 2 = sX2 (μ 403) 9 := (sX2_PS (by omega) hB.1.1 hB.2).1.1.2.2.2.2.1.2.1
      show mX2_storm_b56 _ _ _ _ _ = _
      unfold mX2_storm_b56
      refine (if_neg (by rw [Int32.le_iff_toInt_le, h1, h2]; omega)).trans ?_
      rw [WM_0]
      refine bind_step (gR_537_0 554 (by omega) _ _) ?_
      refine bind_step (gR_537_0 554 (by omega) _ _) ?_
      refine bind_step (iaA (n := 2) rfl (by omega)) ?_
      refine bind_step (irmF (by decide)) ?_
      refine bind_step (iasA (n := 14) rfl (by omega)) ?_
      refine bind_step (recv_537 554 (by omega) _ _) ?_
      refine bind_step (cal_E anew_E) ?_
      refine bind_step (gR_537_0 554 (by omega) _ _) ?_
      refine bind_step (iaA (n := 2) rfl (by omega)) ?_
      rw [ed]
      refine bind_step (irmF (by decide)) ?_
      refine bind_step (recv_537 554 (by omega) _ _) ?_
      refine bind_step (calM x1) ?_
      refine bind_step (recv_537 554 (by omega) _ _) ?_
      refine bind_step (cal_E anew_E) ?_
      exact w1
theorem storm_op (a b : Int32) : Op Int32 0 0 (fun w => mX0_storm 400 a b w) (fun w => mX2_storm 537 a b w) := by
  intro μ z ⟨μm0, zm0, hB0⟩
  obtain ⟨k, n0, hk, hn0, hk30, hn8, -⟩ := PSw_nums hB0.1
  obtain ⟨t, ht, ht9⟩ := now_t hB0
  have c1 : (1 : Int32).toInt = 1 := rfl
  have c40 : (40 : Int32).toInt = 40 := rfl
  have c0 : (0 : Int32).toInt = 0 := rfl
  have c9 : (9999 : Int32).toInt = 9999 := rfl
  rcases inB_01 a 0 9999 with hin | hin
  · refine Op_same (-1) ?_ (fun μm zm h => ?_)
    · show mX0_storm 400 a b (E μ z) = _
      unfold mX0_storm
      refine bind_step (cal_w (in_E _ _ _ _)) ?_
      exact if_pos hin
    · show mX2_storm 537 a b (E μm zm) = _
      unfold mX2_storm
      refine bind_step (cal_w (isIn_E _ _ _ _)) ?_
      exact if_pos hin
  · have hn : ¬ inB a 0 9999 = 0 := by rw [hin]; exact one_ne
    have ba := inB_bd.mp hin
    rcases inB_01 b 1 40 with hib | hib
    · refine Op_same (-1) ?_ (fun μm zm h => ?_)
      · show mX0_storm 400 a b (E μ z) = _
        unfold mX0_storm
        refine bind_step (cal_w (in_E _ _ _ _)) ?_
        refine (if_neg hn).trans ?_
        refine bind_step (cal_w (in_E _ _ _ _)) ?_
        exact if_pos hib
      · show mX2_storm 537 a b (E μm zm) = _
        unfold mX2_storm
        refine bind_step (cal_w (isIn_E _ _ _ _)) ?_
        refine (if_neg hn).trans ?_
        refine bind_step (cal_w (isIn_E _ _ _ _)) ?_
        exact if_pos hib
    · have hnb : ¬ inB b 1 40 = 0 := by rw [hib]; exact one_ne
      have bb := inB_bd.mp hib
      obtain ⟨d, hd⟩ : ∃ d : Nat, b.toInt = (d : Int) := ⟨b.toInt.toNat, by have := bb.1; omega⟩
      have hd40 : d ≤ 40 := by have := bb.2; omega
      have es : (μ 403 8 + b).toInt = ((t + d : Nat) : Int) := addN ht hd (by omega)
      have p16 : ∀ μm zm, Both μ z μm zm → μm 538 16 = μ 403 8 := fun μm zm h => h.1.2.2.2.2.1.1 8 (by omega)
      by_cases h9 : t + d ≤ 9999
      · obtain ⟨μ1, e, hK⟩ := keeps_E (z := z) hk hk30
        have e403 : μ1 403 = μ 403 := hK.1 403 (by omega) (by omega)
        obtain ⟨av, hav⟩ : ∃ av : Nat, a.toInt = (av : Int) := ⟨a.toInt.toNat, by have := ba.1; omega⟩
        have e59 : (a * 3 + 59).toInt = ((av * 3 + 59 : Nat) : Int) := addN (mulN hav (y := 3) rfl (by have := ba.2; omega)) (y := 59) rfl (by have := ba.2; omega)
        have b59 : bd (a * 3 + 59) 0 30252 := ⟨by rw [e59]; omega, by rw [e59]; have := ba.2; omega⟩
        have hcf : CFr 0 0 μ z (setM μ1 403 (upd (μ 403) 9 (a * 3 + 59))) z := CFr_set (Kp_CFr hK)
        have step : ∀ μm zm, Both μ z μm zm → BS 40 (setM μ1 403 (upd (μ 403) 9 (a * 3 + 59))) z (fM μm (μm 537) (upd (keM k n0 (μm 538)) 2 (a * 3 + 59)) (μm 543) (μm 545)) (zM zm (zm.1 544)) := by
          intro μm zm hB
          obtain ⟨q1, q2⟩ := keep_PS hK hk hn0 hB.1
          rw [e403] at q1 q2
          have hmf : MFr μm zm (fM μm (μm 537) (upd (keM k n0 (μm 538)) 2 (a * 3 + 59)) (μm 543) (μm 545)) (zM zm (zm.1 544)) := MFr_M (fun _ _ => rfl)
          have q1' := q1
          obtain ⟨-, -, -, -, ⟨f1, f2, f3, f4, f5, f6, f7⟩, ⟨⟨r0, r1, r2, r3, r4, r5, r6, r7, r8, r9, r10, r11, r12⟩, -⟩, -⟩ := q1'
          obtain ⟨p3, s3⟩ := PS_draw (s := 40) (X' := upd (μ 403) 9 (a * 3 + 59)) (A' := upd (keM k n0 (μm 538)) 2 (a * 3 + 59)) (by omega) (fun j _ j9 => upN j9) (by rw [upN (by omega)]; exact r6) (by rw [upd_eq]; exact b59) (by rw [upN (by omega), upN (by omega)]; exact f1 6 (by omega)) (by rw [upd_eq, upd_eq]) (fun j j2 _ => upN j2) q1 q2
          refine ⟨Both_next hB hcf hmf ?_, ?_⟩
          · refine PSw_set ?_
            rw [setM_same]
            exact p3
          · rw [setM_same, setM_ne (show (402 : Nat) ≠ 403 by omega), fam_congr (μ := μ1) (fun q hq => setM_ne (by omega))]
            exact s3
        have ht1 : (setM μ1 403 (upd (μ 403) 9 (a * 3 + 59)) 403 8).toInt = (t : Int) := by
          rw [setM_same, upN (by omega)]
          exact ht
        obtain ⟨μ', r1, r2, r4⟩ := storm_loop d _ z t 0 FU 40 b 0 ⟨_, _, step μm0 zm0 hB0⟩ (by omega) (by omega) ht1 h9 (by rw [hd]; omega) rfl (by unfold FU; omega) (by omega)
        refine ⟨μ' 403 0, μ', z, ?_, CFr.trans hcf r2, fun μm zm hB => ?_⟩
        · show mX0_storm 400 a b (E μ z) = _
          unfold mX0_storm
          refine bind_step (cal_w (in_E _ _ _ _)) ?_
          refine (if_neg hn).trans ?_
          refine bind_step (cal_w (in_E _ _ _ _)) ?_
          refine (if_neg hnb).trans ?_
          refine bind_step (gR_400_0 554 (by omega) _ _) ?_
          refine bind_step (gR_401_1 554 (by omega) _ _) ?_
          refine bind_step (ia_E (n := 8) isI_403 rfl (by omega)) ?_
          refine (if_pos (by rw [Int32.le_iff_toInt_le, es, c9]; omega)).trans ?_
          refine bind_step (gR_400_0 554 (by omega) _ _) ?_
          refine bind_step (recv_401 554 (by omega) _ _) ?_
          refine bind_step (cal_E e) ?_
          refine bind_step (gR_400_0 554 (by omega) _ _) ?_
          refine bind_step (gR_401_1 554 (by omega) _ _) ?_
          refine bind_step (ias_E (n := 9) isI_403 rfl (by omega)) ?_
          rw [up_403 e403]
          exact r1
        · obtain ⟨k', n0', hk', hn0', -, -, hA5, hA0⟩ := PSw_nums hB.1
          have hkk : k' = k := by omega
          have hnn : n0' = n0 := by omega
          subst hkk hnn
          obtain ⟨μm', zm', w1, w2, w3⟩ := r4 _ _ FU (step μm zm hB) (by unfold FU; omega)
          refine ⟨μm', zm', ?_, w2, MFr.trans (MFr_M (fun _ _ => rfl)) w3⟩
          show mX2_storm 537 a b (E μm zm) = _
          rw [WM_0]
          unfold mX2_storm
          refine bind_step (cal_w (isIn_E _ _ _ _)) ?_
          refine (if_neg hn).trans ?_
          refine bind_step (cal_w (isIn_E _ _ _ _)) ?_
          refine (if_neg hnb).trans ?_
          refine bind_step (gR_537_0 554 (by omega) _ _) ?_
          refine bind_step (iaA (n := 16) rfl (by omega)) ?_
          rw [p16 μm zm hB]
          refine (if_pos (by rw [Int32.le_iff_toInt_le, es, c9]; omega)).trans ?_
          refine bind_step (recv_537 554 (by omega) _ _) ?_
          refine bind_step (cal_E (keep_E hA5 hk30 hA0 hn8)) ?_
          refine bind_step (gR_537_0 554 (by omega) _ _) ?_
          refine bind_step (iasA (n := 2) rfl (by omega)) ?_
          exact w1
      · refine Op_same (-1) ?_ (fun μm zm h => ?_)
        · show mX0_storm 400 a b (E μ z) = _
          unfold mX0_storm
          refine bind_step (cal_w (in_E _ _ _ _)) ?_
          refine (if_neg hn).trans ?_
          refine bind_step (cal_w (in_E _ _ _ _)) ?_
          refine (if_neg hnb).trans ?_
          refine bind_step (gR_400_0 554 (by omega) _ _) ?_
          refine bind_step (gR_401_1 554 (by omega) _ _) ?_
          refine bind_step (ia_E (n := 8) isI_403 rfl (by omega)) ?_
          exact if_neg (by rw [Int32.le_iff_toInt_le, es, c9]; omega)
        · show mX2_storm 537 a b (E μm zm) = _
          unfold mX2_storm
          refine bind_step (cal_w (isIn_E _ _ _ _)) ?_
          refine (if_neg hn).trans ?_
          refine bind_step (cal_w (isIn_E _ _ _ _)) ?_
          refine (if_neg hnb).trans ?_
          refine bind_step (gR_537_0 554 (by omega) _ _) ?_
          refine bind_step (ia_E (n := 16) isI_538 rfl (by omega)) ?_
          rw [p16 μm zm h]
          exact if_neg (by rw [Int32.le_iff_toInt_le, es, c9]; omega)
theorem ow_storm (L : Nat) (xs : Nat → Int32) : Ow_storm (Inv (TX TT) L xs) := fun n μ z a b hI => Agr_op (by omega) hI (storm_op a b)
