/-! ===== calmest ===== -/
def clm (gs : Nat → Int32) : Nat → Nat → Int32 → Int32 → Int32
  | 0, _, f, _ => f
  | q + 1, t, f, l => if f = -1 then clm gs q (t + 1) (Int32.ofNat t) (gs t) else if gs t < l then clm gs q (t + 1) (Int32.ofNat t) (gs t) else clm gs q (t + 1) f l
/-- the greatest size of away by a text's hand -/
def gsF (μ : Mu) (n : Nat) (i : Nat) : Int32 := grF (sqH μ 0 (some (Int32.ofNat i))) 1 n
theorem txt_i {μ : Mu} {z : Zt} {i : Nat} (hT : TX TT μ z) (h : (i : Int) < (μ 402 2).toInt) : i < 4 ∧ ∃ y, z.2.1 458 i = some y ∧ txtOf μ z (Int32.ofNat i) y := by
  have h4 := hT.2.2.2.1.2
  obtain ⟨y, y1, -⟩ := hT.2.2.2.2.2.1 i h
  have e : (Int32.ofNat i).toInt = (i : Int) := tI (by omega)
  exact ⟨by omega, y, y1, Or.inr ⟨by rw [e]; omega, by rw [e]; exact h, by rw [e]; exact y1⟩⟩
theorem calmest_C {μ0 : Mu} {z : Zt} {l1 : Int32} {t n nt : Nat} (hT : Tc μ0 z) (hz : 554 ≤ z.2.2.2.1) (hg : Gc t (μ0 403)) (hc7 : μ0 400 7 = 0) (h1 : l1.toInt = (n : Int)) (hn : n ≤ 200) (h9 : t < 20000) (hnt : (μ0 402 2).toInt = (nt : Int)) :
    ∀ (q i fu : Nat) (l2 l3 l4 : Int32) (μ : Mu), CQ μ0 μ → nt = i + q → l4.toInt = (i : Int) → q < fu → ∃ μ', mX0_calmest_l20 fu (E μ z) (some 400) l1 l2 l3 l4 = some (clm (gsF μ0 n) q i l2 l3, E μ' z) ∧ CQ μ0 μ' := by
  have h4 := hT.2.1.2.2.2.1.2
  intro q
  induction q with
  | zero =>
    intro i fu l2 l3 l4 μ hq hi hl hf
    obtain ⟨g, rfl⟩ : ∃ g, fu = g + 1 := ⟨fu - 1, by omega⟩
    refine ⟨μ, ?_, hq⟩
    show mX0_calmest_b20 _ _ _ _ _ _ _ = _
    unfold mX0_calmest_b20
    refine bind_step (gR_400_0 554 (by omega) _ _) ?_
    refine bind_step (gR_401_0 554 (by omega) _ _) ?_
    refine bind_step (ia_E (n := 2) isI_402 rfl (by omega)) ?_
    rw [hq.1 402 (by omega)]
    exact if_pos (by rw [Int32.le_iff_toInt_le, hnt, hl]; omega)
  | succ q ih =>
    intro i fu l2 l3 l4 μ hq hi hl hf
    obtain ⟨g, rfl⟩ : ∃ g, fu = g + 1 := ⟨fu - 1, by omega⟩
    have hT1 := Tc_CFr (CQ_CFr (z := z) hq) hz hT
    obtain ⟨i4, y, y1, y2⟩ := txt_i (i := i) hT1.2.1 (by rw [hq.1 402 (by omega)]; omega)
    obtain ⟨μ1, e1, q1, q2, -, -⟩ := goes_Q (z := z) (h := some (Int32.ofNat i)) (hl := some y) (t := t) (fr := 1) (l1 := l1) (l3 := 1) hT1 (Or.inr ⟨_, _, rfl, rfl, y2⟩) (by rw [hq.1 403 (by omega)]; exact hg) (show t + n < 900000 by omega) (by omega) h1 rfl
    rw [hq.2 7 (by omega), hc7, sqH_CQ hq] at q2
    have hg1 : μ1 400 9 = gsF μ0 n i := q2
    have el4 : l4 = Int32.ofNat i := I_nat hl
    have pre : ∀ (r : Option (Int32 × Wd)), (if l2 = -1 then ((gI (E μ1 z) (some 400) 0 9).bind fun v9 => mX0_calmest_l20 g (E μ1 z) (some 400) l1 l4 v9 (l4 + 1)) else ((gI (E μ1 z) (some 400) 0 9).bind fun v10 => if v10 < l3 then ((gI (E μ1 z) (some 400) 0 9).bind fun v11 => mX0_calmest_l20 g (E μ1 z) (some 400) l1 l4 v11 (l4 + 1)) else mX0_calmest_l20 g (E μ1 z) (some 400) l1 l2 l3 (l4 + 1))) = r → mX0_calmest_l20 (g + 1) (E μ z) (some 400) l1 l2 l3 l4 = r := by
      intro r hr
      show mX0_calmest_b20 _ _ _ _ _ _ _ = _
      unfold mX0_calmest_b20
      refine bind_step (gR_400_0 554 (by omega) _ _) ?_
      refine bind_step (gR_401_0 554 (by omega) _ _) ?_
      refine bind_step (ia_E (n := 2) isI_402 rfl (by omega)) ?_
      rw [hq.1 402 (by omega)]
      refine (if_neg (by rw [Int32.le_iff_toInt_le, hnt, hl]; omega)).trans ?_
      refine bind_step (gR_400_0 554 (by omega) _ _) ?_
      refine bind_step (gR_401_6 554 (by omega) _ _) ?_
      refine bind_step (aaX_E (n := i) isX_458 hl i4) ?_
      rw [y1]
      refine bind_step (recv_400 554 (by omega) _ _) ?_
      refine bind_step (cal_E e1) ?_
      exact hr
    have hq1 := CQ.trans hq q1
    unfold clm
    by_cases c1 : l2 = -1
    · rw [if_pos c1]
      obtain ⟨μ', e2, r2⟩ := ih (i + 1) g (Int32.ofNat i) (gsF μ0 n i) (l4 + 1) μ1 hq1 (by omega) (inc_I hl (by omega)) (by omega)
      refine ⟨μ', pre _ ?_, r2⟩
      rw [if_pos c1]
      refine bind_step (gI_400_9 554 (by omega) _ _) ?_
      rw [hg1, el4]
      rw [el4] at e2
      exact e2
    · rw [if_neg c1]
      by_cases c2 : gsF μ0 n i < l3
      · rw [if_pos c2]
        obtain ⟨μ', e2, r2⟩ := ih (i + 1) g (Int32.ofNat i) (gsF μ0 n i) (l4 + 1) μ1 hq1 (by omega) (inc_I hl (by omega)) (by omega)
        refine ⟨μ', pre _ ?_, r2⟩
        rw [if_neg c1]
        refine bind_step (gI_400_9 554 (by omega) _ _) ?_
        rw [hg1, if_pos c2]
        refine bind_step (gI_400_9 554 (by omega) _ _) ?_
        rw [hg1, el4]
        rw [el4] at e2
        exact e2
      · rw [if_neg c2]
        obtain ⟨μ', e2, r2⟩ := ih (i + 1) g l2 l3 (l4 + 1) μ1 hq1 (by omega) (inc_I hl (by omega)) (by omega)
        refine ⟨μ', pre _ ?_, r2⟩
        rw [if_neg c1]
        refine bind_step (gI_400_9 554 (by omega) _ _) ?_
        rw [hg1, if_neg c2]
        exact e2
theorem MFr_w {μ μ1 : Mu} {z z1 : Zt} {S F A N T : Nat → Int32} {V : Nat → Int64} (h0 : MFr μ z μ1 z1) (h : ∀ j, (j = 4 ∨ j = 5 ∨ j = 6 ∨ j = 25) → F j = μ1 537 j) : MFr μ z (fM (setM μ1 546 S) F A N T) (zM z1 V) := MFr.trans h0 (MFr_546 h)
theorem calmest_M {μ0 : Mu} {z0 : Zt} {X A0 : Nat → Int32} {l1 : Int32} {t n nt : Nat} (hT : TX TT μ0 z0) (ha : -1 ≤ (μ0 402 3).toInt ∧ (μ0 402 3).toInt < (μ0 402 2).toInt) (hg : Go t X A0) (hX : X = μ0 403) (hA4 : A0 4 = μ0 402 3) (hA2 : A0 2 = X 9) (hA3 : A0 3 = μ0 402 2) (h1 : l1.toInt = (n : Int)) (hn : n ≤ 200) (h9 : t < 20000) (hnt : (μ0 402 2).toInt = (nt : Int)) (h25 : μ0 537 25 = 0) :
    ∀ (q i fu : Nat) (l2 l3 l4 : Int32) (μ : Mu) (z : Zt), MFr μ0 z0 μ z → RgOk t A0 (μ 538) → nt = i + q → l4.toInt = (i : Int) → q < fu → ∃ μ' z', mX2_calmest_l20 fu (E μ z) (some 537) l1 l2 l3 l4 = some (clm (gsF μ0 n) q i l2 l3, E μ' z') ∧ MFr μ0 z0 μ' z' ∧ RgOk t A0 (μ' 538) := by
  have h4 := hT.2.2.2.1.2
  intro q
  induction q with
  | zero =>
    intro i fu l2 l3 l4 μ z hm hr hi hl hf
    obtain ⟨g, rfl⟩ : ∃ g, fu = g + 1 := ⟨fu - 1, by omega⟩
    refine ⟨μ, z, ?_, hm, hr⟩
    show mX2_calmest_b20 _ _ _ _ _ _ _ = _
    unfold mX2_calmest_b20
    refine bind_step (gR_537_0 554 (by omega) _ _) ?_
    refine bind_step (ia_E (n := 3) isI_538 rfl (by omega)) ?_
    rw [hr.1 3 (by omega), hA3]
    exact if_pos (by rw [Int32.le_iff_toInt_le, hnt, hl]; omega)
  | succ q ih =>
    intro i fu l2 l3 l4 μ z hm hr hi hl hf
    obtain ⟨g, rfl⟩ : ∃ g, fu = g + 1 := ⟨fu - 1, by omega⟩
    have e402 : μ 402 = μ0 402 := hm.1 402 (by omega)
    have e540 : μ 540 = μ0 540 := hm.1 540 (by omega)
    have hT1 : TX TT μ z := TX_MFr hm hT
    have el4 : l4 = Int32.ofNat i := I_nat hl
    obtain ⟨S, F', A', N', T', V', em, w1, w2, w3, w4⟩ := halves_E (μ := μ) (z := z) (t4 := μ0 402 3) (t9 := l4) (l2 := l1) (F := μ 537) (A := μ 538) (X := X) (N := μ 543) (T := μ 545) (V := z.1 544) (t := t) (n := n) hT1 (by rw [e402]; exact ha) (by rw [e402]; exact ⟨by omega, by omega⟩) (by omega) hn h1 (by rw [hm.2.1 25 (by omega)]; exact h25) (Go_ring hg hr) (by rw [hr.1 4 (by omega)]; exact hA4) (by rw [hr.1 2 (by omega)]; exact hA2)
    rw [e540, el4] at w1 w2
    have hgs : jmaxI (F' 27) (F' 28) = gsF μ0 n i := by
      rw [w1, w2, fl_gr, hX]
      rfl
    have hm1 : MFr μ0 z0 (fM (setM μ 546 S) F' A' N' T') (zM z V') := MFr_w hm (fun j hj => w3 j (by omega) (by omega) (by omega) (by omega))
    have hr1 : RgOk t A0 A' := RgOk.trans hr w4
    have pre : ∀ (r : Option (Int32 × Wd)), mX2_calmest_p60 (mX2_calmest_l20 g) (WM (setM μ 546 S) z F' A' N' T' V') (some 537) l1 l2 l3 l4 (gsF μ0 n i) = r → mX2_calmest_l20 (g + 1) (E μ z) (some 537) l1 l2 l3 l4 = r := by
      intro r hr9
      show mX2_calmest_b20 _ _ _ _ _ _ _ = _
      unfold mX2_calmest_b20
      refine bind_step (gR_537_0 554 (by omega) _ _) ?_
      refine bind_step (ia_E (n := 3) isI_538 rfl (by omega)) ?_
      rw [hr.1 3 (by omega), hA3]
      refine (if_neg (by rw [Int32.le_iff_toInt_le, hnt, hl]; omega)).trans ?_
      rw [WM_0 μ z]
      refine bind_step (recv_537 554 (by omega) _ _) ?_
      refine bind_step (calM em) ?_
      refine bind_step gIM_27 ?_
      refine bind_step gIM_28 ?_
      by_cases c : F' 27 ≤ F' 28
      · refine (if_pos c).trans ?_
        refine bind_step gIM_28 ?_
        have : F' 28 = gsF μ0 n i := by
          rw [← hgs, ← max_le]
          by_cases c2 : F' 28 ≤ F' 27
          · rw [if_pos c2]
            refine I32_eq ?_
            rw [Int32.le_iff_toInt_le] at c c2
            omega
          · rw [if_neg c2]
        rw [this]
        exact hr9
      · refine (if_neg c).trans ?_
        refine bind_step gIM_27 ?_
        have : F' 27 = gsF μ0 n i := by
          rw [← hgs, ← max_le, if_pos (by rw [Int32.le_iff_toInt_le] at c ⊢; omega)]
        rw [this]
        exact hr9
    have go1 : ∀ f l, ∃ μ' z', mX2_calmest_l20 g (WM (setM μ 546 S) z F' A' N' T' V') (some 537) l1 f l (l4 + 1) = some (clm (gsF μ0 n) q (i + 1) f l, E μ' z') ∧ MFr μ0 z0 μ' z' ∧ RgOk t A0 (μ' 538) := fun f l => ih (i + 1) g f l (l4 + 1) _ _ hm1 hr1 (by omega) (inc_I hl (by omega)) (by omega)
    unfold clm
    by_cases c1 : l2 = -1
    · rw [if_pos c1]
      obtain ⟨μ', z', e2, r2⟩ := go1 (Int32.ofNat i) (gsF μ0 n i)
      refine ⟨μ', z', pre _ ?_, r2⟩
      unfold mX2_calmest_p60
      rw [if_pos c1, el4]
      rw [el4] at e2
      exact e2
    · rw [if_neg c1]
      by_cases c2 : gsF μ0 n i < l3
      · rw [if_pos c2]
        obtain ⟨μ', z', e2, r2⟩ := go1 (Int32.ofNat i) (gsF μ0 n i)
        refine ⟨μ', z', pre _ ?_, r2⟩
        unfold mX2_calmest_p60
        rw [if_neg c1, if_pos c2, el4]
        rw [el4] at e2
        exact e2
      · rw [if_neg c2]
        obtain ⟨μ', z', e2, r2⟩ := go1 l2 l3
        refine ⟨μ', z', pre _ ?_, r2⟩
        unfold mX2_calmest_p60
        rw [if_neg c1, if_neg c2]
        exact e2
theorem ow_calmest (L : Nat) (xs : Nat → Int32) : Ow_calmest (Inv (TX TT) L xs) := by
  intro n μ z a hI
  obtain ⟨t, ht, ht9, hgo, hTc, hn1, h4, h2, hc7, hf25⟩ := Inv_q hI
  have a3 : μ 538 3 = μ 402 2 := hI.1.1.1.2.2.1
  rcases inB_01 a 1 200 with hin | hin
  · refine Agr_ro hI (-1) ?_ ?_
    · show mX0_calmest 400 a (E μ z) = _
      unfold mX0_calmest
      refine bind_step (cal_w (in_E _ _ _ _)) ?_
      exact if_neg (fun q => q hin)
    · show mX2_calmest 537 a (E μ z) = _
      unfold mX2_calmest
      refine bind_step (cal_w (isIn_E _ _ _ _)) ?_
      exact if_neg (fun q => q hin)
  · have hn : ¬ inB a 1 200 = 0 := by rw [hin]; exact one_ne
    have ba := inB_bd.mp hin
    have c1 : (1 : Int32).toInt = 1 := rfl
    have c200 : (200 : Int32).toInt = 200 := rfl
    obtain ⟨d, hd⟩ : ∃ d : Nat, a.toInt = (d : Int) := ⟨a.toInt.toNat, by have := ba.1; omega⟩
    have hd200 : d ≤ 200 := by have := ba.2; omega
    have bn := hTc.2.1.2.2.2.1
    obtain ⟨nt, hnt⟩ : ∃ nt : Nat, (μ 402 2).toInt = (nt : Int) := ⟨(μ 402 2).toInt.toNat, by have := bn.1; omega⟩
    have hnt4 : nt ≤ 4 := by have := bn.2; omega
    obtain ⟨μ1, e1, q1⟩ := calmest_C (z := z) (l1 := a) hTc hI.2.2.2.1.2.1 (Go_Gc hgo) hc7 hd hd200 (by omega) hnt nt 0 FU (-1) 0 0 μ (CQ.refl μ) (by omega) rfl (by unfold FU; omega)
    have e402 := q1.1 402 (by omega)
    have e403 := q1.1 403 (by omega)
    have e538 := q1.1 538 (by omega)
    have e537 := q1.1 537 (by omega)
    have hT1 : Tc μ1 z := Tc_CFr (CQ_CFr (z := z) q1) hI.2.2.2.1.2.1 hTc
    have egs : gsF μ1 d = gsF μ d := by
      funext i
      unfold gsF
      rw [sqH_CQ q1]
    obtain ⟨μ2, z2, e2, m1, m2⟩ := calmest_M (μ0 := μ1) (z0 := z) (X := μ 403) (A0 := μ 538) (l1 := a) (t := t) (n := d) (nt := nt) hT1.2.1 (by rw [e402]; exact hTc.2.2) hgo e403.symm (by rw [e402]; exact h4) h2 (by rw [e402]; exact a3) hd hd200 (by omega) (by rw [e402]; exact hnt) (by rw [e537]; exact hf25) nt 0 FU (-1) 0 0 μ1 z (MFr.refl μ1 z) (by rw [e538]; exact RgOk.refl t _) (by omega) rfl (by unfold FU; omega)
    rw [egs] at e2
    refine Agr_q hI ht (clm (gsF μ d) nt 0 (-1) 0) ?_ q1 ?_ m1 m2
    · show mX0_calmest 400 a (E μ z) = _
      unfold mX0_calmest
      refine bind_step (cal_w (in_E _ _ _ _)) ?_
      refine (if_pos hn).trans ?_
      exact e1
    · show mX2_calmest 537 a (E μ1 z) = _
      unfold mX2_calmest
      refine bind_step (cal_w (isIn_E _ _ _ _)) ?_
      refine (if_pos hn).trans ?_
      exact e2
