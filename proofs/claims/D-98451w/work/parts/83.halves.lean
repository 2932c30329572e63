/-! ===== dies, calmest ===== -/
def fmF (Xs : Nat → Nat → Int32) (n : Nat) : Nat → Int32
  | 0 => 0
  | k + 1 => if n < 2 * (k + 1) then fmF Xs n k else jmaxI (fmF Xs n k) (awF (Xs (k + 1)))
def lmF (Xs : Nat → Nat → Int32) (n : Nat) : Nat → Int32
  | 0 => 0
  | k + 1 => if n < 2 * (k + 1) then jmaxI (lmF Xs n k) (awF (Xs (k + 1))) else lmF Xs n k
theorem max_I (a b : Int32) : (jmaxI a b).toInt = if a.toInt < b.toInt then b.toInt else a.toInt := by
  unfold jmaxI
  simp only [Int32.lt_iff_toInt_lt]
  split <;> rfl
theorem lm_gr {Xs : Nat → Nat → Int32} {d : Nat} : ∀ k, lmF Xs (2 * d) k = grF Xs (d + 1) k := by
  intro k
  induction k with
  | zero => rfl
  | succ k ih =>
    unfold lmF grF
    rw [ih]
    by_cases h : k + 1 < d + 1
    · rw [if_pos h, if_neg (by omega)]
    · rw [if_neg h, if_pos (by omega)]
theorem fm_gr {Xs : Nat → Nat → Int32} {d : Nat} : ∀ k, fmF Xs (2 * d) k = grF Xs 1 (if k ≤ d then k else d) := by
  intro k
  induction k with
  | zero => rfl
  | succ k ih =>
    unfold fmF
    rw [ih]
    by_cases h : k + 1 ≤ d
    · rw [if_neg (show ¬ 2 * d < 2 * (k + 1) by omega), if_pos (show k ≤ d by omega), if_pos h]
      exact (if_neg (by omega)).symm
    · rw [if_pos (show 2 * d < 2 * (k + 1) by omega), if_neg h]
      by_cases h2 : k ≤ d
      · rw [if_pos h2, show k = d by omega]
      · rw [if_neg h2]
theorem fl_gr {Xs : Nat → Nat → Int32} {n : Nat} : ∀ k, jmaxI (fmF Xs n k) (lmF Xs n k) = grF Xs 1 k := by
  intro k
  induction k with
  | zero => rfl
  | succ k ih =>
    unfold fmF lmF grF
    rw [← ih, if_neg (show ¬ k + 1 < 1 by omega)]
    by_cases h : n < 2 * (k + 1)
    · rw [if_pos h, if_pos h]
      refine I32_eq ?_
      rw [max_I, max_I, max_I, max_I]
      split <;> split <;> (try split) <;> omega
    · rw [if_neg h, if_neg h]
      refine I32_eq ?_
      rw [max_I, max_I, max_I, max_I]
      split <;> split <;> (try split) <;> omega
theorem Go_ring {t : Nat} {X A A' : Nat → Int32} (h : Go t X A) (hr : RgOk t A A') : Go t X A' := by
  obtain ⟨g1, g2, g3, g4, g5⟩ := h
  exact ⟨g1, fun j hj => (hr.1 _ (by omega)).trans (g2 j hj), g3, fun q j q1 q2 q3 hj => (hr.2 (t - q) j (by omega) (by omega) (by omega)).trans (g4 q j q1 q2 q3 hj), g5⟩
section WM83
variable {μ : Mu} {z : Zt}
theorem halves_loop {t4 t9 l2 : Int32} {Xs : Nat → Nat → Int32} {A0 : Nat → Int32} {t n : Nat} (hXs : ∀ k, Xs (k + 1) = tenF (μ 540) t4 0 (Xs k) (cmH (μ 540) (some t9) (Xs k))) (hT : TX TT μ z) (ha : -1 ≤ t4.toInt ∧ t4.toInt < (μ 402 2).toInt) (ha9 : -1 ≤ t9.toInt ∧ t9.toInt < (μ 402 2).toInt) (h46 : ∀ i, i < 18 → μ 546 i = A0 i) (h9 : t + n < 900000) (hn : n ≤ 200) (h2 : l2.toInt = (n : Int)) :
    ∀ (d k fu : Nat) (l3 : Int32) (F A N T : Nat → Int32) (V : Nat → Int64), n = k + d → l3.toInt = ((k + 1 : Nat) : Int) → d < fu → F 25 = 0 → Ml t k μ t4 A0 (Xs k) A 0 → F 27 = fmF Xs n k → F 28 = lmF Xs n k →
    ∃ F' A' N' T' V', mX2_halves_l16 fu (WM μ z F A N T V) (some 537) t9 l2 l3 = some ((), WM μ z F' A' N' T' V') ∧ F' 27 = fmF Xs n n ∧ F' 28 = lmF Xs n n ∧ (∀ i, i ≠ 21 → i ≠ 22 → i ≠ 27 → i ≠ 28 → F' i = F i) ∧ RgOk t A0 A' := by
  intro d
  induction d with
  | zero =>
    intro k fu l3 F A N T V hd h3 hf h25 hm h27 h28
    obtain ⟨g, rfl⟩ : ∃ g, fu = g + 1 := ⟨fu - 1, by omega⟩
    have hkn : k = n := by omega
    subst hkn
    refine ⟨upd F 25 0, cpK 18 (μ 546) A, N, T, V, ?_, by rw [upN (by omega)]; exact h27, by rw [upN (by omega)]; exact h28, fun i i1 i2 _ _ => ?_, hm.2.1.ok (by omega) h46⟩
    · show mX2_halves_b16 _ _ _ _ _ _ = _
      unfold mX2_halves_b16
      refine (if_pos (by rw [Int32.lt_iff_toInt_lt, h2, h3]; omega)).trans ?_
      refine bind_step (recv_537 554 (by omega) _ _) ?_
      exact bind_step (cal_E putBack_E) rfl
    · by_cases hi : i = 25
      · subst hi
        rw [upd_eq, h25]
      · rw [upN hi]
  | succ d ih =>
    intro k fu l3 F A N T V hd h3 hf h25 hm h27 h28
    obtain ⟨g, rfl⟩ : ∃ g, fu = g + 1 := ⟨fu - 1, by omega⟩
    obtain ⟨T1, V1, e1⟩ := Ml_hand (F := F) (N := N) (T := T) (V := V) (a := t9) hT ha9 (by omega) hm
    obtain ⟨F2, A2, N2, T2, V2, e2, x1, x2⟩ := Ml_pass (F := fNow F A) (N := nmM A N) (T := T1) (V := V1) (c := handF (μ 540) t9 (Xs k)) hT ha (by omega) (by rw [fNow_o (by omega) (by omega)]; exact h25) hm
    have hX : tenF (μ 540) t4 0 (Xs k) (handF (μ 540) t9 (Xs k)) = Xs (k + 1) := (hXs k).symm
    rw [hX] at x2
    have em : jabsI (A2 8 - A2 10) = awF (Xs (k + 1)) := by
      rw [show A2 8 = _ from x2.1.2.1 0 (by omega), show A2 10 = _ from x2.1.2.1 2 (by omega)]
      rfl
    have fo : ∀ i, i ≠ 21 → i ≠ 22 → F2 i = F i := fun i i1 i2 => (x1 i i1 i2).trans (fNow_o i1 i2)
    have e2l : (2 * l3).toInt = ((2 * (k + 1) : Nat) : Int) := mulN (x := 2) rfl h3 (by omega)
    have same : ∀ (G : Nat → Int32) (j : Nat) (v : Int32), G j = v → upd G j v = G := fun G j v hv => by
      funext i
      unfold upd
      by_cases hi : i = j
      · rw [if_pos hi, hi, hv]
      · rw [if_neg hi]
    have pre : ∀ F3, F3 25 = 0 → F3 27 = fmF Xs n (k + 1) → F3 28 = lmF Xs n (k + 1) → (∀ i, i ≠ 21 → i ≠ 22 → i ≠ 27 → i ≠ 28 → F3 i = F i) → ∃ F' A' N' T' V', mX2_halves_l16 g (WM μ z F3 A2 N2 T2 V2) (some 537) t9 l2 (l3 + 1) = some ((), WM μ z F' A' N' T' V') ∧ F' 27 = fmF Xs n n ∧ F' 28 = lmF Xs n n ∧ (∀ i, i ≠ 21 → i ≠ 22 → i ≠ 27 → i ≠ 28 → F' i = F i) ∧ RgOk t A0 A' := by
      intro F3 y25 y27 y28 yo
      obtain ⟨F', A', N', T', V', e, w1, w2, w3, w4⟩ := ih (k + 1) g (l3 + 1) F3 A2 N2 T2 V2 (by omega) (inc_I h3 (by omega)) (by omega) y25 x2 y27 y28
      exact ⟨F', A', N', T', V', e, w1, w2, fun i i1 i2 i3 i4 => (w3 i i1 i2 i3 i4).trans (yo i i1 i2 i3 i4), w4⟩
    by_cases hc : n < 2 * (k + 1)
    · have ef : fmF Xs n (k + 1) = fmF Xs n k := if_pos hc
      have el : lmF Xs n (k + 1) = jmaxI (lmF Xs n k) (awF (Xs (k + 1))) := if_pos hc
      obtain ⟨F', A', N', T', V', e, q⟩ := pre (upd F2 28 (lmF Xs n (k + 1))) (by rw [upN (by omega), fo 25 (by omega) (by omega)]; exact h25) (by rw [upN (by omega), fo 27 (by omega) (by omega), ef]; exact h27) upd_eq (fun i i1 i2 _ i4 => by rw [upN i4, fo i i1 i2])
      refine ⟨F', A', N', T', V', ?_, q⟩
      show mX2_halves_b16 _ _ _ _ _ _ = _
      unfold mX2_halves_b16
      refine (if_neg (by rw [Int32.lt_iff_toInt_lt, h2, h3]; omega)).trans ?_
      refine bind_step (recv_537 554 (by omega) _ _) ?_
      refine bind_step (calM e1) ?_
      refine bind_step (recv_537 554 (by omega) _ _) ?_
      refine bind_step (calM e2) ?_
      refine bind_step (recv_537 554 (by omega) _ _) ?_
      refine bind_step (cal_w away_E) ?_
      refine bind_step (cal_w sizeOf_E) ?_
      rw [em]
      refine (if_pos (by rw [Int32.lt_iff_toInt_lt, h2, e2l]; omega)).trans ?_
      refine bind_step gIM_28 ?_
      rw [fo 28 (by omega) (by omega), h28]
      by_cases c : awF (Xs (k + 1)) ≤ lmF Xs n k
      · refine (if_pos c).trans ?_
        refine bind_step gIM_28 ?_
        refine bind_step pfM_28 ?_
        rw [fo 28 (by omega) (by omega), h28, show lmF Xs n k = lmF Xs n (k + 1) by rw [el, ← max_le, if_pos c]]
        exact e
      · refine (if_neg c).trans ?_
        refine bind_step pfM_28 ?_
        rw [show awF (Xs (k + 1)) = lmF Xs n (k + 1) by rw [el, ← max_le, if_neg c]]
        exact e
    · have ef : fmF Xs n (k + 1) = jmaxI (fmF Xs n k) (awF (Xs (k + 1))) := if_neg hc
      have el : lmF Xs n (k + 1) = lmF Xs n k := if_neg hc
      obtain ⟨F', A', N', T', V', e, q⟩ := pre (upd F2 27 (fmF Xs n (k + 1))) (by rw [upN (by omega), fo 25 (by omega) (by omega)]; exact h25) upd_eq (by rw [upN (by omega), fo 28 (by omega) (by omega), el]; exact h28) (fun i i1 i2 i3 _ => by rw [upN i3, fo i i1 i2])
      refine ⟨F', A', N', T', V', ?_, q⟩
      show mX2_halves_b16 _ _ _ _ _ _ = _
      unfold mX2_halves_b16
      refine (if_neg (by rw [Int32.lt_iff_toInt_lt, h2, h3]; omega)).trans ?_
      refine bind_step (recv_537 554 (by omega) _ _) ?_
      refine bind_step (calM e1) ?_
      refine bind_step (recv_537 554 (by omega) _ _) ?_
      refine bind_step (calM e2) ?_
      refine bind_step (recv_537 554 (by omega) _ _) ?_
      refine bind_step (cal_w away_E) ?_
      refine bind_step (cal_w sizeOf_E) ?_
      rw [em]
      refine (if_neg (by rw [Int32.lt_iff_toInt_lt, h2, e2l]; omega)).trans ?_
      refine bind_step gIM_27 ?_
      rw [fo 27 (by omega) (by omega), h27]
      by_cases c : awF (Xs (k + 1)) ≤ fmF Xs n k
      · refine (if_pos c).trans ?_
        refine bind_step gIM_27 ?_
        refine bind_step pfM_27 ?_
        rw [fo 27 (by omega) (by omega), h27, show fmF Xs n k = fmF Xs n (k + 1) by rw [ef, ← max_le, if_pos c]]
        exact e
      · refine (if_neg c).trans ?_
        refine bind_step pfM_27 ?_
        rw [show awF (Xs (k + 1)) = fmF Xs n (k + 1) by rw [ef, ← max_le, if_neg c]]
        exact e
theorem halves_E {t4 t9 l2 : Int32} {F A X N T : Nat → Int32} {V : Nat → Int64} {t n : Nat} (hT : TX TT μ z) (ha : -1 ≤ t4.toInt ∧ t4.toInt < (μ 402 2).toInt) (ha9 : -1 ≤ t9.toInt ∧ t9.toInt < (μ 402 2).toInt) (h9 : t + n < 900000) (hn : n ≤ 200) (h2 : l2.toInt = (n : Int)) (h25 : F 25 = 0) (hg : Go t X A) (h4 : A 4 = t4) (hA2 : A 2 = X 9) :
    ∃ S F' A' N' T' V', mX2_halves 537 t9 l2 (WM μ z F A N T V) = some ((), WM (setM μ 546 S) z F' A' N' T' V') ∧ F' 27 = fmF (itH (μ 540) t4 0 (some t9) X) n n ∧ F' 28 = lmF (itH (μ 540) t4 0 (some t9) X) n n ∧ (∀ i, i ≠ 21 → i ≠ 22 → i ≠ 27 → i ≠ 28 → F' i = F i) ∧ RgOk t A A' := by
  have s540 : setM μ 546 (cpK 18 A (μ 546)) 540 = μ 540 := setM_ne (by omega)
  have s402 : setM μ 546 (cpK 18 A (μ 546)) 402 = μ 402 := setM_ne (by omega)
  obtain ⟨F', A', N', T', V', e, w1, w2, w3, w4⟩ := halves_loop (μ := setM μ 546 (cpK 18 A (μ 546))) (z := z) (t4 := t4) (t9 := t9) (l2 := l2) (Xs := itH (μ 540) t4 0 (some t9) X) (A0 := A) (t := t) (n := n) (by rw [s540]; exact fun _ => rfl) (TX_546 hT) (by rw [s402]; exact ha) (by rw [s402]; exact ha9) (fun i hi => by rw [setM_same]; exact if_pos hi) h9 hn h2 n 0 FU 1 (upd (upd F 27 0) 28 0) A N T V (by omega) rfl (by unfold FU; omega) (by rw [upN (by omega), upN (by omega)]; exact h25) (Ml_0 hg h4 hA2) (by rw [upN (by omega), upd_eq]; rfl) (by rw [upd_eq]; rfl)
  refine ⟨cpK 18 A (μ 546), F', A', N', T', V', ?_, w1, w2, fun i i1 i2 i3 i4 => by rw [w3 i i1 i2 i3 i4, upN i4, upN i3], w4⟩
  unfold mX2_halves
  refine bind_step (recv_537 554 (by omega) _ _) ?_
  refine bind_step (cal_E begin_E) ?_
  refine bind_step pfM_27 ?_
  refine bind_step pfM_28 ?_
  exact e
theorem isText0_E {a : Int32} : mX0_isText 400 a (E μ z) = some (inB a 0 (μ 402 2 - 1), E μ z) := by
  unfold mX0_isText
  refine bind_step (gR_400_0 554 (by omega) _ _) ?_
  refine bind_step (gR_401_0 554 (by omega) _ _) ?_
  refine bind_step (ia_E (n := 2) isI_402 rfl (by omega)) ?_
  refine bind_step (cal_w (in_E _ _ _ _)) ?_
  rcases inB_01 a 0 (μ 402 2 - 1) with h | h
  · rw [h]; exact bind_step nok0 rfl
  · rw [h]; exact bind_step nok1 rfl
theorem isText2_E {F A N T : Nat → Int32} {V : Nat → Int64} {a : Int32} : mX2_isText 537 a (WM μ z F A N T V) = some (inB a 0 (A 3 - 1), WM μ z F A N T V) := by
  unfold mX2_isText
  refine bind_step (gR_537_0 554 (by omega) _ _) ?_
  refine bind_step (iaA (n := 3) rfl (by omega)) ?_
  refine bind_step (cal_w (isIn_E _ _ _ _)) ?_
  rcases inB_01 a 0 (A 3 - 1) with h | h
  · rw [h]; exact bind_step nok0 rfl
  · rw [h]; exact bind_step nok1 rfl
/-- a text by its number -/
theorem text_of {a : Int32} (hT : TX TT μ z) (h : inB a 0 (μ 402 2 - 1) = 1) : ∃ (i : Nat) (y : Nat), a.toInt = (i : Int) ∧ i < 4 ∧ (i : Int) < (μ 402 2).toInt ∧ z.2.1 458 i = some y ∧ txtOf μ z a y := by
  have b := inB_bd.mp h
  have h4 := hT.2.2.2.1
  have e : (μ 402 2 - 1).toInt = (μ 402 2).toInt - 1 := I32_sub rfl rfl (by have := h4.1; have := h4.2; show -1000000000 ≤ (μ 402 2).toInt - 1 ∧ (μ 402 2).toInt - 1 ≤ 1000000000; omega)
  rw [e] at b
  have z0 : (0 : Int32).toInt = 0 := rfl
  obtain ⟨b1, b2⟩ := b
  obtain ⟨y, y1, -⟩ := hT.2.2.2.2.2.1 a.toInt.toNat (by omega)
  exact ⟨a.toInt.toNat, y, by omega, by have := h4.2; omega, by omega, y1, Or.inr ⟨by omega, by omega, y1⟩⟩
end WM83
theorem ow_dies (L : Nat) (xs : Nat → Int32) : Ow_dies (Inv (TX TT) L xs) := by
  intro n μ z a b hI
  obtain ⟨t, ht, ht9, hgo, hTc, hn1, h4, h2, hc7, hf25⟩ := Inv_q hI
  have a3 : μ 538 3 = μ 402 2 := hI.1.1.1.2.2.1
  rcases inB_01 a 0 (μ 402 2 - 1) with hin | hin
  · refine Agr_ro hI (-2) ?_ ?_
    · show mX0_dies 400 a b (E μ z) = _
      unfold mX0_dies
      refine bind_step (recv_400 554 (by omega) _ _) ?_
      refine bind_step (cal_w isText0_E) ?_
      exact if_pos hin
    · show mX2_dies 537 a b (E μ z) = _
      rw [WM_0]
      unfold mX2_dies
      refine bind_step (recv_537 554 (by omega) _ _) ?_
      refine bind_step (cal_w isText2_E) ?_
      rw [a3]
      exact if_pos hin
  · have hn : ¬ inB a 0 (μ 402 2 - 1) = 0 := by rw [hin]; exact one_ne
    rcases inB_01 b 2 200 with hib | hib
    · refine Agr_ro hI (-2) ?_ ?_
      · show mX0_dies 400 a b (E μ z) = _
        unfold mX0_dies
        refine bind_step (recv_400 554 (by omega) _ _) ?_
        refine bind_step (cal_w isText0_E) ?_
        refine (if_neg hn).trans ?_
        refine bind_step (cal_w (in_E _ _ _ _)) ?_
        exact if_pos hib
      · show mX2_dies 537 a b (E μ z) = _
        rw [WM_0]
        unfold mX2_dies
        refine bind_step (recv_537 554 (by omega) _ _) ?_
        refine bind_step (cal_w isText2_E) ?_
        rw [a3]
        refine (if_neg hn).trans ?_
        refine bind_step (cal_w (isIn_E _ _ _ _)) ?_
        exact if_pos hib
    · have hnb : ¬ inB b 2 200 = 0 := by rw [hib]; exact one_ne
      have bb := inB_bd.mp hib
      have c2 : (2 : Int32).toInt = 2 := rfl
      have c200 : (200 : Int32).toInt = 200 := rfl
      obtain ⟨m, hm⟩ : ∃ m : Nat, b.toInt = (m : Int) := ⟨b.toInt.toNat, by have := bb.1; omega⟩
      have hm200 : m ≤ 200 := by have := bb.2; omega
      have er : irm b 2 = some (remF b 2) := irmF (by decide)
      have erN : (remF b 2).toInt = ((m % 2 : Nat) : Int) := remN hm (m := 2) (b := 2) rfl (by omega) (by omega)
      by_cases hodd : ¬ remF b 2 = 1
      · have hmod : m % 2 = 0 := by
          have : m % 2 ≠ 1 := fun q => hodd (I32_eq (by rw [erN, q]; rfl))
          omega
        obtain ⟨d, rfl⟩ : ∃ d, m = 2 * d := ⟨m / 2, by omega⟩
        have hd2 : (b / 2).toInt = (d : Int) := by rw [divN hm (b := 2) rfl (by omega)]; omega
        obtain ⟨i, y, i1, i4, i2, y1, y2⟩ := text_of hTc.2.1 hin
        have hh : hndOf μ z (some a) (some y) := Or.inr ⟨_, _, rfl, rfl, y2⟩
        obtain ⟨μ1, e1, q1, q2, -, -⟩ := goes_Q (z := z) (h := some a) (hl := some y) (t := t) (fr := 1) (l1 := b / 2) (l3 := 1) hTc hh (Go_Gc hgo) (show t + d < 900000 by omega) (by omega) hd2 rfl
        have hT1 : Tc μ1 z := Tc_CFr (CQ_CFr (z := z) q1) hI.2.2.2.1.2.1 hTc
        have y3 : txtOf μ1 z a y := by
          unfold txtOf at y2 ⊢
          rw [q1.1 402 (by omega)]
          exact y2
        have hg1 : Gc t (μ1 403) := by rw [q1.1 403 (by omega)]; exact Go_Gc hgo
        obtain ⟨μ2, e2, r1, r2, -, -⟩ := goes_Q (z := z) (h := some a) (hl := some y) (t := t) (fr := d + 1) (l1 := b) (l3 := b / 2 + 1) hT1 (Or.inr ⟨_, _, rfl, rfl, y3⟩) hg1 (show t + 2 * d < 900000 by omega) (by omega) hm (inc_I hd2 (by omega))
        have c71 : μ1 400 7 = 0 := by rw [q1.2 7 (by omega)]; exact hc7
        rw [hc7] at q2
        rw [c71, sqH_CQ q1] at r2
        have q12 := CQ.trans q1 r1
        have aN : a.toInt = ((i : Nat) : Int) := i1
        have hf : mX0_dies 400 a b (E μ z) = some ((if grF (sqH μ 0 (some a)) 1 d ≤ grF (sqH μ 0 (some a)) (d + 1) (2 * d) then (if grF (sqH μ 0 (some a)) (d + 1) (2 * d) ≤ grF (sqH μ 0 (some a)) 1 d then 0 else 1) else -1), E μ2 z) := by
          unfold mX0_dies
          refine bind_step (recv_400 554 (by omega) _ _) ?_
          refine bind_step (cal_w isText0_E) ?_
          refine (if_neg hn).trans ?_
          refine bind_step (cal_w (in_E _ _ _ _)) ?_
          refine (if_neg hnb).trans ?_
          refine bind_step er ?_
          refine (if_pos hodd).trans ?_
          refine bind_step (idvF (by decide)) ?_
          refine bind_step (gR_400_0 554 (by omega) _ _) ?_
          refine bind_step (gR_401_6 554 (by omega) _ _) ?_
          refine bind_step (aaX_E (n := i) isX_458 aN i4) ?_
          rw [y1]
          refine bind_step (recv_400 554 (by omega) _ _) ?_
          refine bind_step (cal_E e1) ?_
          refine bind_step (gI_400_9 554 (by omega) _ _) ?_
          rw [q2]
          refine bind_step (gR_400_0 554 (by omega) _ _) ?_
          refine bind_step (gR_401_6 554 (by omega) _ _) ?_
          refine bind_step (aaX_E (n := i) isX_458 aN i4) ?_
          rw [y1]
          refine bind_step (idvF (by decide)) ?_
          refine bind_step (recv_400 554 (by omega) _ _) ?_
          refine bind_step (cal_E e2) ?_
          refine bind_step (gI_400_9 554 (by omega) _ _) ?_
          rw [r2]
          by_cases k1 : grF (sqH μ 0 (some a)) 1 d ≤ grF (sqH μ 0 (some a)) (d + 1) (2 * d)
          · rw [if_pos k1, if_pos k1]
            refine bind_step (gI_400_9 554 (by omega) _ _) ?_
            rw [r2]
            by_cases k2 : grF (sqH μ 0 (some a)) (d + 1) (2 * d) ≤ grF (sqH μ 0 (some a)) 1 d
            · rw [if_pos k2, if_pos k2]
            · rw [if_neg k2, if_neg k2]
          · rw [if_neg k1, if_neg k1]
        have e540 := q12.1 540 (by omega)
        have e402 := q12.1 402 (by omega)
        have e538 := q12.1 538 (by omega)
        have e537 := q12.1 537 (by omega)
        have hT2 : TX TT μ2 z := (Tc_CFr (CQ_CFr (z := z) q12) hI.2.2.2.1.2.1 hTc).2.1
        obtain ⟨S, F', A', N', T', V', em, w1, w2, w3, w4⟩ := halves_E (μ := μ2) (z := z) (t4 := μ 402 3) (t9 := a) (l2 := b) (F := μ 537) (A := μ 538) (X := μ 403) (N := μ2 543) (T := μ2 545) (V := z.1 544) (t := t) (n := 2 * d) hT2 (by rw [e402]; exact hTc.2.2) (by rw [e402]; exact ⟨by omega, by omega⟩) (by omega) hm200 hm hf25 hgo h4 h2
        have edd : (if 2 * d ≤ d then 2 * d else d) = d := by split <;> omega
        rw [e540, fm_gr, edd] at w1
        rw [e540, lm_gr] at w2
        have hmf : MFr μ2 z (fM (setM μ2 546 S) F' A' N' T') (zM z V') := MFr_546 (fun j hj => by rw [w3 j (by omega) (by omega) (by omega) (by omega), e537])
        refine Agr_q hI ht _ hf q12 ?_ hmf w4
        show mX2_dies 537 a b (E μ2 z) = _
        rw [WM_0, e537, e538]
        unfold mX2_dies
        refine bind_step (recv_537 554 (by omega) _ _) ?_
        refine bind_step (cal_w isText2_E) ?_
        rw [a3]
        refine (if_neg hn).trans ?_
        refine bind_step (cal_w (isIn_E _ _ _ _)) ?_
        refine (if_neg hnb).trans ?_
        refine bind_step er ?_
        refine (if_pos hodd).trans ?_
        refine bind_step (recv_537 554 (by omega) _ _) ?_
        refine bind_step (calM em) ?_
        refine bind_step gIM_28 ?_
        refine bind_step gIM_27 ?_
        rw [w1, w2]
        by_cases k1 : grF (sqH μ 0 (some a)) 1 d ≤ grF (sqH μ 0 (some a)) (d + 1) (2 * d)
        · rw [if_pos k1, if_pos k1]
          refine bind_step gIM_28 ?_
          refine bind_step gIM_27 ?_
          rw [w1, w2]
          by_cases k2 : grF (sqH μ 0 (some a)) (d + 1) (2 * d) ≤ grF (sqH μ 0 (some a)) 1 d
          · rw [if_pos k2, if_pos k2]
          · rw [if_neg k2, if_neg k2]
        · rw [if_neg k1, if_neg k1]
      · refine Agr_ro hI (-2) ?_ ?_
        · show mX0_dies 400 a b (E μ z) = _
          unfold mX0_dies
          refine bind_step (recv_400 554 (by omega) _ _) ?_
          refine bind_step (cal_w isText0_E) ?_
          refine (if_neg hn).trans ?_
          refine bind_step (cal_w (in_E _ _ _ _)) ?_
          refine (if_neg hnb).trans ?_
          refine bind_step er ?_
          exact if_neg hodd
        · show mX2_dies 537 a b (E μ z) = _
          rw [WM_0]
          unfold mX2_dies
          refine bind_step (recv_537 554 (by omega) _ _) ?_
          refine bind_step (cal_w isText2_E) ?_
          rw [a3]
          refine (if_neg hn).trans ?_
          refine bind_step (cal_w (isIn_E _ _ _ _)) ?_
          refine (if_neg hnb).trans ?_
          refine bind_step er ?_
          exact if_neg hodd
