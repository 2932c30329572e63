/-! ===== toAndFro ===== -/
abbrev awS (X : Nat → Int32) : Int32 := X 0 - X 2
def tfF (Xs : Nat → Nat → Int32) : Nat → Nat → Int32 → Int32
  | 0, _, _ => -1
  | d + 1, k, f => if 0 < awS (Xs k) then tfF Xs d (k + 1) f else if 0 < awS (Xs (k + 1)) then (if f = -1 then tfF Xs d (k + 1) (Int32.ofNat (k + 1)) else Int32.ofNat (k + 1) - f) else tfF Xs d (k + 1) f
theorem tf_congr {Xs Xs' : Nat → Nat → Int32} (e : ∀ k, Eq4 (Xs k) (Xs' k)) : ∀ d k f, tfF Xs' d k f = tfF Xs d k f := by
  intro d
  induction d with
  | zero => intro k f; rfl
  | succ d ih =>
    intro k f
    unfold tfF
    rw [ih, ih]
    unfold awS
    rw [e k 0 (by omega), e k 2 (by omega), e (k + 1) 0 (by omega), e (k + 1) 2 (by omega)]
theorem Gc_tri {μ : Mu} {t : Nat} (h : Gc t (μ 403)) : Gc t (tri μ) := by
  obtain ⟨⟨r0, r1, r2, r3, r4, r5, r6, r7, r9⟩, g2, g3⟩ := h
  have e := tri_4 μ
  refine ⟨⟨by rw [e 0 (by omega)]; exact r0, by rw [e 1 (by omega)]; exact r1, by rw [e 2 (by omega)]; exact r2, by rw [e 3 (by omega)]; exact r3, by rw [e 4 (by omega)]; exact r4, by rw [e 5 (by omega)]; exact r5, by rw [e 6 (by omega)]; exact r6, by rw [e 7 (by omega)]; exact r7, by rw [e 9 (by omega)]; exact r9⟩, fun q j q1 q2 q3 hj => ?_, by rw [e 8 (by omega)]; exact g3⟩
  have := sixty (t - q)
  rw [e _ (by omega)]
  exact g2 q j q1 q2 q3 hj
theorem toFro_C {μ : Mu} {z : Zt} {l1 : Int32} {t n : Nat} (hT : Tc μ z) (h0 : Gc t (tri μ)) (h9 : t + n < 900000) (h7 : μ 400 7 = 0) (h1 : l1.toInt = (n : Int)) (hn : n ≤ 200) : ∀ (d k fu : Nat) (l2 l3 : Int32) (N : Nat → Int32), n = k + d → l3.toInt = ((k + 1 : Nat) : Int) → d < fu →
    ∃ k' N', mX0_toAndFro_l31 fu (WC μ z 519 (μ 400) N (itH (μ 540) (μ 402 3) 0 none (tri μ) k)) (some 400) l1 l2 l3 = some (tfF (itH (μ 540) (μ 402 3) 0 none (tri μ)) d k l2, WC μ z 519 (μ 400) N' (itH (μ 540) (μ 402 3) 0 none (tri μ) k')) := by
  intro d
  induction d with
  | zero =>
    intro k fu l2 l3 N hd h3 hf
    obtain ⟨g, rfl⟩ : ∃ g, fu = g + 1 := ⟨fu - 1, by omega⟩
    refine ⟨k, N, ?_⟩
    show mX0_toAndFro_b31 _ _ _ _ _ _ = _
    unfold mX0_toAndFro_b31
    exact if_pos (by rw [Int32.lt_iff_toInt_lt, h1, h3]; omega)
  | succ d ih =>
    intro k fu l2 l3 N hd h3 hf
    obtain ⟨g, rfl⟩ : ∃ g, fu = g + 1 := ⟨fu - 1, by omega⟩
    have hg := Gc_it (tx := μ 540) (t4 := μ 402 3) (calm := 0) (h := none) h0 k (by omega)
    obtain ⟨N1, e1⟩ := tenth_E (z := z) (C := μ 400) (N := N) (c := 0) okl_519 hT hg.1 hg.2.2 (by omega) hg.2.1 ⟨by decide, by decide⟩
    have hX1 : tenF (μ 540) (μ 402 3) (μ 400 7) (itH (μ 540) (μ 402 3) 0 none (tri μ) k) 0 = itH (μ 540) (μ 402 3) 0 none (tri μ) (k + 1) := by rw [h7]; rfl
    rw [hX1] at e1
    have h3n := inc_I h3 (by omega)
    have el : l3 = Int32.ofNat (k + 1) := I_nat h3
    unfold tfF
    have pre : ∀ (r : Option (Int32 × Wd)), (if 0 < awS (itH (μ 540) (μ 402 3) 0 none (tri μ) k) then mX0_toAndFro_l31 g (WC μ z 519 (μ 400) N1 (itH (μ 540) (μ 402 3) 0 none (tri μ) (k + 1))) (some 400) l1 l2 (l3 + 1) else if 0 < awS (itH (μ 540) (μ 402 3) 0 none (tri μ) (k + 1)) then (if l2 = -1 then mX0_toAndFro_l31 g (WC μ z 519 (μ 400) N1 (itH (μ 540) (μ 402 3) 0 none (tri μ) (k + 1))) (some 400) l1 l3 (l3 + 1) else some (l3 - l2, WC μ z 519 (μ 400) N1 (itH (μ 540) (μ 402 3) 0 none (tri μ) (k + 1)))) else mX0_toAndFro_l31 g (WC μ z 519 (μ 400) N1 (itH (μ 540) (μ 402 3) 0 none (tri μ) (k + 1))) (some 400) l1 l2 (l3 + 1)) = r →
        mX0_toAndFro_l31 (g + 1) (WC μ z 519 (μ 400) N (itH (μ 540) (μ 402 3) 0 none (tri μ) k)) (some 400) l1 l2 l3 = r := by
      intro r hr
      show mX0_toAndFro_b31 _ _ _ _ _ _ = _
      unfold mX0_toAndFro_b31
      refine (if_neg (by rw [Int32.lt_iff_toInt_lt, h1, h3]; omega)).trans ?_
      refine bind_step (gR_400_8 554 (by omega) _ _) ?_
      refine bind_step (iaX (n := 0) okl_519 rfl (by omega)) ?_
      refine bind_step (gR_400_8 554 (by omega) _ _) ?_
      refine bind_step (iaX (n := 2) okl_519 rfl (by omega)) ?_
      refine bind_step (gR_400_8 554 (by omega) _ _) ?_
      refine bind_step (recv_400 554 (by omega) _ _) ?_
      refine bind_step (cal_E e1) ?_
      by_cases c1 : 0 < awS (itH (μ 540) (μ 402 3) 0 none (tri μ) k)
      · rw [if_pos c1] at hr
        exact (if_pos c1).trans hr
      · rw [if_neg c1] at hr
        refine (if_neg c1).trans ?_
        refine bind_step (gR_400_8 554 (by omega) _ _) ?_
        refine bind_step (iaX (n := 0) okl_519 rfl (by omega)) ?_
        refine bind_step (gR_400_8 554 (by omega) _ _) ?_
        refine bind_step (iaX (n := 2) okl_519 rfl (by omega)) ?_
        exact hr
    by_cases c1 : 0 < awS (itH (μ 540) (μ 402 3) 0 none (tri μ) k)
    · obtain ⟨k', N', e2⟩ := ih (k + 1) g l2 (l3 + 1) N1 (by omega) h3n (by omega)
      refine ⟨k', N', pre _ ?_⟩
      rw [if_pos c1, if_pos c1]
      exact e2
    · by_cases c2 : 0 < awS (itH (μ 540) (μ 402 3) 0 none (tri μ) (k + 1))
      · by_cases c3 : l2 = -1
        · obtain ⟨k', N', e2⟩ := ih (k + 1) g l3 (l3 + 1) N1 (by omega) h3n (by omega)
          refine ⟨k', N', pre _ ?_⟩
          rw [if_neg c1, if_neg c1, if_pos c2, if_pos c2, if_pos c3, if_pos c3, ← el]
          exact e2
        · refine ⟨k + 1, N1, pre _ ?_⟩
          rw [if_neg c1, if_neg c1, if_pos c2, if_pos c2, if_neg c3, if_neg c3, ← el]
      · obtain ⟨k', N', e2⟩ := ih (k + 1) g l2 (l3 + 1) N1 (by omega) h3n (by omega)
        refine ⟨k', N', pre _ ?_⟩
        rw [if_neg c1, if_neg c1, if_neg c2, if_neg c2]
        exact e2
section WM85
variable {μ : Mu} {z : Zt}
theorem p89_E {F A N T : Nat → Int32} {V : Nat → Int64} {l2 l3 : Int32} (h : ¬ l3 = -1) : mX2_toAndFro_p89 (WM μ z F A N T V) (some 537) l2 l3 = some (l3 - l2, WM μ z (upd F 25 0) (cpK 18 (μ 546) A) N T V) := by
  unfold mX2_toAndFro_p89
  refine bind_step (recv_537 554 (by omega) _ _) ?_
  refine bind_step (cal_E putBack_E) ?_
  exact if_pos h
theorem F25 {F : Nat → Int32} (h : F 25 = 0) : upd F 25 0 = F := by
  funext i
  unfold upd
  by_cases hi : i = 25
  · rw [if_pos hi, hi, h]
  · rw [if_neg hi]
theorem toFro_M {t4 l1 : Int32} {Xs : Nat → Nat → Int32} {A0 : Nat → Int32} {t n : Nat} (hXs : ∀ k, Xs (k + 1) = tenF (μ 540) t4 0 (Xs k) 0) (hT : TX TT μ z) (ha : -1 ≤ t4.toInt ∧ t4.toInt < (μ 402 2).toInt) (h46 : ∀ i, i < 18 → μ 546 i = A0 i) (h9 : t + n < 900000) (hn : n ≤ 200) (h1 : l1.toInt = (n : Int)) :
    ∀ (d k fu : Nat) (l2 l4 : Int32) (F A N T : Nat → Int32) (V : Nat → Int64), n = k + d → l4.toInt = ((k + 1 : Nat) : Int) → d < fu → F 25 = 0 → Ml t k μ t4 A0 (Xs k) A 0 →
    ∃ F' A' N' T' V', mX2_toAndFro_l24 fu (WM μ z F A N T V) (some 537) l1 l2 (-1) l4 = some (tfF Xs d k l2, WM μ z F' A' N' T' V') ∧ (∀ i, i ≠ 21 → i ≠ 22 → F' i = F i) ∧ RgOk t A0 A' := by
  intro d
  induction d with
  | zero =>
    intro k fu l2 l4 F A N T V hd h4 hf h25 hm
    obtain ⟨g, rfl⟩ : ∃ g, fu = g + 1 := ⟨fu - 1, by omega⟩
    refine ⟨F, cpK 18 (μ 546) A, N, T, V, ?_, fun _ _ _ => rfl, hm.2.1.ok (by omega) h46⟩
    show mX2_toAndFro_b24 _ _ _ _ _ _ _ = _
    unfold mX2_toAndFro_b24
    refine (if_pos (by rw [Int32.lt_iff_toInt_lt, h1, h4]; omega)).trans ?_
    unfold mX2_toAndFro_p89
    refine bind_step (recv_537 554 (by omega) _ _) ?_
    refine bind_step (cal_E putBack_E) ?_
    rw [F25 h25]
    exact if_neg (fun q => q rfl)
  | succ d ih =>
    intro k fu l2 l4 F A N T V hd h4 hf h25 hm
    obtain ⟨g, rfl⟩ : ∃ g, fu = g + 1 := ⟨fu - 1, by omega⟩
    obtain ⟨F2, A2, N2, T2, V2, e2, x1, x2⟩ := Ml_pass (F := F) (N := N) (T := T) (V := V) (c := 0) hT ha (by omega) h25 hm
    rw [← hXs k] at x2
    have ea : A 8 - A 10 = awS (Xs k) := by rw [show A 8 = _ from hm.1.2.1 0 (by omega), show A 10 = _ from hm.1.2.1 2 (by omega)]
    have ea2 : A2 8 - A2 10 = awS (Xs (k + 1)) := by rw [show A2 8 = _ from x2.1.2.1 0 (by omega), show A2 10 = _ from x2.1.2.1 2 (by omega)]
    have h4n := inc_I h4 (by omega)
    have el : l4 = Int32.ofNat (k + 1) := I_nat h4
    have ne4 : ¬ l4 = -1 := fun q => by
      rw [q] at h4
      have : (-1 : Int32).toInt = -1 := rfl
      omega
    have pre : ∀ (r : Option (Int32 × Wd)), (if 0 < awS (Xs k) then mX2_toAndFro_l24 g (WM μ z F2 A2 N2 T2 V2) (some 537) l1 l2 (-1) (l4 + 1) else if 0 < awS (Xs (k + 1)) then (if ¬ l2 = -1 then mX2_toAndFro_l24 g (WM μ z F2 A2 N2 T2 V2) (some 537) l1 l2 l4 (l4 + 1) else mX2_toAndFro_l24 g (WM μ z F2 A2 N2 T2 V2) (some 537) l1 l4 (-1) (l4 + 1)) else mX2_toAndFro_l24 g (WM μ z F2 A2 N2 T2 V2) (some 537) l1 l2 (-1) (l4 + 1)) = r →
        mX2_toAndFro_l24 (g + 1) (WM μ z F A N T V) (some 537) l1 l2 (-1) l4 = r := by
      intro r hr
      show mX2_toAndFro_b24 _ _ _ _ _ _ _ = _
      unfold mX2_toAndFro_b24
      refine (if_neg (by rw [Int32.lt_iff_toInt_lt, h1, h4]; omega)).trans ?_
      refine (if_neg (fun q => q rfl)).trans ?_
      refine bind_step (recv_537 554 (by omega) _ _) ?_
      refine bind_step (cal_w away_E) ?_
      rw [ea]
      by_cases c1 : 0 < awS (Xs k)
      · rw [if_pos c1] at hr
        have c1' : ¬ awS (Xs k) ≤ 0 := by rw [Int32.le_iff_toInt_le]; rw [Int32.lt_iff_toInt_lt] at c1; omega
        refine (if_neg c1').trans ?_
        unfold mX2_toAndFro_p47
        refine bind_step (recv_537 554 (by omega) _ _) ?_
        refine bind_step (calM e2) ?_
        refine (if_pos one_ne).trans ?_
        exact hr
      · rw [if_neg c1] at hr
        have c1' : awS (Xs k) ≤ 0 := by rw [Int32.le_iff_toInt_le]; rw [Int32.lt_iff_toInt_lt] at c1; omega
        refine (if_pos c1').trans ?_
        unfold mX2_toAndFro_p47
        refine bind_step (recv_537 554 (by omega) _ _) ?_
        refine bind_step (calM e2) ?_
        refine (if_neg (fun q => q rfl)).trans ?_
        refine bind_step (recv_537 554 (by omega) _ _) ?_
        refine bind_step (cal_w away_E) ?_
        rw [ea2]
        exact hr
    have fin : ∀ l, ∃ F' A' N' T' V', mX2_toAndFro_l24 g (WM μ z F2 A2 N2 T2 V2) (some 537) l1 l (-1) (l4 + 1) = some (tfF Xs d (k + 1) l, WM μ z F' A' N' T' V') ∧ (∀ i, i ≠ 21 → i ≠ 22 → F' i = F i) ∧ RgOk t A0 A' := by
      intro l
      obtain ⟨F', A', N', T', V', e, w1, w2⟩ := ih (k + 1) g l (l4 + 1) F2 A2 N2 T2 V2 (by omega) h4n (by omega) (by rw [x1 25 (by omega) (by omega)]; exact h25) x2
      exact ⟨F', A', N', T', V', e, fun i i1 i2 => (w1 i i1 i2).trans (x1 i i1 i2), w2⟩
    unfold tfF
    by_cases c1 : 0 < awS (Xs k)
    · obtain ⟨F', A', N', T', V', e, q⟩ := fin l2
      refine ⟨F', A', N', T', V', pre _ ?_, q⟩
      rw [if_pos c1, if_pos c1]
      exact e
    · by_cases c2 : 0 < awS (Xs (k + 1))
      · by_cases c3 : l2 = -1
        · obtain ⟨F', A', N', T', V', e, q⟩ := fin l4
          refine ⟨F', A', N', T', V', pre _ ?_, q⟩
          rw [if_neg c1, if_neg c1, if_pos c2, if_pos c2, if_neg (fun w => w c3), if_pos c3, ← el]
          exact e
        · obtain ⟨g2, rfl⟩ : ∃ g2, g = g2 + 1 := ⟨g - 1, by omega⟩
          have h25' : F2 25 = 0 := by rw [x1 25 (by omega) (by omega)]; exact h25
          refine ⟨F2, cpK 18 (μ 546) A2, N2, T2, V2, pre _ ?_, x1, x2.2.1.ok (by omega) h46⟩
          rw [if_neg c1, if_neg c1, if_pos c2, if_pos c2, if_pos c3, if_neg c3, ← el]
          show mX2_toAndFro_b24 _ _ _ _ _ _ _ = _
          unfold mX2_toAndFro_b24
          have pe := p89_E (μ := μ) (z := z) (F := F2) (A := A2) (N := N2) (T := T2) (V := V2) (l2 := l2) ne4
          rw [F25 h25'] at pe
          by_cases c4 : l1 < l4 + 1
          · refine (if_pos c4).trans ?_
            exact pe
          · refine (if_neg c4).trans ?_
            refine (if_pos ne4).trans ?_
            exact pe
      · obtain ⟨F', A', N', T', V', e, q⟩ := fin l2
        refine ⟨F', A', N', T', V', pre _ ?_, q⟩
        rw [if_neg c1, if_neg c1, if_neg c2, if_neg c2]
        exact e
end WM85
theorem ow_toAndFro (L : Nat) (xs : Nat → Int32) : Ow_toAndFro (Inv (TX TT) L xs) := by
  intro n μ z a hI
  obtain ⟨t, ht, ht9, hgo, hTc, hn1, h4, h2, hc7, hf25⟩ := Inv_q hI
  rcases inB_01 a 2 200 with hin | hin
  · refine Agr_ro hI (-1) ?_ ?_
    · show mX0_toAndFro 400 a (E μ z) = _
      unfold mX0_toAndFro
      refine bind_step (cal_w (in_E _ _ _ _)) ?_
      exact if_neg (fun q => q hin)
    · show mX2_toAndFro 537 a (E μ z) = _
      unfold mX2_toAndFro
      refine bind_step (cal_w (isIn_E _ _ _ _)) ?_
      exact if_neg (fun q => q hin)
  · have hn : ¬ inB a 2 200 = 0 := by rw [hin]; exact one_ne
    have ba := inB_bd.mp hin
    have c1 : (2 : Int32).toInt = 2 := rfl
    have c200 : (200 : Int32).toInt = 200 := rfl
    obtain ⟨d, hd⟩ : ∃ d : Nat, a.toInt = (d : Int) := ⟨a.toInt.toNat, by have := ba.1; omega⟩
    have hd200 : d ≤ 200 := by have := ba.2; omega
    obtain ⟨k', N', e1⟩ := toFro_C (z := z) (l1 := a) hTc (Gc_tri (Go_Gc hgo)) (show t + d < 900000 by omega) hc7 hd hd200 d 0 FU (-1) 1 (μ 518) (by omega) rfl (by unfold FU; omega)
    have ec := it_congr (tx := μ 540) (t4 := μ 402 3) (calm := 0) (h := none) (tri_4 μ)
    rw [tf_congr ec] at e1
    change _ = some (_, E (fC μ 519 (μ 400) N' (itH (μ 540) (μ 402 3) 0 none (tri μ) k')) z) at e1
    have q1 : CQ μ (fC μ 519 (μ 400) N' (itH (μ 540) (μ 402 3) 0 none (tri μ) k')) := CQ_C ⟨by omega, by omega⟩ (fun j hj => rfl) (CQ.refl μ)
    generalize fC μ 519 (μ 400) N' (itH (μ 540) (μ 402 3) 0 none (tri μ) k') = μ1 at e1 q1
    have e402 := q1.1 402 (by omega)
    have e538 := q1.1 538 (by omega)
    have e537 := q1.1 537 (by omega)
    have e540 := q1.1 540 (by omega)
    have hT1 : Tc μ1 z := Tc_CFr (CQ_CFr (z := z) q1) hI.2.2.2.1.2.1 hTc
    have s540 : setM μ1 546 (cpK 18 (μ 538) (μ1 546)) 540 = μ 540 := (setM_ne (by omega)).trans e540
    have s402 : setM μ1 546 (cpK 18 (μ 538) (μ1 546)) 402 = μ 402 := (setM_ne (by omega)).trans e402
    obtain ⟨F', A', N2, T', V', em, x1, x2⟩ := toFro_M (μ := setM μ1 546 (cpK 18 (μ 538) (μ1 546))) (z := z) (t4 := μ 402 3) (l1 := a) (Xs := sqH μ 0 none) (A0 := μ 538) (t := t) (n := d) (by rw [s540]; exact fun _ => rfl) (TX_546 hT1.2.1) (by rw [s402]; exact hTc.2.2) (fun i hi => by rw [setM_same]; exact if_pos hi) (by omega) hd200 hd d 0 FU (-1) 1 (μ 537) (μ 538) (μ1 543) (μ1 545) (z.1 544) (by omega) rfl (by unfold FU; omega) hf25 (Ml_0 hgo h4 h2)
    have hmf : MFr μ1 z (fM (setM μ1 546 (cpK 18 (μ 538) (μ1 546))) F' A' N2 T') (zM z V') := MFr_546 (fun j hj => by rw [x1 j (by omega) (by omega), e537])
    refine Agr_q hI ht (tfF (sqH μ 0 none) d 0 (-1)) ?_ q1 ?_ hmf x2
    · show mX0_toAndFro 400 a (E μ z) = _
      have ecp := copy_E (p := 554) (μ := μ) (z := z) isI_403 isI_519 (by omega) (by omega) (by omega)
      rw [setM_fC okl_519] at ecp
      unfold mX0_toAndFro
      refine bind_step (cal_w (in_E _ _ _ _)) ?_
      refine (if_pos hn).trans ?_
      refine bind_step (gR_400_0 554 (by omega) _ _) ?_
      refine bind_step (gR_401_1 554 (by omega) _ _) ?_
      refine bind_step (gR_400_8 554 (by omega) _ _) ?_
      refine bind_step (cal_E ecp) ?_
      exact e1
    · show mX2_toAndFro 537 a (E μ1 z) = _
      rw [WM_0, e537, e538]
      unfold mX2_toAndFro
      refine bind_step (cal_w (isIn_E _ _ _ _)) ?_
      refine (if_pos hn).trans ?_
      refine bind_step (recv_537 554 (by omega) _ _) ?_
      refine bind_step (cal_E begin_E) ?_
      exact em
