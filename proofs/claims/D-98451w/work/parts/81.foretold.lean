section WM81
variable {μ : Mu} {z : Zt}
/-- what is asked of the tenths foretold -/
def ansF (what : Int32) (X : Nat → Int32) (g s : Int32) : Int32 := if ¬ what = 0 then (if ¬ what = 1 then (if ¬ what = 2 then s else g) else X 2) else X 0
theorem foretold_loop {t4 near l1 l2 l3 : Int32} {h : Option Int32} {Xs : Nat → Nat → Int32} {A0 : Nat → Int32} {t n : Nat} (hXs : ∀ k, Xs (k + 1) = tenF (μ 540) t4 0 (Xs k) (cmH (μ 540) h (Xs k))) (hT : TX TT μ z) (ha : -1 ≤ t4.toInt ∧ t4.toInt < (μ 402 2).toInt) (hh : (l2 = 0 ∧ h = none) ∨ (¬ l2 = 0 ∧ h = some t4)) (hnear : A0 1 = near) (h46 : ∀ i, i < 18 → μ 546 i = A0 i) (h9 : t + n < 900000) (hn : n ≤ 200) (h1 : l1.toInt = (n : Int)) :
    ∀ (d k fu : Nat) (l4 l5 l6 : Int32) (F A N T : Nat → Int32) (V : Nat → Int64), n = k + d → l6.toInt = ((k + 1 : Nat) : Int) → d < fu → F 25 = 0 → Ml t k μ t4 A0 (Xs k) A 0 → l4 = grF Xs 1 k → l5 = stF near Xs k →
    ∃ F' A' N' T' V', mX2_foretold_l37 fu (WM μ z F A N T V) (some 537) l1 l2 l3 l4 l5 l6 = some (ansF l3 (Xs n) (grF Xs 1 n) (stF near Xs n), WM μ z F' A' N' T' V') ∧ (∀ i, i ≠ 21 → i ≠ 22 → F' i = F i) ∧ RgOk t A0 A' := by
  intro d
  induction d with
  | zero =>
    intro k fu l4 l5 l6 F A N T V hd h6 hf h25 hm h4 h5
    obtain ⟨g, rfl⟩ : ∃ g, fu = g + 1 := ⟨fu - 1, by omega⟩
    have hkn : k = n := by omega
    subst hkn
    refine ⟨upd F 25 0, cpK 18 (μ 546) A, N, T, V, ?_, fun i i1 i2 => ?_, hm.2.1.ok (by omega) h46⟩
    · have pb := putBack_E (μ := μ) (z := z) (F := F) (A := A) (N := N) (T := T) (V := V)
      have tl : ∀ v, mX2_foretold_p155 (WM μ z F A N T V) (some 537) v = some (v, WM μ z (upd F 25 0) (cpK 18 (μ 546) A) N T V) := fun v => by
        unfold mX2_foretold_p155
        refine bind_step (recv_537 554 (by omega) _ _) ?_
        exact bind_step (cal_E pb) rfl
      show mX2_foretold_b37 _ _ _ _ _ _ _ _ _ = _
      unfold mX2_foretold_b37 ansF
      refine (if_pos (by rw [Int32.lt_iff_toInt_lt, h1, h6]; omega)).trans ?_
      by_cases c0 : ¬ l3 = 0
      · rw [if_pos c0, if_pos c0]
        by_cases c1 : ¬ l3 = 1
        · rw [if_pos c1, if_pos c1]
          by_cases c2 : ¬ l3 = 2
          · rw [if_pos c2, if_pos c2, tl, h5]
          · rw [if_neg c2, if_neg c2, tl, h4]
        · rw [if_neg c1, if_neg c1]
          refine bind_step (gR_537_0 554 (by omega) _ _) ?_
          refine bind_step (iaA (n := 10) rfl (by omega)) ?_
          rw [tl, show A 10 = _ from hm.1.2.1 2 (by omega)]
      · rw [if_neg c0, if_neg c0]
        refine bind_step (gR_537_0 554 (by omega) _ _) ?_
        refine bind_step (iaA (n := 8) rfl (by omega)) ?_
        rw [tl, show A 8 = _ from hm.1.2.1 0 (by omega)]
    · by_cases hi : i = 25
      · subst hi
        rw [upd_eq, h25]
      · rw [upN hi]
  | succ d ih =>
    intro k fu l4 l5 l6 F A N T V hd h6 hf h25 hm h4 h5
    obtain ⟨g, rfl⟩ : ∃ g, fu = g + 1 := ⟨fu - 1, by omega⟩
    have hX1 := hXs k
    have tail : ∀ F1 N1 T1 V1, (∀ i, i ≠ 21 → i ≠ 22 → F1 i = F i) → ∃ F' A' N' T' V', mX2_foretold_p62 (mX2_foretold_l37 g) (WM μ z F1 A N1 T1 V1) (some 537) l1 l2 l3 l4 l5 l6 (cmH (μ 540) h (Xs k)) (some 537) = some (ansF l3 (Xs n) (grF Xs 1 n) (stF near Xs n), WM μ z F' A' N' T' V') ∧ (∀ i, i ≠ 21 → i ≠ 22 → F' i = F i) ∧ RgOk t A0 A' := by
      intro F1 N1 T1 V1 hF1
      obtain ⟨F2, A2, N2, T2, V2, e2, x1, x2⟩ := Ml_pass (F := F1) (N := N1) (T := T1) (V := V1) (c := cmH (μ 540) h (Xs k)) hT ha (by omega) (by rw [hF1 25 (by omega) (by omega)]; exact h25) hm
      rw [← hX1] at x2
      have em : jabsI (A2 8 - A2 10) = awF (Xs (k + 1)) := by
        rw [show A2 8 = _ from x2.1.2.1 0 (by omega), show A2 10 = _ from x2.1.2.1 2 (by omega)]
        rfl
      have a1 : A2 1 = near := (x2.2.1 1 (by omega) (by omega) (fun u _ _ => by omega)).trans hnear
      have ehs : hsF (A2 1) (fun j => A2 (8 + j)) = hsF near (Xs (k + 1)) := by
        rw [a1]
        exact hsF_congr (fun j hj => x2.1.2.1 j hj)
      have eg : grF Xs 1 (k + 1) = jmaxI l4 (awF (Xs (k + 1))) := by
        rw [h4]
        exact if_neg (by omega)
      have es : stF near Xs (k + 1) = if ¬ l5 = -1 then l5 else if hsF near (Xs (k + 1)) = 0 then l5 else l6 := by
        rw [h5, I_nat h6]
        rfl
      obtain ⟨F', A', N', T', V', e3, y1, y2⟩ := ih (k + 1) g (grF Xs 1 (k + 1)) (stF near Xs (k + 1)) (l6 + 1) F2 A2 N2 T2 V2 (by omega) (inc_I h6 (by omega)) (by omega) (by rw [x1 25 (by omega) (by omega), hF1 25 (by omega) (by omega)]; exact h25) x2 rfl rfl
      have p89 : mX2_foretold_p89 (mX2_foretold_l37 g) (WM μ z F2 A2 N2 T2 V2) (some 537) l1 l2 l3 l5 l6 (grF Xs 1 (k + 1)) = mX2_foretold_l37 g (WM μ z F2 A2 N2 T2 V2) (some 537) l1 l2 l3 (grF Xs 1 (k + 1)) (stF near Xs (k + 1)) (l6 + 1) := by
        unfold mX2_foretold_p89
        by_cases c1 : ¬ l5 = -1
        · rw [es, if_pos c1, if_pos c1]
        · rw [es, if_neg c1, if_neg c1]
          refine bind_step (recv_537 554 (by omega) _ _) ?_
          refine bind_step (cal_w hsM_E) ?_
          rw [ehs]
          by_cases c2 : hsF near (Xs (k + 1)) = 0
          · refine (if_pos c2).trans ?_
            rw [if_pos c2]
          · refine (if_neg c2).trans ?_
            rw [if_neg c2]
      refine ⟨F', A', N', T', V', ?_, fun i i1 i2 => by rw [y1 i i1 i2, x1 i i1 i2, hF1 i i1 i2], y2⟩
      unfold mX2_foretold_p62
      refine bind_step (recv_537 554 (by omega) _ _) ?_
      refine bind_step (calM e2) ?_
      refine bind_step (recv_537 554 (by omega) _ _) ?_
      refine bind_step (cal_w away_E) ?_
      refine bind_step (cal_w sizeOf_E) ?_
      rw [em]
      by_cases c : awF (Xs (k + 1)) ≤ l4
      · refine (if_pos c).trans ?_
        have hl4 : l4 = grF Xs 1 (k + 1) := by rw [eg, ← max_le, if_pos c]
        rw [hl4, p89]
        exact e3
      · refine (if_neg c).trans ?_
        refine bind_step (recv_537 554 (by omega) _ _) ?_
        refine bind_step (cal_w away_E) ?_
        refine bind_step (cal_w sizeOf_E) ?_
        rw [em, show awF (Xs (k + 1)) = grF Xs 1 (k + 1) by rw [eg, ← max_le, if_neg c], p89]
        exact e3
    rcases hh with ⟨c0, hn0⟩ | ⟨c0, hn0⟩
    · obtain ⟨F', A', N', T', V', e, q⟩ := tail F N T V (fun _ _ _ => rfl)
      refine ⟨F', A', N', T', V', ?_, q⟩
      show mX2_foretold_b37 _ _ _ _ _ _ _ _ _ = _
      unfold mX2_foretold_b37
      refine (if_neg (by rw [Int32.lt_iff_toInt_lt, h1, h6]; omega)).trans ?_
      refine (if_pos c0).trans ?_
      subst hn0
      exact e
    · obtain ⟨T1, V1, e1⟩ := Ml_hand (F := F) (N := N) (T := T) (V := V) (a := t4) hT ha (by omega) hm
      obtain ⟨F', A', N', T', V', e, q⟩ := tail (fNow F A) (nmM A N) T1 V1 (fun i i1 i2 => fNow_o i1 i2)
      refine ⟨F', A', N', T', V', ?_, q⟩
      have a4 : A 4 = t4 := (hm.2.1 4 (by omega) (by omega) (fun u _ _ => by omega)).trans hm.2.2.1
      show mX2_foretold_b37 _ _ _ _ _ _ _ _ _ = _
      unfold mX2_foretold_b37
      refine (if_neg (by rw [Int32.lt_iff_toInt_lt, h1, h6]; omega)).trans ?_
      refine (if_neg c0).trans ?_
      refine bind_step (gR_537_0 554 (by omega) _ _) ?_
      refine bind_step (iaA (n := 4) rfl (by omega)) ?_
      rw [a4]
      refine bind_step (recv_537 554 (by omega) _ _) ?_
      refine bind_step (calM e1) ?_
      subst hn0
      exact e
end WM81
theorem MFr_546 {μ : Mu} {z : Zt} {S F A N T : Nat → Int32} {V : Nat → Int64} (h : ∀ j, (j = 4 ∨ j = 5 ∨ j = 6 ∨ j = 25) → F j = μ 537 j) : MFr μ z (fM (setM μ 546 S) F A N T) (zM z V) :=
  ⟨fun k hk => (fM_o ⟨by omega, by omega, by omega, by omega⟩).trans (setM_ne (by omega)), h, rfl⟩
theorem TX_546 {μ : Mu} {z : Zt} {S : Nat → Int32} (h : TX TT μ z) : TX TT (setM μ 546 S) z :=
  TX_ext (setM_ne (by omega)) (by rw [setM_ne (by omega)]) (by rw [setM_ne (by omega)]) rfl (fun _ _ => rfl) (Nat.le_refl _) h
/-- what holds ahead of a question, at hand -/
theorem Inv_q {L : Nat} {xs : Nat → Int32} {n : Nat} {μ : Mu} {z : Zt} (hI : Inv (TX TT) L xs n μ z) : ∃ t : Nat, (μ 403 8).toInt = (t : Int) ∧ t ≤ 9999 ∧ Go t (μ 403) (μ 538) ∧ Tc μ z ∧ μ 538 1 = μ 402 1 ∧ μ 538 4 = μ 402 3 ∧ μ 538 2 = μ 403 9 ∧ μ 400 7 = 0 ∧ μ 537 25 = 0 := by
  have hB := Inv_Both hI
  obtain ⟨t, ht, ht9⟩ := now_t hB
  exact ⟨t, ht, ht9, PS_Go hB.1 ht, hB.2.1, hB.1.1.1.2.1, hB.1.1.1.2.2.2.1, hB.1.2.2.2.2.1.2.1, hB.2.2.2.2.2.1, hB.2.2.2.2.2.2.1⟩
theorem ow_foretold (L : Nat) (xs : Nat → Int32) : Ow_foretold (Inv (TX TT) L xs) := by
  intro n μ z a b c hb hI
  obtain ⟨t, ht, ht9, hgo, hTc, hn1, h4, h2, hc7, hf25⟩ := Inv_q hI
  rcases inB_01 a 1 200 with hin | hin
  · refine Agr_ro hI (-100000) ?_ ?_
    · show mX0_foretold 400 a b c (E μ z) = _
      unfold mX0_foretold
      refine bind_step (cal_w (in_E _ _ _ _)) ?_
      exact if_pos hin
    · show mX2_foretold 537 a b c (E μ z) = _
      unfold mX2_foretold
      refine bind_step (cal_w (isIn_E _ _ _ _)) ?_
      exact if_pos hin
  · have hn : ¬ inB a 1 200 = 0 := by rw [hin]; exact one_ne
    have ba := inB_bd.mp hin
    rcases inB_01 c 0 3 with hic | hic
    · refine Agr_ro hI (-100000) ?_ ?_
      · show mX0_foretold 400 a b c (E μ z) = _
        unfold mX0_foretold
        refine bind_step (cal_w (in_E _ _ _ _)) ?_
        refine (if_neg hn).trans ?_
        refine bind_step (cal_w (in_E _ _ _ _)) ?_
        exact if_neg (fun q => q hic)
      · show mX2_foretold 537 a b c (E μ z) = _
        unfold mX2_foretold
        refine bind_step (cal_w (isIn_E _ _ _ _)) ?_
        refine (if_neg hn).trans ?_
        refine bind_step (cal_w (isIn_E _ _ _ _)) ?_
        exact if_neg (fun q => q hic)
    · have hnc : ¬ inB c 0 3 = 0 := by rw [hic]; exact one_ne
      have c1 : (1 : Int32).toInt = 1 := rfl
      have c200 : (200 : Int32).toInt = 200 := rfl
      obtain ⟨d, hd⟩ : ∃ d : Nat, a.toInt = (d : Int) := ⟨a.toInt.toNat, by have := ba.1; omega⟩
      have hd200 : d ≤ 200 := by have := ba.2; omega
      obtain ⟨y, y1, y2⟩ := rules_E hTc.2.1 hTc.2.2
      have key : ∀ h hl, hndOf μ z h hl → ((b = 0 ∧ h = none) ∨ (¬ b = 0 ∧ h = some (μ 402 3))) → (∀ X w, mX0_foretold_p38 w (some 400) c hl a (some 400) = X → mX0_foretold 400 a b c w = X ∨ ¬ w = E μ z) → Agr Int32 (Inv (TX TT) L xs) n μ z (fun w => mX0_foretold 400 a b c w) (fun w => mX2_foretold 537 a b c w) := by
        intro h hl hh hbh hf
        obtain ⟨C', N', e, q1, q2, q3⟩ := goes_E (z := z) (h := h) (hl := hl) (t := t) (fr := 1) (l1 := a) (l3 := 1) hTc hh (Go_Gc (tri_Go hgo)) (show t + d < 900000 by omega) (by omega) hd rfl
        rw [hc7] at e q2 q3
        have hq : CQ μ (fC μ 519 C' N' (itH (μ 540) (μ 402 3) 0 h (tri μ) d)) := CQ_C ⟨by omega, by omega⟩ (fun j hj => q1 j (by omega) (by omega)) (CQ.refl μ)
        have e540 : fC μ 519 C' N' (itH (μ 540) (μ 402 3) 0 h (tri μ) d) 540 = μ 540 := hq.1 540 (by omega)
        have e402 : fC μ 519 C' N' (itH (μ 540) (μ 402 3) 0 h (tri μ) d) 402 = μ 402 := hq.1 402 (by omega)
        have e538 : fC μ 519 C' N' (itH (μ 540) (μ 402 3) 0 h (tri μ) d) 538 = μ 538 := hq.1 538 (by omega)
        have e537 : fC μ 519 C' N' (itH (μ 540) (μ 402 3) 0 h (tri μ) d) 537 = μ 537 := hq.1 537 (by omega)
        have f1 : mX0_foretold 400 a b c (E μ z) = some (ansF c (itH (μ 540) (μ 402 3) 0 h (tri μ) d) (grF (itH (μ 540) (μ 402 3) 0 h (tri μ)) 1 d) (stF (μ 402 1) (itH (μ 540) (μ 402 3) 0 h (tri μ)) d), E (fC μ 519 C' N' (itH (μ 540) (μ 402 3) 0 h (tri μ) d)) z) := by
          refine (hf _ (E μ z) ?_).resolve_right (fun q => q rfl)
          unfold mX0_foretold_p38 ansF
          refine bind_step (recv_400 554 (by omega) _ _) ?_
          refine bind_step (cal_E e) ?_
          by_cases k0 : ¬ c = 0
          · rw [if_pos k0, if_pos k0]
            by_cases k1 : ¬ c = 1
            · rw [if_pos k1, if_pos k1]
              by_cases k2 : ¬ c = 2
              · rw [if_pos k2, if_pos k2]
                refine bind_step gIC_10 ?_
                rw [q3]
              · rw [if_neg k2, if_neg k2]
                refine bind_step gIC_9 ?_
                rw [q2]
            · rw [if_neg k1, if_neg k1]
              refine bind_step (gR_400_8 554 (by omega) _ _) ?_
              refine bind_step (iaX (n := 2) okl_519 rfl (by omega)) ?_
              rfl
          · rw [if_neg k0, if_neg k0]
            refine bind_step (gR_400_8 554 (by omega) _ _) ?_
            refine bind_step (iaX (n := 0) okl_519 rfl (by omega)) ?_
            rfl
        generalize fC μ 519 C' N' (itH (μ 540) (μ 402 3) 0 h (tri μ) d) = μ1 at *
        have hT1 : TX TT μ1 z := (Tc_CFr (CQ_CFr (z := z) hq) (by have := hI.2.2.2.1.2.1; exact this) hTc).2.1
        have g546 : ∀ i, i < 18 → setM μ1 546 (cpK 18 (μ 538) (μ1 546)) 546 i = μ 538 i := fun i hi => by
          rw [setM_same]
          exact if_pos hi
        have hgo2 := tri_Go hgo
        have hMl : Ml t 0 (setM μ1 546 (cpK 18 (μ 538) (μ1 546))) (μ 402 3) (μ 538) (itH (μ 540) (μ 402 3) 0 h (tri μ) 0) (μ 538) 0 := ⟨hgo2, fun _ _ _ _ => rfl, h4, fun _ => h2.trans (cpy413 (f := μ 403) (g := μ 519) (by omega)).symm⟩
        have s540 : setM μ1 546 (cpK 18 (μ 538) (μ1 546)) 540 = μ 540 := (setM_ne (by omega)).trans e540
        have s402 : setM μ1 546 (cpK 18 (μ 538) (μ1 546)) 402 = μ 402 := (setM_ne (by omega)).trans e402
        obtain ⟨F', A', N2, T', V', em, x1, x2⟩ := foretold_loop (μ := setM μ1 546 (cpK 18 (μ 538) (μ1 546))) (z := z) (t4 := μ 402 3) (near := μ 402 1) (l1 := a) (l2 := b) (l3 := c) (h := h) (Xs := itH (μ 540) (μ 402 3) 0 h (tri μ)) (A0 := μ 538) (t := t) (n := d) (by rw [s540]; exact fun _ => rfl) (TX_546 hT1) (by rw [s402]; exact hTc.2.2) hbh hn1 g546 (by omega) hd200 hd d 0 FU 0 (-1) 1 (μ 537) (μ 538) (μ1 543) (μ1 545) (z.1 544) (by omega) rfl (by unfold FU; omega) hf25 hMl rfl rfl
        have hmf : MFr μ1 z (fM (setM μ1 546 (cpK 18 (μ 538) (μ1 546))) F' A' N2 T') (zM z V') := MFr_546 (fun j hj => by rw [x1 j (by omega) (by omega), e537])
        refine Agr_q hI ht _ f1 hq ?_ hmf x2
        show mX2_foretold 537 a b c (E μ1 z) = _
        rw [WM_0, e537, e538]
        unfold mX2_foretold
        refine bind_step (cal_w (isIn_E _ _ _ _)) ?_
        refine (if_neg hn).trans ?_
        refine bind_step (cal_w (isIn_E _ _ _ _)) ?_
        refine (if_pos hnc).trans ?_
        refine bind_step (recv_537 554 (by omega) _ _) ?_
        refine bind_step (cal_E begin_E) ?_
        exact em
      rcases hb with hb | hb
      · refine key none none (Or.inl ⟨rfl, rfl⟩) (Or.inl ⟨hb, rfl⟩) (fun X w hX => Or.inl ?_)
        unfold mX0_foretold
        refine bind_step (cal_w (in_E _ _ _ _)) ?_
        refine (if_neg hn).trans ?_
        refine bind_step (cal_w (in_E _ _ _ _)) ?_
        refine (if_pos hnc).trans ?_
        refine (if_pos hb).trans ?_
        exact hX
      · have hb1 : ¬ b = 0 := by rw [hb]; exact one_ne
        refine key (some (μ 402 3)) (some y) (Or.inr ⟨_, _, rfl, rfl, y1⟩) (Or.inr ⟨hb1, rfl⟩) (fun X w hX => ?_)
        by_cases hw : w = E μ z
        · subst hw
          refine Or.inl ?_
          unfold mX0_foretold
          refine bind_step (cal_w (in_E _ _ _ _)) ?_
          refine (if_neg hn).trans ?_
          refine bind_step (cal_w (in_E _ _ _ _)) ?_
          refine (if_pos hnc).trans ?_
          refine (if_neg hb1).trans ?_
          refine bind_step (recv_400 554 (by omega) _ _) ?_
          refine bind_step (cal_w y2) ?_
          exact hX
        · exact Or.inr hw
