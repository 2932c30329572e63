/-! ===== saves ===== -/
theorem tk_st (G : Option Nat) : tkO G = stM G := by
  cases G <;> rfl
theorem txt_CQ {μ μ1 : Mu} {z : Zt} {a : Int32} {y : Nat} (h : CQ μ μ1) (ht : txtOf μ z a y) : txtOf μ1 z a y := by
  unfold txtOf at ht ⊢
  rw [h.1 402 (by omega)]
  exact ht
/-- what the one saves against the other, over k orders -/
def svF (set : Int32) (g1 g2 : Nat → Option Nat) : Nat → Int32
  | 0 => 0
  | k + 1 => if ((set >>> (Int32.ofNat k &&& 31)) &&& 1) = 1 then svF set g1 g2 k + (stM (g2 k) - stM (g1 k)) else svF set g1 g2 k + 0
theorem has_no {x : Int32} : ((if x = 1 then (1 : Int32) else 0) = 0) ↔ ¬ x = 1 := by
  by_cases h : x = 1
  · rw [if_pos h]
    exact ⟨fun q => absurd q (by decide), fun q => absurd h q⟩
  · rw [if_neg h]
    exact ⟨fun _ => h, fun _ => rfl⟩
theorem saves_C {μ0 : Mu} {z : Zt} {l1 l2 l3 : Int32} {n0 i1 i2 y1 y2 : Nat} {g1 g2 : Nat → Option Nat} (hg1 : ∀ o, o < n0 → fsW (μ0 402 1) 0 (sqS μ0 l1 (μ0 403 4) (μ0 (405 + o) 0) (μ0 (405 + o) 1)) 200 0 = g1 o) (hg2 : ∀ o, o < n0 → fsW (μ0 402 1) 0 (sqS μ0 l2 (μ0 403 4) (μ0 (405 + o) 0) (μ0 (405 + o) 1)) 200 0 = g2 o)
    (hb1 : ∀ o j, g1 o = some j → 1 ≤ j ∧ j ≤ 200) (hb2 : ∀ o j, g2 o = some j → 1 ≤ j ∧ j ≤ 200) (hT : Tc μ0 z) (hz : 554 ≤ z.2.2.2.1) (ht1 : txtOf μ0 z l1 y1) (ht2 : txtOf μ0 z l2 y2) (hi1 : l1.toInt = (i1 : Int)) (hi2 : l2.toInt = (i2 : Int)) (h14 : i1 < 4) (h24 : i2 < 4) (hz1 : z.2.1 458 i1 = some y1) (hz2 : z.2.1 458 i2 = some y2)
    (hn0 : (μ0 402 0).toInt = (n0 : Int)) (h8 : n0 ≤ 8) (hr : bd (μ0 403 4) 1 24) (ho : ∀ o, o < n0 → bd (μ0 (405 + o) 0) 0 99 ∧ bd (μ0 (405 + o) 1) 0 60) (h7 : μ0 400 7 = 0) :
    ∀ (q k fu : Nat) (l4 l5 : Int32) (μ : Mu), n0 = k + q → l5.toInt = (k : Int) → q < fu → CQ μ0 μ → l4 = svF l3 g1 g2 k → ∃ μ', mX0_saves_l52 fu (E μ z) (some 400) l1 l2 l3 l4 l5 = some (svF l3 g1 g2 n0, E μ' z) ∧ CQ μ0 μ' := by
  intro q
  induction q with
  | zero =>
    intro k fu l4 l5 μ hk h5 hf hc h4
    obtain ⟨g, rfl⟩ : ∃ g, fu = g + 1 := ⟨fu - 1, by omega⟩
    refine ⟨μ, ?_, hc⟩
    show mX0_saves_b52 _ _ _ _ _ _ _ _ = _
    unfold mX0_saves_b52
    refine bind_step (gR_400_0 554 (by omega) _ _) ?_
    refine bind_step (gR_401_0 554 (by omega) _ _) ?_
    refine bind_step (ia_E (n := 0) isI_402 rfl (by omega)) ?_
    rw [hc.1 402 (by omega)]
    refine (if_pos (by rw [Int32.le_iff_toInt_le, hn0, h5]; omega)).trans ?_
    rw [h4, show k = n0 by omega]
  | succ q ih =>
    intro k fu l4 l5 μ hk h5 hf hc h4
    obtain ⟨g, rfl⟩ : ∃ g, fu = g + 1 := ⟨fu - 1, by omega⟩
    have e5 : l5 = Int32.ofNat k := I_nat h5
    have pre : ∀ ρ : Option (Int32 × Wd), (if (if ((l3 >>> (l5 &&& 31)) &&& 1) = 1 then (1 : Int32) else 0) = 0 then mX0_saves_l52 g (E μ z) (some 400) l1 l2 l3 (l4 + 0) (l5 + 1) else (
        (gR (E μ z) (some 400) 0 0).bind fun v5 =>
        (gR (E μ z) v5 1 6).bind fun v6 =>
        (aa (E μ z) v6 l2).bind fun v7 =>
        (recv (E μ z) (some 400) 0).bind fun b9 => (cal (E μ z) (mX0_takes b9 v7 l5 (E μ z))).bind fun r8 =>
        (gR r8.2 (some 400) 0 0).bind fun v10 =>
        (gR r8.2 v10 1 6).bind fun v11 =>
        (aa r8.2 v11 l1).bind fun v12 =>
        (recv r8.2 (some 400) 0).bind fun b14 => (cal r8.2 (mX0_takes b14 v12 l5 r8.2)).bind fun r13 =>
        mX0_saves_l52 g r13.2 (some 400) l1 l2 l3 (l4 + (r8.1 - r13.1)) (l5 + 1))) = ρ → mX0_saves_l52 (g + 1) (E μ z) (some 400) l1 l2 l3 l4 l5 = ρ := by
      intro ρ hρ
      show mX0_saves_b52 _ _ _ _ _ _ _ _ = _
      unfold mX0_saves_b52
      refine bind_step (gR_400_0 554 (by omega) _ _) ?_
      refine bind_step (gR_401_0 554 (by omega) _ _) ?_
      refine bind_step (ia_E (n := 0) isI_402 rfl (by omega)) ?_
      rw [hc.1 402 (by omega)]
      refine (if_neg (by rw [Int32.le_iff_toInt_le, hn0, h5]; omega)).trans ?_
      refine bind_step (cal_w has0_E) ?_
      exact hρ
    by_cases hb : ((l3 >>> (l5 &&& 31)) &&& 1) = 1
    · have hT1 : Tc μ z := Tc_CFr (CQ_CFr hc) hz hT
      obtain ⟨o1, o2⟩ := ho k (by omega)
      have m403 : μ 403 = μ0 403 := hc.1 403 (by omega)
      have m402 : μ 402 = μ0 402 := hc.1 402 (by omega)
      have m540 : μ 540 = μ0 540 := hc.1 540 (by omega)
      have m405 : μ (405 + k) = μ0 (405 + k) := hc.1 _ (by omega)
      obtain ⟨μ1, t1, c1⟩ := takes_E (μ := μ) (z := z) (t9 := l2) (a := l5) (y := y2) (o := k) (G := g2 k) hT1 (txt_CQ hc ht2) h5 (by omega) (by rw [m403]; exact hr) (by rw [m405]; exact o1) (by rw [m405]; exact o2) (by rw [hc.2 7 (by omega)]; exact h7) (by
        rw [← hg2 k (by omega), m402, m403, m405]
        show fsW _ 0 (itH (μ 540) (μ 402 3) 1 _ _) 200 0 = fsW _ 0 (itH (μ0 540) (μ0 402 3) 1 _ _) 200 0
        rw [m402, m540]) (hb2 k)
      have hc1 := CQ.trans hc c1
      have hT2 : Tc μ1 z := Tc_CFr (CQ_CFr hc1) hz hT
      have n403 : μ1 403 = μ0 403 := hc1.1 403 (by omega)
      have n402 : μ1 402 = μ0 402 := hc1.1 402 (by omega)
      have n540 : μ1 540 = μ0 540 := hc1.1 540 (by omega)
      have n405 : μ1 (405 + k) = μ0 (405 + k) := hc1.1 _ (by omega)
      obtain ⟨μ2, t2, c2⟩ := takes_E (μ := μ1) (z := z) (t9 := l1) (a := l5) (y := y1) (o := k) (G := g1 k) hT2 (txt_CQ hc1 ht1) h5 (by omega) (by rw [n403]; exact hr) (by rw [n405]; exact o1) (by rw [n405]; exact o2) (by rw [hc1.2 7 (by omega)]; exact h7) (by
        rw [← hg1 k (by omega), n402, n403, n405]
        show fsW _ 0 (itH (μ1 540) (μ1 402 3) 1 _ _) 200 0 = fsW _ 0 (itH (μ0 540) (μ0 402 3) 1 _ _) 200 0
        rw [n402, n540]) (hb1 k)
      have hc2 := CQ.trans hc1 c2
      obtain ⟨μ', e, hq⟩ := ih (k + 1) g (l4 + (tkO (g2 k) - tkO (g1 k))) (l5 + 1) μ2 (by omega) (inc_I h5 (by omega)) (by omega) hc2 (by
        show _ = if _ then _ else _
        rw [← e5, if_pos hb, tk_st, tk_st, h4])
      refine ⟨μ', pre _ ?_, hq⟩
      rw [if_pos hb]
      refine (if_neg one_ne).trans ?_
      refine bind_step (gR_400_0 554 (by omega) _ _) ?_
      refine bind_step (gR_401_6 554 (by omega) _ _) ?_
      refine bind_step ((aaX_E (n := i2) isX_458 hi2 h24).trans (congrArg some hz2)) ?_
      refine bind_step (recv_400 554 (by omega) _ _) ?_
      refine bind_step (cal_E t1) ?_
      refine bind_step (gR_400_0 554 (by omega) _ _) ?_
      refine bind_step (gR_401_6 554 (by omega) _ _) ?_
      refine bind_step ((aaX_E (n := i1) isX_458 hi1 h14).trans (congrArg some hz1)) ?_
      refine bind_step (recv_400 554 (by omega) _ _) ?_
      refine bind_step (cal_E t2) ?_
      exact e
    · obtain ⟨μ', e, hq⟩ := ih (k + 1) g (l4 + 0) (l5 + 1) μ (by omega) (inc_I h5 (by omega)) (by omega) hc (by
        show _ = if _ then _ else _
        rw [← e5, if_neg hb, h4])
      refine ⟨μ', pre _ ?_, hq⟩
      rw [if_neg hb]
      exact (if_pos rfl).trans e
theorem saves_M {μ0 : Mu} {z0 : Zt} {A0 : Nat → Int32} {t4 near l1 l2 l3 : Int32} {n0 : Nat} {g1 g2 : Nat → Option Nat} (hg1 : ∀ o, o < n0 → fsW near 0 (itH (μ0 540) t4 1 (some l1) (rsF (A0 12) (A0 (20 + 6 * o)) (A0 (20 + 6 * o + 1)))) 200 0 = g1 o) (hg2 : ∀ o, o < n0 → fsW near 0 (itH (μ0 540) t4 1 (some l2) (rsF (A0 12) (A0 (20 + 6 * o)) (A0 (20 + 6 * o + 1)))) 200 0 = g2 o)
    (hT : TX TT μ0 z0) (ha : -1 ≤ t4.toInt ∧ t4.toInt < (μ0 402 2).toInt) (ha1 : -1 ≤ l1.toInt ∧ l1.toInt < (μ0 402 2).toInt) (ha2 : -1 ≤ l2.toInt ∧ l2.toInt < (μ0 402 2).toInt) (h4A : A0 4 = t4) (hnear : A0 1 = near) (hn0 : (A0 0).toInt = (n0 : Int)) (h8 : n0 ≤ 8) (hr : bd (A0 12) 1 24) (ho : ∀ o, o < n0 → bd (A0 (20 + 6 * o)) 0 99 ∧ bd (A0 (20 + 6 * o + 1)) 0 60) (h25 : μ0 537 25 = 0) :
    ∀ (q k fu : Nat) (l4 l5 : Int32) (μ : Mu) (z : Zt), n0 = k + q → l5.toInt = (k : Int) → q < fu → MFr μ0 z0 μ z → μ 538 = A0 → l4 = svF l3 g1 g2 k → ∃ μ' z', mX2_saves_l49 fu (E μ z) (some 537) l1 l2 l3 l4 l5 = some (svF l3 g1 g2 n0, E μ' z') ∧ MFr μ0 z0 μ' z' ∧ μ' 538 = A0 := by
  intro q
  induction q with
  | zero =>
    intro k fu l4 l5 μ z hk h5 hf hm hA h4
    obtain ⟨g, rfl⟩ : ∃ g, fu = g + 1 := ⟨fu - 1, by omega⟩
    refine ⟨μ, z, ?_, hm, hA⟩
    show mX2_saves_b49 _ _ _ _ _ _ _ _ = _
    unfold mX2_saves_b49
    refine bind_step (gR_537_0 554 (by omega) _ _) ?_
    refine bind_step (ia_E (n := 0) isI_538 rfl (by omega)) ?_
    rw [hA]
    refine (if_pos (by rw [Int32.le_iff_toInt_le, hn0, h5]; omega)).trans ?_
    rw [h4, show k = n0 by omega]
  | succ q ih =>
    intro k fu l4 l5 μ z hk h5 hf hm hA h4
    obtain ⟨g, rfl⟩ : ∃ g, fu = g + 1 := ⟨fu - 1, by omega⟩
    have e5 : l5 = Int32.ofNat k := I_nat h5
    have pre : ∀ ρ : Option (Int32 × Wd), (if (if ((l3 >>> (l5 &&& 31)) &&& 1) = 1 then (1 : Int32) else 0) = 0 then mX2_saves_l49 g (E μ z) (some 537) l1 l2 l3 (l4 + 0) (l5 + 1) else (
        (recv (E μ z) (some 537) 2).bind fun b5 => (cal (E μ z) (mX2_fromRest b5 l2 l5 (E μ z))).bind fun r4 =>
        (recv r4.2 (some 537) 2).bind fun b7 => (cal r4.2 (mX2_fromRest b7 l1 l5 r4.2)).bind fun r6 =>
        mX2_saves_l49 g r6.2 (some 537) l1 l2 l3 (l4 + (r4.1 - r6.1)) (l5 + 1))) = ρ → mX2_saves_l49 (g + 1) (E μ z) (some 537) l1 l2 l3 l4 l5 = ρ := by
      intro ρ hρ
      show mX2_saves_b49 _ _ _ _ _ _ _ _ = _
      unfold mX2_saves_b49
      refine bind_step (gR_537_0 554 (by omega) _ _) ?_
      refine bind_step (ia_E (n := 0) isI_538 rfl (by omega)) ?_
      rw [hA]
      refine (if_neg (by rw [Int32.le_iff_toInt_le, hn0, h5]; omega)).trans ?_
      refine bind_step (cal_w has2_E) ?_
      exact hρ
    by_cases hb : ((l3 >>> (l5 &&& 31)) &&& 1) = 1
    · have hT1 : TX TT μ z := TX_MFr hm hT
      obtain ⟨o1, o2⟩ := ho k (by omega)
      have m402 : μ 402 = μ0 402 := hm.1 402 (by omega)
      have m540 : μ 540 = μ0 540 := hm.1 540 (by omega)
      have m25 : μ 537 25 = 0 := (hm.2.1 25 (by omega)).trans h25
      obtain ⟨S, P, F1, N1, T1, V1, t1, f1, f1'⟩ := fromRest_E (μ := μ) (z := z) (F := μ 537) (A := A0) (N := μ 543) (T := μ 545) (V := z.1 544) (t4 := t4) (t9 := l2) (near := near) (l2 := l5) (t := 0) (o := k) (G := g2 k) hT1 h4A (by rw [m402]; exact ha) (by rw [m402]; exact ha2) hnear h5 (by omega) hr o1 o2 (by rw [m540]; exact hg2 k (by omega))
      have hm1 : MFr μ0 z0 (setM (setM μ 546 S) 547 P) z := MFr.trans hm ⟨fun j hj => (setM_ne (by omega)).trans (setM_ne (by omega)), fun j hj => by rw [setM_ne (show (537 : Nat) ≠ 547 by omega), setM_ne (show (537 : Nat) ≠ 546 by omega)], rfl⟩
      have k402 : setM (setM μ 546 S) 547 P 402 = μ0 402 := hm1.1 402 (by omega)
      have k540 : setM (setM μ 546 S) 547 P 540 = μ0 540 := hm1.1 540 (by omega)
      obtain ⟨S2, P2, F2, N2, T2, V2, t2, f2, f2'⟩ := fromRest_E (μ := setM (setM μ 546 S) 547 P) (z := z) (F := F1) (A := A0) (N := N1) (T := T1) (V := V1) (t4 := t4) (t9 := l1) (near := near) (l2 := l5) (t := 0) (o := k) (G := g1 k) (TX_MFr hm1 hT) h4A (by rw [k402]; exact ha) (by rw [k402]; exact ha1) hnear h5 (by omega) hr o1 o2 (by rw [k540]; exact hg1 k (by omega))
      have hm2 : MFr μ0 z0 (setM (setM (setM (setM μ 546 S) 547 P) 546 S2) 547 P2) z := MFr.trans hm1 ⟨fun j hj => (setM_ne (by omega)).trans (setM_ne (by omega)), fun j hj => by rw [setM_ne (show (537 : Nat) ≠ 547 by omega), setM_ne (show (537 : Nat) ≠ 546 by omega)], rfl⟩
      have m537 : setM (setM (setM (setM μ 546 S) 547 P) 546 S2) 547 P2 537 = μ 537 := by
        rw [setM_ne (by omega), setM_ne (by omega), setM_ne (by omega), setM_ne (by omega)]
      have hm3 : MFr μ0 z0 (fM (setM (setM (setM (setM μ 546 S) 547 P) 546 S2) 547 P2) F2 A0 N2 T2) (zM z V2) := MFr.trans hm2 (MFr_M (fun j hj => by
        rw [m537]
        by_cases j25 : j = 25
        · rw [j25, f2', m25]
        · rw [f2 j (by omega) (by omega) j25, f1 j (by omega) (by omega) j25]))
      obtain ⟨μ', z', e, w1, w2⟩ := ih (k + 1) g (l4 + (stM (g2 k) - stM (g1 k))) (l5 + 1) _ _ (by omega) (inc_I h5 (by omega)) (by omega) hm3 rfl (by
        show _ = if _ then _ else _
        rw [← e5, if_pos hb, h4])
      refine ⟨μ', z', pre _ ?_, w1, w2⟩
      rw [if_pos hb]
      refine (if_neg one_ne).trans ?_
      rw [WM_0 μ z, hA]
      refine bind_step (recv_537 554 (by omega) _ _) ?_
      refine bind_step (calM t1) ?_
      refine bind_step (recv_537 554 (by omega) _ _) ?_
      refine bind_step (calM t2) ?_
      exact e
    · obtain ⟨μ', z', e, w1, w2⟩ := ih (k + 1) g (l4 + 0) (l5 + 1) μ z (by omega) (inc_I h5 (by omega)) (by omega) hm hA (by
        show _ = if _ then _ else _
        rw [← e5, if_neg hb, h4])
      refine ⟨μ', z', pre _ ?_, w1, w2⟩
      rw [if_neg hb]
      exact (if_pos rfl).trans e
theorem ow_saves (L : Nat) (xs : Nat → Int32) : Ow_saves (Inv (TX TT) L xs) := by
  intro n μ z a b c hI
  obtain ⟨t, ht, ht9, hgo, hTc, hn1, h4, h2, hc7, hf25⟩ := Inv_q hI
  have a3 : μ 538 3 = μ 402 2 := hI.1.1.1.2.2.1
  have a0 : μ 538 0 = μ 402 0 := hI.1.1.1.1
  rcases inB_01 a 0 (μ 402 2 - 1) with hin | hin
  · refine Agr_ro hI (-100000) ?_ ?_
    · show mX0_saves 400 a b c (E μ z) = _
      unfold mX0_saves
      refine bind_step (recv_400 554 (by omega) _ _) ?_
      refine bind_step (cal_w isText0_E) ?_
      exact if_pos hin
    · show mX2_saves 537 a b c (E μ z) = _
      rw [WM_0]
      unfold mX2_saves
      refine bind_step (recv_537 554 (by omega) _ _) ?_
      refine bind_step (cal_w isText2_E) ?_
      rw [a3]
      exact if_pos hin
  have hna : ¬ inB a 0 (μ 402 2 - 1) = 0 := by rw [hin]; exact one_ne
  rcases inB_01 b 0 (μ 402 2 - 1) with hib | hib
  · refine Agr_ro hI (-100000) ?_ ?_
    · show mX0_saves 400 a b c (E μ z) = _
      unfold mX0_saves
      refine bind_step (recv_400 554 (by omega) _ _) ?_
      refine bind_step (cal_w isText0_E) ?_
      refine (if_neg hna).trans ?_
      refine bind_step (recv_400 554 (by omega) _ _) ?_
      refine bind_step (cal_w isText0_E) ?_
      exact if_pos hib
    · show mX2_saves 537 a b c (E μ z) = _
      rw [WM_0]
      unfold mX2_saves
      refine bind_step (recv_537 554 (by omega) _ _) ?_
      refine bind_step (cal_w isText2_E) ?_
      rw [a3]
      refine (if_neg hna).trans ?_
      refine bind_step (recv_537 554 (by omega) _ _) ?_
      refine bind_step (cal_w isText2_E) ?_
      rw [a3]
      exact if_pos hib
  have hnb : ¬ inB b 0 (μ 402 2 - 1) = 0 := by rw [hib]; exact one_ne
  have pc : ∀ ρ : Option (Int32 × Wd), ∀ μ1 : Mu, μ1 402 = μ 402 → (if a = b then some ((-100000), E μ1 z) else (if ¬ inB c 1 ((1 <<< (μ 402 0 &&& 31)) - 1) = 0 then mX0_saves_l52 FU (E μ1 z) (some 400) a b c 0 0 else some ((-100000), E μ1 z))) = ρ → mX0_saves 400 a b c (E μ1 z) = ρ := by
    intro ρ μ1 e1 hρ
    have i0 : ∀ q, mX0_isText 400 q (E μ1 z) = some (inB q 0 (μ 402 2 - 1), E μ1 z) := fun q => by rw [← e1]; exact isText0_E
    unfold mX0_saves
    refine bind_step (recv_400 554 (by omega) _ _) ?_
    refine bind_step (cal_w (i0 a)) ?_
    refine (if_neg hna).trans ?_
    refine bind_step (recv_400 554 (by omega) _ _) ?_
    refine bind_step (cal_w (i0 b)) ?_
    refine (if_neg hnb).trans ?_
    by_cases hab : a = b
    · refine (if_pos hab).trans ?_
      rw [if_pos hab] at hρ
      exact hρ
    · refine (if_neg hab).trans ?_
      rw [if_neg hab] at hρ
      refine bind_step (gR_400_0 554 (by omega) _ _) ?_
      refine bind_step (gR_401_0 554 (by omega) _ _) ?_
      refine bind_step (ia_E (n := 0) isI_402 rfl (by omega)) ?_
      rw [e1]
      refine bind_step (cal_w (in_E _ _ _ _)) ?_
      exact hρ
  have pm : ∀ ρ : Option (Int32 × Wd), ∀ μ1 : Mu, μ1 538 = μ 538 → (if a = b then some ((-100000), E μ1 z) else (if ¬ inB c 1 ((1 <<< (μ 402 0 &&& 31)) - 1) = 0 then mX2_saves_l49 FU (E μ1 z) (some 537) a b c 0 0 else some ((-100000), E μ1 z))) = ρ → mX2_saves 537 a b c (E μ1 z) = ρ := by
    intro ρ μ1 e1 hρ
    have i0 : ∀ q, mX2_isText 537 q (E μ1 z) = some (inB q 0 (μ 402 2 - 1), E μ1 z) := fun q => by
      rw [← a3, ← e1]
      have := isText2_E (μ := μ1) (z := z) (F := μ1 537) (A := μ1 538) (N := μ1 543) (T := μ1 545) (V := z.1 544) (a := q)
      rw [← WM_0] at this
      exact this
    unfold mX2_saves
    refine bind_step (recv_537 554 (by omega) _ _) ?_
    refine bind_step (cal_w (i0 a)) ?_
    refine (if_neg hna).trans ?_
    refine bind_step (recv_537 554 (by omega) _ _) ?_
    refine bind_step (cal_w (i0 b)) ?_
    refine (if_neg hnb).trans ?_
    by_cases hab : a = b
    · refine (if_pos hab).trans ?_
      rw [if_pos hab] at hρ
      exact hρ
    · refine (if_neg hab).trans ?_
      rw [if_neg hab] at hρ
      refine bind_step (gR_537_0 554 (by omega) _ _) ?_
      refine bind_step (ia_E (n := 0) isI_538 rfl (by omega)) ?_
      rw [e1, a0]
      refine bind_step (cal_w (isIn_E _ _ _ _)) ?_
      exact hρ
  by_cases hab : a = b
  · exact Agr_ro hI (-100000) (pc _ μ rfl (if_pos hab)) (pm _ μ rfl (if_pos hab))
  rcases inB_01 c 1 ((1 <<< (μ 402 0 &&& 31)) - 1) with hic | hic
  · exact Agr_ro hI (-100000) (pc _ μ rfl ((if_neg hab).trans (if_neg (fun q => q hic)))) (pm _ μ rfl ((if_neg hab).trans (if_neg (fun q => q hic))))
  have hnc : ¬ inB c 1 ((1 <<< (μ 402 0 &&& 31)) - 1) = 0 := by rw [hic]; exact one_ne
  obtain ⟨i1, y1, u1, u4, u2, z1, tx1⟩ := text_of hTc.2.1 hin
  obtain ⟨i2, y2, v1, v4, v2, z2, tx2⟩ := text_of hTc.2.1 hib
  have hps := hI.1
  obtain ⟨⟨-, b0, -⟩, p2, -, -, p5, rw5, -⟩ := hps
  have b0' : bd (μ 402 0) 0 8 := b0
  obtain ⟨n0, hn0⟩ : ∃ n0 : Nat, (μ 402 0).toInt = (n0 : Int) := ⟨(μ 402 0).toInt.toNat, by have := b0'.1; omega⟩
  have h8 : n0 ≤ 8 := by have := b0'.2; omega
  have a12 : μ 538 12 = μ 403 4 := p5.1 4 (by omega)
  have hr4 : bd (μ 403 4) 1 24 := rw5.1.2.2.2.2.1
  have hord : ∀ o, o < n0 → (μ 538 (20 + 6 * o) = μ (405 + o) 0 ∧ μ 538 (20 + 6 * o + 1) = μ (405 + o) 1) ∧ bd (μ (405 + o) 0) 0 99 ∧ bd (μ (405 + o) 1) 0 60 := fun o ho => by
    obtain ⟨w1, w2, w3, -⟩ := p2 o (by show (o : Int) < (μ 402 0).toInt; omega)
    have f9 : fam μ (401 + 4) 8 o = μ (405 + o) := fam_at (by omega)
    rw [f9] at w1 w2 w3
    exact ⟨⟨w1 0 (by omega), w1 1 (by omega)⟩, bd_w w2 (by omega) (by omega), w3⟩
  have hz := hI.2.2.2.1.2.1
  have hbb : ∀ (t9 : Int32) (o j : Nat), fsW (μ 402 1) 0 (sqS μ t9 (μ 403 4) (μ (405 + o) 0) (μ (405 + o) 1)) 200 0 = some j → 1 ≤ j ∧ j ≤ 200 := fun t9 o j h => by
    have := fs_bd _ _ _ h
    omega
  obtain ⟨μ1, f1, hq⟩ := saves_C (μ0 := μ) (z := z) (l1 := a) (l2 := b) (l3 := c) (n0 := n0) (i1 := i1) (i2 := i2) (y1 := y1) (y2 := y2) (g1 := fun o => fsW (μ 402 1) 0 (sqS μ a (μ 403 4) (μ (405 + o) 0) (μ (405 + o) 1)) 200 0) (g2 := fun o => fsW (μ 402 1) 0 (sqS μ b (μ 403 4) (μ (405 + o) 0) (μ (405 + o) 1)) 200 0) (fun _ _ => rfl) (fun _ _ => rfl) (hbb a) (hbb b) hTc hz tx1 tx2 u1 v1 u4 v4 z1 z2 hn0 h8 hr4 (fun o ho => (hord o ho).2) hc7 n0 0 FU 0 0 μ (by omega) rfl (by unfold FU; omega) (CQ.refl μ) rfl
  have e402 : μ1 402 = μ 402 := hq.1 402 (by omega)
  have e540 : μ1 540 = μ 540 := hq.1 540 (by omega)
  have e537 : μ1 537 = μ 537 := hq.1 537 (by omega)
  have e538 : μ1 538 = μ 538 := hq.1 538 (by omega)
  have hT1 := Tc_CFr (CQ_CFr (z := z) hq) hz hTc
  obtain ⟨μ2, z9, f2, w1, w2⟩ := saves_M (μ0 := μ1) (z0 := z) (A0 := μ 538) (t4 := μ 402 3) (near := μ 402 1) (l1 := a) (l2 := b) (l3 := c) (n0 := n0) (g1 := fun o => fsW (μ 402 1) 0 (sqS μ a (μ 403 4) (μ (405 + o) 0) (μ (405 + o) 1)) 200 0) (g2 := fun o => fsW (μ 402 1) 0 (sqS μ b (μ 403 4) (μ (405 + o) 0) (μ (405 + o) 1)) 200 0) (fun o ho => by rw [e540, a12, (hord o ho).1.1, (hord o ho).1.2]) (fun o ho => by rw [e540, a12, (hord o ho).1.1, (hord o ho).1.2]) hT1.2.1 (by rw [e402]; exact hTc.2.2) (by rw [e402]; exact ⟨by omega, by omega⟩) (by rw [e402]; exact ⟨by omega, by omega⟩) h4 hn1 (by rw [a0]; exact hn0) h8 (by rw [a12]; exact hr4) (fun o ho => by rw [(hord o ho).1.1, (hord o ho).1.2]; exact (hord o ho).2) (by rw [e537]; exact hf25) n0 0 FU 0 0 μ1 z (by omega) rfl (by unfold FU; omega) (MFr.refl _ _) e538 rfl
  exact Agr_q hI ht _ (pc _ μ rfl ((if_neg hab).trans ((if_pos hnc).trans f1))) hq (pm _ μ1 e538 ((if_neg hab).trans ((if_pos hnc).trans f2))) w1 (by rw [w2]; exact RgOk.refl _ _)
