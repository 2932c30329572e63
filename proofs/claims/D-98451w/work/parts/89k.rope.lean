/-! ===== whichRope ===== -/
/-- the best of q from r on, so far best with s -/
def bestF (g : Nat → Option Nat) : Nat → Nat → Int32 → Nat → Int32
  | 0, _, b, _ => b
  | q + 1, r, b, s => match g r with
    | none => bestF g q (r + 1) b s
    | some j => if j < s then bestF g q (r + 1) (Int32.ofNat r) j else bestF g q (r + 1) b s
/-- what is found, not behind m -/
def cutO (o : Option Nat) (m : Nat) : Option Nat := match o with
  | none => none
  | some j => if j ≤ m then some j else none
theorem fs_cut {near : Int32} {w : Nat} {Xs : Nat → Nat → Int32} {d d' k : Nat} (h : d' ≤ d) : fsW near w Xs d' k = cutO (fsW near w Xs d k) (k + d') := fs_lim d d' k h
theorem best_no {G : Nat → Option Nat} {q r s : Nat} {b : Int32} (h : G r = none) : bestF G (q + 1) r b s = bestF G q (r + 1) b s := by
  show (match G r with | none => _ | some j => _) = _
  rw [h]
theorem best_lt {G : Nat → Option Nat} {q r s j : Nat} {b : Int32} (h : G r = some j) (hj : j < s) : bestF G (q + 1) r b s = bestF G q (r + 1) (Int32.ofNat r) j := by
  show (match G r with | none => _ | some j => _) = _
  rw [h]
  exact if_pos hj
theorem best_ge {G : Nat → Option Nat} {q r s j : Nat} {b : Int32} (h : G r = some j) (hj : ¬ j < s) : bestF G (q + 1) r b s = bestF G q (r + 1) b s := by
  show (match G r with | none => _ | some j => _) = _
  rw [h]
  exact if_neg hj
/-- the model's least so far -/
def lstM (s : Nat) : Int := if s = 201 then 100000000 else (s : Int)
theorem gb_no {l2 : Int32} {s : Nat} (h2 : l2.toInt = lstM s) (hs : s ≤ 201) : ¬ gbO none < l2 := by
  rw [Int32.lt_iff_toInt_lt, h2]
  show ¬ (100000000 : Int) < _
  unfold lstM
  split <;> omega
theorem gb_lt {l2 : Int32} {s j : Nat} (h2 : l2.toInt = lstM s) (hs : s ≤ 201) (hj : j < 1000) : gbO (some j) < l2 ↔ (s = 201 ∨ j < s) := by
  show Int32.ofNat j < l2 ↔ _
  rw [Int32.lt_iff_toInt_lt, h2, tI (by omega)]
  unfold lstM
  split
  · constructor
    · intro _; exact Or.inl (by assumption)
    · intro _; omega
  · omega
abbrev rrow (X : Nat → Int32) (r : Nat) : Nat → Int32 := upd X 4 (Int32.ofNat r)
theorem Gc_r {t r : Nat} {X : Nat → Int32} (hr1 : 1 ≤ r) (hr : r ≤ 24) (h : Gc t X) : Gc t (rrow X r) := by
  obtain ⟨⟨r0, r1, r2, r3, r4, r5, r6, r7, r9⟩, g2, g3⟩ := h
  have e : ∀ j, j ≠ 4 → rrow X r j = X j := fun j hj => upN hj
  have e4 : rrow X r 4 = Int32.ofNat r := upd_eq
  refine ⟨⟨by rw [e 0 (by omega)]; exact r0, by rw [e 1 (by omega)]; exact r1, by rw [e 2 (by omega)]; exact r2, by rw [e 3 (by omega)]; exact r3, by rw [e4]; exact ⟨by rw [tI (by omega)]; omega, by rw [tI (by omega)]; omega⟩, by rw [e 5 (by omega)]; exact r5, by rw [e 6 (by omega)]; exact r6, by rw [e 7 (by omega)]; exact r7, by rw [e 9 (by omega)]; exact r9⟩, fun q j q1 q2 q3 hj => by rw [e _ (by omega)]; exact g2 q j q1 q2 q3 hj, by rw [e 8 (by omega)]; exact g3⟩
theorem Go_r {t r : Nat} {X A : Nat → Int32} (hr1 : 1 ≤ r) (hr : r ≤ 24) (h : Go t X A) : Go t (rrow X r) (upd A 12 (Int32.ofNat r)) := by
  obtain ⟨g1, g2, g3, g4, g5⟩ := h
  obtain ⟨c1, c2, c3⟩ := Gc_r hr1 hr ⟨g1, g3, g5⟩
  have e : ∀ j, j ≠ 4 → rrow X r j = X j := fun j hj => upN hj
  have e4 : rrow X r 4 = Int32.ofNat r := upd_eq
  refine ⟨c1, fun j hj => ?_, c2, fun q j q1 q2 q3 hj => by rw [upN (by omega), e _ (by omega)]; exact g4 q j q1 q2 q3 hj, c3⟩
  by_cases j4 : j = 4
  · subst j4
    rw [e4, show 8 + 4 = 12 from rfl, upd_eq]
  · rw [upN (by omega), e j j4]
    exact g2 j hj
theorem Gc_ext {t : Nat} {X X' : Nat → Int32} (h : Eq4 X X') (hg : Gc t X) : Gc t X' := by
  obtain ⟨⟨r0, r1, r2, r3, r4, r5, r6, r7, r9⟩, g2, g3⟩ := hg
  refine ⟨⟨by rw [h 0 (by omega)]; exact r0, by rw [h 1 (by omega)]; exact r1, by rw [h 2 (by omega)]; exact r2, by rw [h 3 (by omega)]; exact r3, by rw [h 4 (by omega)]; exact r4, by rw [h 5 (by omega)]; exact r5, by rw [h 6 (by omega)]; exact r6, by rw [h 7 (by omega)]; exact r7, by rw [h 9 (by omega)]; exact r9⟩, fun q j q1 q2 q3 hj => ?_, by rw [h 8 (by omega)]; exact g3⟩
  have := sixty (t - q)
  rw [h _ (by omega)]
  exact g2 q j q1 q2 q3 hj
/-- the rules, out of a world in which a row is tried -/
theorem rules_W {μ : Mu} {z : Zt} {l : Nat} {C N X : Nat → Int32} (h : okl l) (hT : Tc μ z) : ∃ y, txtOf μ z (μ 402 3) y ∧ mX0_rules 400 (WC μ z l C N X) = some (some y, WC μ z l C N X) := by
  have hT2 := Tc_C (C := C) (N := N) (X := X) h hT
  obtain ⟨y, y1, y2⟩ := rules_E hT2.2.1 hT2.2.2
  refine ⟨y, ?_, y2⟩
  unfold txtOf at y1 ⊢
  rw [fC_402 h] at y1
  exact y1
abbrev sqR (μ : Mu) (r : Nat) : Nat → Nat → Int32 := wtF (μ 540) (μ 402 3) 0 0 (rrow (μ 403) r)
def gRo (μ : Mu) (r : Nat) : Option Nat := fsW (μ 402 1) 0 (sqR μ r) 200 0
theorem rope_C {μ0 : Mu} {z : Zt} {t : Nat} {G : Nat → Option Nat} (hG : ∀ r d, d ≤ 200 → fsW (μ0 402 1) 0 (sqR μ0 r) d 0 = cutO (G r) (0 + d)) (hGb : ∀ r j, G r = some j → 1 ≤ j ∧ j ≤ 200) (hT : Tc μ0 z) (hz : 554 ≤ z.2.2.2.1) (hg : Gc t (μ0 403)) (h9 : t < 20000) (h7 : μ0 400 7 = 0) : ∀ (q r fu : Nat) (l1 l2 l3 : Int32) (s : Nat) (μ : Mu), 25 = r + q → 1 ≤ r → l3.toInt = (r : Int) → q < fu → CQ μ0 μ → l2.toInt = (s : Int) → 1 ≤ s → s ≤ 201 →
    ∃ μ', mX0_whichRope_l8 fu (E μ z) (some 400) l1 l2 l3 = some (bestF G q r l1 s, E μ' z) ∧ CQ μ0 μ' := by
  have m1 : (-1 : Int32).toInt = -1 := rfl
  have c1 : (1 : Int32).toInt = 1 := rfl
  intro q
  induction q with
  | zero =>
    intro r fu l1 l2 l3 s μ hr hr1 h3 hf hc h2 hs1 hs
    obtain ⟨g, rfl⟩ : ∃ g, fu = g + 1 := ⟨fu - 1, by omega⟩
    refine ⟨μ, ?_, hc⟩
    show mX0_whichRope_b8 _ _ _ _ _ _ = _
    unfold mX0_whichRope_b8
    exact if_pos (by rw [Int32.lt_iff_toInt_lt, h3]; show (24 : Int) < _; omega)
  | succ q ih =>
    intro r fu l1 l2 l3 s μ hr hr1 h3 hf hc h2 hs1 hs
    obtain ⟨g, rfl⟩ : ∃ g, fu = g + 1 := ⟨fu - 1, by omega⟩
    have hT1 : Tc μ z := Tc_CFr (CQ_CFr hc) hz hT
    have e402 : μ 402 = μ0 402 := hc.1 402 (by omega)
    have e540 : μ 540 = μ0 540 := hc.1 540 (by omega)
    have e403 : μ 403 = μ0 403 := hc.1 403 (by omega)
    have e7 : μ 400 7 = 0 := by rw [hc.2 7 (by omega)]; exact h7
    have ec := copy_E (p := 554) (μ := μ) (z := z) isI_403 isI_519 (by omega) (by omega) (by omega)
    rw [setM_fC okl_519] at ec
    have e4 : Eq4 (rrow (μ0 403) r) (upd (va_cpy (μ 403) (μ 519) 0 0 413) 4 l3) := fun j hj => by
      rw [I_nat h3]
      by_cases j4 : j = 4
      · rw [j4]
        exact upd_eq.trans upd_eq.symm
      · exact (upN j4).trans ((cpy413 hj).trans ((congrFun e403 j).trans (upN j4).symm))
    obtain ⟨y, y1, y2⟩ := rules_W (C := μ 400) (N := μ 518) (X := upd (va_cpy (μ 403) (μ 519) 0 0 413) 4 l3) okl_519 hT1
    have hgr : Gc t (upd (va_cpy (μ 403) (μ 519) 0 0 413) 4 l3) := Gc_ext e4 (Gc_r hr1 (by omega) hg)
    have es : (l2 - 1).toInt = (s : Int) - 1 := I32_sub h2 c1 (by omega)
    obtain ⟨N', X', est⟩ := stillIn_loop (μ := μ) (z := z) (C := μ 400) (Xs := wtF (μ 540) (μ 402 3) 0 0 (upd (va_cpy (μ 403) (μ 519) 0 0 413) 4 l3)) (y := y) (w := 0) (t := t) (l3 := l2 - 1) hT1 y1 e7 (fun k hk => Gc_wt hgr k (by omega)) (by omega) (fun k _ => by
      show tenF _ _ _ _ (if k + 1 ≤ 0 then 0 else _) = _
      rw [if_neg (by omega)]) (s - 1) 0 FU 1 (μ 518) (by rw [es]; omega) (by omega) rfl (by unfold FU; omega)
    rw [show fsW (μ 402 1) 0 (wtF (μ 540) (μ 402 3) 0 0 (upd (va_cpy (μ 403) (μ 519) 0 0 413) 4 l3)) (s - 1) (0 + 0) = fsW (μ0 402 1) 0 (sqR μ0 r) (s - 1) 0 by
      rw [e402, e540]
      exact fs_congr (wt_congr e4) _ _, hG r (s - 1) (by omega)] at est
    have hc1 : CQ μ0 (fC μ 519 (μ 400) N' X') := CQ_C ⟨by omega, by omega⟩ (fun j hj => rfl) hc
    have pre : ∀ (v : Int32) (ρ : Option (Int32 × Wd)), mX0_stillIn_l3 FU (WC μ z 519 (μ 400) (μ 518) (wtF (μ 540) (μ 402 3) 0 0 (upd (va_cpy (μ 403) (μ 519) 0 0 413) 4 l3) (0 + 0))) (some 400) (some 519) (some y) (l2 - 1) 1 = some (v, WC μ z 519 (μ 400) N' X') → (if ¬ v = -1 then mX0_whichRope_l8 g (WC μ z 519 (μ 400) N' X') (some 400) l3 v (l3 + 1) else mX0_whichRope_l8 g (WC μ z 519 (μ 400) N' X') (some 400) l1 l2 (l3 + 1)) = ρ → mX0_whichRope_l8 (g + 1) (E μ z) (some 400) l1 l2 l3 = ρ := by
      intro v ρ hv hρ
      show mX0_whichRope_b8 _ _ _ _ _ _ = _
      unfold mX0_whichRope_b8
      refine (if_neg (by rw [Int32.lt_iff_toInt_lt, h3]; show ¬ (24 : Int) < _; omega)).trans ?_
      refine bind_step (gR_400_0 554 (by omega) _ _) ?_
      refine bind_step (gR_401_1 554 (by omega) _ _) ?_
      refine bind_step (gR_400_8 554 (by omega) _ _) ?_
      refine bind_step (cal_E ec) ?_
      refine bind_step (gR_400_8 554 (by omega) _ _) ?_
      refine bind_step (iasX (n := 4) okl_519 rfl (by omega)) ?_
      refine bind_step (gR_400_8 554 (by omega) _ _) ?_
      refine bind_step (recv_400 554 (by omega) _ _) ?_
      refine bind_step (cal_w y2) ?_
      refine bind_step (recv_400 554 (by omega) _ _) ?_
      refine bind_step (cal_E hv) ?_
      exact hρ
    cases hf : G r with
    | none =>
      obtain ⟨μ', e, hq⟩ := ih (r + 1) g l1 l2 (l3 + 1) s (fC μ 519 (μ 400) N' X') (by omega) (by omega) (inc_I h3 (by omega)) (by omega) hc1 h2 hs1 hs
      refine ⟨μ', ?_, hq⟩
      rw [hf] at est
      rw [best_no hf]
      refine pre (-1) _ est ?_
      exact (if_neg (fun q => q rfl)).trans e
    | some j =>
      have hb := hGb r j hf
      rw [hf] at est
      by_cases hj : j < s
      · have ej : (Int32.ofNat j).toInt = (j : Int) := tI (by omega)
        obtain ⟨μ', e, hq⟩ := ih (r + 1) g l3 (Int32.ofNat j) (l3 + 1) j (fC μ 519 (μ 400) N' X') (by omega) (by omega) (inc_I h3 (by omega)) (by omega) hc1 ej (by omega) (by omega)
        refine ⟨μ', ?_, hq⟩
        rw [best_lt hf hj, ← I_nat h3]
        have ev : stO 0 (if j ≤ 0 + (s - 1) then some j else none) = Int32.ofNat j := by
          rw [if_pos (by omega)]
          rfl
        refine pre (Int32.ofNat j) _ (est.trans ?_) ?_
        · show some (stO 0 (if j ≤ 0 + (s - 1) then some j else none), _) = _
          rw [ev]
        · exact (if_pos (fun q => by rw [q, m1] at ej; omega)).trans e
      · obtain ⟨μ', e, hq⟩ := ih (r + 1) g l1 l2 (l3 + 1) s (fC μ 519 (μ 400) N' X') (by omega) (by omega) (inc_I h3 (by omega)) (by omega) hc1 h2 hs1 hs
        refine ⟨μ', ?_, hq⟩
        rw [best_ge hf hj]
        have ev : stO 0 (if j ≤ 0 + (s - 1) then some j else none) = -1 := by
          rw [if_neg (by omega)]
          rfl
        refine pre (-1) _ (est.trans ?_) ?_
        · show some (stO 0 (if j ≤ 0 + (s - 1) then some j else none), _) = _
          rw [ev]
        · exact (if_neg (fun q => q rfl)).trans e
theorem rope_M {μ0 : Mu} {z0 : Zt} {A0 : Nat → Int32} {t : Nat} {G : Nat → Option Nat} (hG : ∀ r, fsW (μ0 402 1) 0 (sqR μ0 r) 200 0 = G r) (hGb : ∀ r j, G r = some j → 1 ≤ j ∧ j ≤ 200) (hT : TX TT μ0 z0) (ha : -1 ≤ (μ0 402 3).toInt ∧ (μ0 402 3).toInt < (μ0 402 2).toInt) (hg : Go t (μ0 403) A0) (hA4 : A0 4 = μ0 402 3) (hA2 : A0 2 = μ0 403 9) (hA1 : A0 1 = μ0 402 1) (h9 : t < 20000) (h25 : μ0 537 25 = 0) :
    ∀ (q r fu : Nat) (l1 l2 l3 : Int32) (s : Nat) (μ : Mu) (z : Zt), MFr μ0 z0 μ z → RgOk t A0 (μ 538) → 25 = r + q → 1 ≤ r → l3.toInt = (r : Int) → q < fu → l2.toInt = lstM s → s ≤ 201 → ∃ μ' z', mX2_whichRope_l8 fu (E μ z) (some 537) l1 l2 l3 = some (bestF G q r l1 s, E μ' z') ∧ MFr μ0 z0 μ' z' ∧ RgOk t A0 (μ' 538) := by
  intro q
  induction q with
  | zero =>
    intro r fu l1 l2 l3 s μ z hm hr hw h1w hl hf h2 hs
    obtain ⟨g, rfl⟩ : ∃ g, fu = g + 1 := ⟨fu - 1, by omega⟩
    refine ⟨μ, z, ?_, hm, hr⟩
    show mX2_whichRope_b8 _ _ _ _ _ _ = _
    unfold mX2_whichRope_b8
    exact if_pos (by rw [Int32.le_iff_toInt_le, hl]; show (25 : Int) ≤ _; omega)
  | succ q ih =>
    intro r fu l1 l2 l3 s μ z hm hr hw h1w hl hf h2 hs
    obtain ⟨g, rfl⟩ : ∃ g, fu = g + 1 := ⟨fu - 1, by omega⟩
    have e402 : μ 402 = μ0 402 := hm.1 402 (by omega)
    have e540 : μ 540 = μ0 540 := hm.1 540 (by omega)
    have el : l3 = Int32.ofNat r := I_nat hl
    have s540 : setM μ 546 (cpK 18 (μ 538) (μ 546)) 540 = μ0 540 := (setM_ne (by omega)).trans e540
    have s402 : setM μ 546 (cpK 18 (μ 538) (μ 546)) 402 = μ0 402 := (setM_ne (by omega)).trans e402
    have f25 : μ 537 25 = 0 := (hm.2.1 25 (by omega)).trans h25
    have hgr := Go_r (r := r) h1w (by omega) (Go_ring hg hr)
    obtain ⟨F', A', N', T', V', k', em, w1, w2, w3⟩ := goneBy_E (μ := setM μ 546 (cpK 18 (μ 538) (μ 546))) (z := z) (t4 := μ0 402 3) (l2 := 0) (near := μ0 402 1) (calm := 0) (Xs := sqR μ0 r) (A0 := upd (μ 538) 12 (Int32.ofNat r)) (F := μ 537) (A := upd (μ 538) 12 (Int32.ofNat r)) (N := μ 543) (T := μ 545) (V := z.1 544) (t := t) (w := 0) (by rw [s540]; exact fun _ => rfl) (TX_546 (TX_MFr hm hT)) (by rw [s402]; exact ha) (by rw [upN (by omega), hr.1 1 (by omega)]; exact hA1) (by omega) (by omega) rfl f25 ⟨hgr, fun _ _ _ _ => rfl, by rw [upN (by omega), hr.1 4 (by omega)]; exact hA4, fun _ => by
        rw [upN (by omega), hr.1 2 (by omega), hA2]
        exact (upN (by omega)).symm⟩
    rw [hG r] at em
    have hm1 : MFr μ0 z0 (fM (setM μ 546 (cpK 18 (μ 538) (μ 546))) (upd F' 25 0) (cpK 18 (setM μ 546 (cpK 18 (μ 538) (μ 546)) 546) A') N' T') (zM z V') := MFr_w hm (fun j hj => by
      by_cases h : j = 25
      · rw [h, upd_eq]; exact f25.symm
      · rw [upN h, w1 j (by omega) (by omega)])
    have hr1 : RgOk t A0 (cpK 18 (setM μ 546 (cpK 18 (μ 538) (μ 546)) 546) A') := RgOk.trans hr (w3.2.1.ok2 (B := μ 538) (by omega) (fun i hi => upN (by omega)) (fun i hi => by rw [setM_same]; exact if_pos hi))
    have pre : ∀ (ρ : Option (Int32 × Wd)), (if gbO (G r) < l2 then mX2_whichRope_l8 g (WM (setM μ 546 (cpK 18 (μ 538) (μ 546))) z (upd F' 25 0) (cpK 18 (setM μ 546 (cpK 18 (μ 538) (μ 546)) 546) A') N' T' V') (some 537) l3 (gbO (G r)) (l3 + 1) else mX2_whichRope_l8 g (WM (setM μ 546 (cpK 18 (μ 538) (μ 546))) z (upd F' 25 0) (cpK 18 (setM μ 546 (cpK 18 (μ 538) (μ 546)) 546) A') N' T' V') (some 537) l1 l2 (l3 + 1)) = ρ → mX2_whichRope_l8 (g + 1) (E μ z) (some 537) l1 l2 l3 = ρ := by
      intro ρ hρ
      show mX2_whichRope_b8 _ _ _ _ _ _ = _
      unfold mX2_whichRope_b8
      refine (if_neg (by rw [Int32.le_iff_toInt_le, hl]; show ¬ (25 : Int) ≤ _; omega)).trans ?_
      rw [WM_0 μ z]
      refine bind_step (recv_537 554 (by omega) _ _) ?_
      refine bind_step (cal_E begin_E) ?_
      refine bind_step (gR_537_0 554 (by omega) _ _) ?_
      refine bind_step (iasA (n := 12) rfl (by omega)) ?_
      refine bind_step (recv_537 554 (by omega) _ _) ?_
      rw [show upd (μ 538) 12 l3 = upd (μ 538) 12 (Int32.ofNat r) by rw [el]]
      refine bind_step (calM em) ?_
      refine bind_step (recv_537 554 (by omega) _ _) ?_
      refine bind_step (cal_E putBack_E) ?_
      exact hρ
    cases hf9 : G r with
    | none =>
      obtain ⟨μ', z', e, p1, p2⟩ := ih (r + 1) g l1 l2 (l3 + 1) s _ _ hm1 hr1 (by omega) (by omega) (inc_I hl (by omega)) (by omega) h2 hs
      refine ⟨μ', z', pre _ ?_, p1, p2⟩
      rw [best_no hf9, hf9]
      exact (if_neg (gb_no h2 hs)).trans e
    | some j =>
      have hb := hGb r j hf9
      have ej : (Int32.ofNat j).toInt = (j : Int) := tI (by omega)
      by_cases hj : j < s
      · obtain ⟨μ', z', e, p1, p2⟩ := ih (r + 1) g l3 (Int32.ofNat j) (l3 + 1) j _ _ hm1 hr1 (by omega) (by omega) (inc_I hl (by omega)) (by omega) (by
          rw [ej]
          unfold lstM
          rw [if_neg (by omega)]) (by omega)
        refine ⟨μ', z', pre _ ?_, p1, p2⟩
        rw [best_lt hf9 hj, hf9, ← I_nat hl]
        exact (if_pos ((gb_lt h2 hs (by omega)).mpr (Or.inr hj))).trans e
      · obtain ⟨μ', z', e, p1, p2⟩ := ih (r + 1) g l1 l2 (l3 + 1) s _ _ hm1 hr1 (by omega) (by omega) (inc_I hl (by omega)) (by omega) h2 hs
        refine ⟨μ', z', pre _ ?_, p1, p2⟩
        rw [best_ge hf9 hj, hf9]
        exact (if_neg (fun q => ((gb_lt h2 hs (by omega)).mp q).elim (fun q => by omega) hj)).trans e
theorem gRo_lim {μ : Mu} (r d : Nat) (hd : d ≤ 200) : fsW (μ 402 1) 0 (sqR μ r) d 0 = cutO (gRo μ r) (0 + d) := by
  unfold gRo
  exact fs_cut hd
theorem gRo_bd {μ : Mu} : ∀ r j, gRo μ r = some j → 1 ≤ j ∧ j ≤ 200 := fun r j h => by
  have := fs_bd _ _ _ h
  omega
theorem gRo_CQ {μ μ1 : Mu} (h : CQ μ μ1) : gRo μ1 = gRo μ := by
  funext r
  unfold gRo sqR
  rw [h.1 402 (by omega), h.1 540 (by omega), h.1 403 (by omega)]
theorem ow_whichRope (L : Nat) (xs : Nat → Int32) : Ow_whichRope (Inv (TX TT) L xs) := by
  intro n μ z hI
  obtain ⟨t, ht, ht9, hgo, hTc, hn1, h4, h2, hc7, hf25⟩ := Inv_q hI
  have hz := hI.2.2.2.1.2.1
  obtain ⟨μ1, f1, hq⟩ := rope_C gRo_lim gRo_bd hTc hz (Go_Gc hgo) (by omega) hc7 24 1 FU (-1) 201 1 201 μ (by omega) (by omega) rfl (by unfold FU; omega) (CQ.refl μ) rfl (by omega) (by omega)
  have hT1 := Tc_CFr (CQ_CFr (z := z) hq) hz hTc
  have e402 : μ1 402 = μ 402 := hq.1 402 (by omega)
  have e403 : μ1 403 = μ 403 := hq.1 403 (by omega)
  have e538 : μ1 538 = μ 538 := hq.1 538 (by omega)
  have e537 : μ1 537 = μ 537 := hq.1 537 (by omega)
  obtain ⟨μ2, z2, f2, p1, p2⟩ := rope_M (μ0 := μ1) (z0 := z) (A0 := μ 538) (t := t) (G := gRo μ1) (fun _ => rfl) gRo_bd hT1.2.1 hT1.2.2 (by rw [e403]; exact hgo) (by rw [e402]; exact h4) (by rw [e403]; exact h2) (by rw [e402]; exact hn1) (by omega) (by rw [e537]; exact hf25) 24 1 FU (-1) 100000000 1 201 μ1 z (MFr.refl _ _) (by rw [e538]; exact RgOk.refl _ _) (by omega) (by omega) rfl (by unfold FU; omega) rfl (by omega)
  rw [gRo_CQ hq] at f2
  exact Agr_q hI ht _ f1 hq f2 p1 p2
