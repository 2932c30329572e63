/-! ===== whenToGo ===== -/
theorem fs_shift {near : Int32} {w : Nat} {Xs Ys : Nat → Nat → Int32} (e : ∀ k, Eq4 (Xs (w + k)) (Ys k)) : ∀ d k, fsW near 0 Ys d k = (fsW near w Xs d (w + k)).map (fun j => j - w) := by
  intro d
  induction d with
  | zero => intro k; rfl
  | succ d ih =>
    intro k
    have h := ih (k + 1)
    unfold fsW
    rw [if_neg (show ¬ k + 1 ≤ 0 by omega), if_neg (show ¬ w + k + 1 ≤ w by omega), hsF_4 (e (k + 1)), show w + (k + 1) = w + k + 1 by omega]
    by_cases c : hsF near (Xs (w + k + 1)) = 0
    · rw [if_pos c, if_pos c, h, show w + (k + 1) = w + k + 1 by omega]
    · rw [if_neg c, if_neg c]
      show some (k + 1) = some (w + k + 1 - w)
      rw [show w + k + 1 - w = k + 1 by omega]
theorem wt_shift {tx : Nat → Int32} {t4 calm : Int32} {w : Nat} {X0 B : Nat → Int32} (h : Eq4 (wtF tx t4 calm w X0 w) B) : ∀ k, Eq4 (wtF tx t4 calm w X0 (w + k)) (wtF tx t4 calm 0 B k) := by
  intro k
  induction k with
  | zero => exact h
  | succ k ih =>
    show Eq4 (tenF tx t4 calm (wtF tx t4 calm w X0 (w + k)) (if w + k + 1 ≤ w then 0 else handF tx t4 (wtF tx t4 calm w X0 (w + k)))) (tenF tx t4 calm (wtF tx t4 calm 0 B k) (if k + 1 ≤ 0 then 0 else handF tx t4 (wtF tx t4 calm 0 B k)))
    rw [if_neg (show ¬ w + k + 1 ≤ w by omega), if_neg (show ¬ k + 1 ≤ 0 by omega), handF_congr ih]
    exact ten_congr ih
theorem wt_it {tx : Nat → Int32} {t4 calm : Int32} {w : Nat} {X0 : Nat → Int32} : ∀ k, k ≤ w → wtF tx t4 calm w X0 k = itH tx t4 calm none X0 k := by
  intro k
  induction k with
  | zero => intro _; rfl
  | succ k ih =>
    intro hk
    show tenF tx t4 calm (wtF tx t4 calm w X0 k) (if k + 1 ≤ w then 0 else _) = tenF tx t4 calm (itH tx t4 calm none X0 k) 0
    rw [if_pos hk, ih (by omega)]
abbrev sqT (μ : Mu) (w : Nat) : Nat → Nat → Int32 := wtF (μ 540) (μ 402 3) 0 w (μ 403)
def gTo (μ : Mu) (w : Nat) : Option Nat := fsW (μ 402 1) w (sqT μ w) 200 0
theorem gTo_lim {μ : Mu} (w d : Nat) (hd : d + w ≤ 200) : fsW (μ 402 1) w (sqT μ w) d w = cutO (gTo μ w) (w + d) := by
  unfold gTo
  rw [show fsW (μ 402 1) w (sqT μ w) 200 0 = fsW (μ 402 1) w (sqT μ w) (200 - w) w by
    have := fs_skip (near := μ 402 1) (w := w) (Xs := sqT μ w) w 0 (200 - w) (by omega)
    rw [show 200 - w + w = 200 by omega] at this
    exact this]
  exact fs_cut (by omega)
theorem gTo_bd {μ : Mu} : ∀ w j, gTo μ w = some j → w < j ∧ j ≤ 200 := fun r j h => by
  have := fs_bd _ _ _ h
  omega
theorem wait_C {μ0 : Mu} {z : Zt} {t : Nat} {G : Nat → Option Nat} (hG : ∀ w d, d + w ≤ 200 → fsW (μ0 402 1) w (sqT μ0 w) d w = cutO (G w) (w + d)) (hGb : ∀ w j, G w = some j → w < j ∧ j ≤ 200) (hT : Tc μ0 z) (hz : 554 ≤ z.2.2.2.1) (hg : Gc t (μ0 403)) (h9 : t < 20000) (h7 : μ0 400 7 = 0) : ∀ (q w fu : Nat) (l1 l2 l3 : Int32) (s : Nat) (μ : Mu), 61 = w + q → l3.toInt = (w : Int) → q < fu → CQ μ0 μ → Eq4 (itH (μ0 540) (μ0 402 3) 0 none (μ0 403) w) (μ 530) → l2.toInt = (s : Int) → 1 ≤ s → s ≤ 201 →
    ∃ μ', mX0_whenToGo_l22 fu (E μ z) (some 400) l1 l2 l3 = some (bestF G q w l1 s, E μ' z) ∧ CQ μ0 μ' := by
  have m1 : (-1 : Int32).toInt = -1 := rfl
  have c1 : (1 : Int32).toInt = 1 := rfl
  have c200 : (200 : Int32).toInt = 200 := rfl
  intro q
  induction q with
  | zero =>
    intro w fu l1 l2 l3 s μ hr h3 hf hc h530 h2 hs1 hs
    obtain ⟨g, rfl⟩ : ∃ g, fu = g + 1 := ⟨fu - 1, by omega⟩
    refine ⟨μ, ?_, hc⟩
    show mX0_whenToGo_b22 _ _ _ _ _ _ = _
    unfold mX0_whenToGo_b22
    exact if_pos (by rw [Int32.lt_iff_toInt_lt, h3]; show (60 : Int) < _; omega)
  | succ q ih =>
    intro w fu l1 l2 l3 s μ hr h3 hf hc h530 h2 hs1 hs
    obtain ⟨g, rfl⟩ : ∃ g, fu = g + 1 := ⟨fu - 1, by omega⟩
    have hT1 : Tc μ z := Tc_CFr (CQ_CFr hc) hz hT
    have e402 : μ 402 = μ0 402 := hc.1 402 (by omega)
    have e540 : μ 540 = μ0 540 := hc.1 540 (by omega)
    have e7 : μ 400 7 = 0 := by rw [hc.2 7 (by omega)]; exact h7
    have ec := copy_E (p := 554) (μ := μ) (z := z) isI_530 isI_519 (by omega) (by omega) (by omega)
    rw [setM_fC okl_519] at ec
    have e4 : Eq4 (μ 530) (va_cpy (μ 530) (μ 519) 0 0 413) := fun j hj => cpy413 hj
    have hgY : Gc (t + w) (μ 530) := Gc_ext h530 (Gc_it hg w (by omega))
    obtain ⟨y, y1, y2⟩ := rules_W (C := μ 400) (N := μ 518) (X := va_cpy (μ 530) (μ 519) 0 0 413) okl_519 hT1
    have hgr : Gc (t + w) (va_cpy (μ 530) (μ 519) 0 0 413) := Gc_ext e4 hgY
    have es : (l2 - 1).toInt = (s : Int) - 1 := I32_sub h2 c1 (by omega)
    have ej : (jminI 200 (l2 - 1)).toInt = (s : Int) - 1 := by
      unfold jminI
      split
      · exact es
      · rename_i hn
        rw [Int32.lt_iff_toInt_lt, es, c200] at hn
        rw [c200]
        omega
    have el : (jminI 200 (l2 - 1) - l3).toInt = (s : Int) - 1 - (w : Int) := I32_sub ej h3 (by omega)
    obtain ⟨N', X', est⟩ := stillIn_loop (μ := μ) (z := z) (C := μ 400) (Xs := wtF (μ 540) (μ 402 3) 0 0 (va_cpy (μ 530) (μ 519) 0 0 413)) (y := y) (w := 0) (t := t + w) (l3 := jminI 200 (l2 - 1) - l3) hT1 y1 e7 (fun k hk => Gc_wt hgr k (by omega)) (by omega) (fun k _ => by
      show tenF _ _ _ _ (if k + 1 ≤ 0 then 0 else _) = _
      rw [if_neg (by omega)]) (s - 1 - w) 0 FU 1 (μ 518) (by rw [el]; omega) (by omega) rfl (by unfold FU; omega)
    have eB : Eq4 (wtF (μ0 540) (μ0 402 3) 0 w (μ0 403) w) (va_cpy (μ 530) (μ 519) 0 0 413) := by
      rw [wt_it w (Nat.le_refl _)]
      exact fun j hj => (e4 j hj).trans (h530 j hj)
    rw [show fsW (μ 402 1) 0 (wtF (μ 540) (μ 402 3) 0 0 (va_cpy (μ 530) (μ 519) 0 0 413)) (s - 1 - w) (0 + 0) = (cutO (G w) (w + (s - 1 - w))).map (fun j => j - w) by
      rw [e402, e540, fs_shift (wt_shift eB) (s - 1 - w) (0 + 0)]
      exact congrArg _ (hG w (s - 1 - w) (by omega))] at est
    have hc1 : CQ μ0 (fC μ 519 (μ 400) N' X') := CQ_C ⟨by omega, by omega⟩ (fun j hj => rfl) hc
    have e530 : fC μ 519 (μ 400) N' X' 530 = μ 530 := fC_o (by omega) (by omega) (by omega)
    obtain ⟨N2, e2⟩ := tenth_E (μ := fC μ 519 (μ 400) N' X') (z := z) (l := 530) (C := fC μ 519 (μ 400) N' X' 400) (N := fC μ 519 (μ 400) N' X' 518) (X := μ 530) (t := t + w) (c := 0) okl_530 (Tc_CFr (CQ_CFr hc1) hz hT) hgY.1 hgY.2.2 (by omega) hgY.2.1 ⟨by decide, by decide⟩
    have hw9 : WC (fC μ 519 (μ 400) N' X') z 530 (fC μ 519 (μ 400) N' X' 400) (fC μ 519 (μ 400) N' X' 518) (μ 530) = E (fC μ 519 (μ 400) N' X') z := by
      rw [WC_00 (fC μ 519 (μ 400) N' X') z 530, e530]
    rw [hw9, show fC μ 519 (μ 400) N' X' 400 7 = 0 from e7, hc1.1 540 (by omega), hc1.1 402 (by omega)] at e2
    have hc2 : CQ μ0 (fC (fC μ 519 (μ 400) N' X') 530 (fC μ 519 (μ 400) N' X' 400) N2 (tenF (μ0 540) (μ0 402 3) 0 (μ 530) 0)) := CQ_C ⟨by omega, by omega⟩ (fun j hj => rfl) hc1
    have hY : Eq4 (itH (μ0 540) (μ0 402 3) 0 none (μ0 403) (w + 1)) (fC (fC μ 519 (μ 400) N' X') 530 (fC μ 519 (μ 400) N' X' 400) N2 (tenF (μ0 540) (μ0 402 3) 0 (μ 530) 0) 530) := by
      rw [fC_l okl_530]
      exact ten_congr h530
    have e2' : mX0_tenth 400 (some 530) 0 (E (fC μ 519 (μ 400) N' X') z) = some ((), E (fC (fC μ 519 (μ 400) N' X') 530 (fC μ 519 (μ 400) N' X' 400) N2 (tenF (μ0 540) (μ0 402 3) 0 (μ 530) 0)) z) := e2
    clear e2
    generalize fC (fC μ 519 (μ 400) N' X') 530 (fC μ 519 (μ 400) N' X' 400) N2 (tenF (μ0 540) (μ0 402 3) 0 (μ 530) 0) = μ3 at e2' hc2 hY
    have p77 : ∀ (a b : Int32) (ρ : Option (Int32 × Wd)), mX0_whenToGo_l22 g (E μ3 z) (some 400) a b (l3 + 1) = ρ → mX0_whenToGo_p77 (mX0_whenToGo_l22 g) (E (fC μ 519 (μ 400) N' X') z) (some 400) a b l3 = ρ := by
      intro a b ρ hρ
      unfold mX0_whenToGo_p77
      refine bind_step (gR_400_13 554 (by omega) _ _) ?_
      refine bind_step (recv_400 554 (by omega) _ _) ?_
      refine bind_step (cal_E e2') ?_
      exact hρ
    have pre : ∀ (v : Int32) (ρ : Option (Int32 × Wd)), mX0_stillIn_l3 FU (WC μ z 519 (μ 400) (μ 518) (wtF (μ 540) (μ 402 3) 0 0 (va_cpy (μ 530) (μ 519) 0 0 413) (0 + 0))) (some 400) (some 519) (some y) (jminI 200 (l2 - 1) - l3) 1 = some (v, WC μ z 519 (μ 400) N' X') → (if v = -1 then mX0_whenToGo_l22 g (E μ3 z) (some 400) l1 l2 (l3 + 1) else mX0_whenToGo_l22 g (E μ3 z) (some 400) l3 (l3 + v) (l3 + 1)) = ρ → mX0_whenToGo_l22 (g + 1) (E μ z) (some 400) l1 l2 l3 = ρ := by
      intro v ρ hv hρ
      show mX0_whenToGo_b22 _ _ _ _ _ _ = _
      unfold mX0_whenToGo_b22
      refine (if_neg (by rw [Int32.lt_iff_toInt_lt, h3]; show ¬ (60 : Int) < _; omega)).trans ?_
      refine bind_step (gR_400_13 554 (by omega) _ _) ?_
      refine bind_step (gR_400_8 554 (by omega) _ _) ?_
      refine bind_step (cal_E ec) ?_
      refine bind_step (gR_400_8 554 (by omega) _ _) ?_
      refine bind_step (recv_400 554 (by omega) _ _) ?_
      refine bind_step (cal_w y2) ?_
      refine bind_step (recv_400 554 (by omega) _ _) ?_
      refine bind_step (cal_E hv) ?_
      by_cases hc : v = -1
      · rw [if_pos hc] at hρ
        exact (if_pos hc).trans (p77 l1 l2 ρ hρ)
      · rw [if_neg hc] at hρ
        exact (if_neg hc).trans (p77 l3 (l3 + v) ρ hρ)
    cases hf : G w with
    | none =>
      obtain ⟨μ', e, hq⟩ := ih (w + 1) g l1 l2 (l3 + 1) s μ3 (by omega) (inc_I h3 (by omega)) (by omega) hc2 hY h2 hs1 hs
      refine ⟨μ', ?_, hq⟩
      rw [hf] at est
      rw [best_no hf]
      refine pre (-1) _ est ?_
      exact (if_pos rfl).trans e
    | some j =>
      have hb := hGb w j hf
      rw [hf] at est
      by_cases hj : j < s
      · have ev : stO 0 ((cutO (some j) (w + (s - 1 - w))).map (fun j => j - w)) = Int32.ofNat (j - w) := by
          show stO 0 ((if j ≤ w + (s - 1 - w) then some j else none).map (fun j => j - w)) = _
          rw [if_pos (by omega)]
          rfl
        have ejw : (Int32.ofNat (j - w)).toInt = ((j - w : Nat) : Int) := tI (by omega)
        have esum : (l3 + Int32.ofNat (j - w)).toInt = (j : Int) := by
          rw [addN h3 ejw (by omega)]
          omega
        obtain ⟨μ', e, hq⟩ := ih (w + 1) g l3 (l3 + Int32.ofNat (j - w)) (l3 + 1) j μ3 (by omega) (inc_I h3 (by omega)) (by omega) hc2 hY esum (by omega) (by omega)
        refine ⟨μ', ?_, hq⟩
        rw [best_lt hf hj, ← I_nat h3]
        rw [ev] at est
        refine pre (Int32.ofNat (j - w)) _ est ?_
        exact (if_neg (fun q => by rw [q, m1] at ejw; omega)).trans e
      · obtain ⟨μ', e, hq⟩ := ih (w + 1) g l1 l2 (l3 + 1) s μ3 (by omega) (inc_I h3 (by omega)) (by omega) hc2 hY h2 hs1 hs
        have ev : stO 0 ((cutO (some j) (w + (s - 1 - w))).map (fun j => j - w)) = -1 := by
          show stO 0 ((if j ≤ w + (s - 1 - w) then some j else none).map (fun j => j - w)) = _
          rw [if_neg (by omega)]
          rfl
        refine ⟨μ', ?_, hq⟩
        rw [best_ge hf hj]
        rw [ev] at est
        refine pre (-1) _ est ?_
        exact (if_pos rfl).trans e
theorem wait_M {μ0 : Mu} {z0 : Zt} {A0 : Nat → Int32} {t : Nat} {G : Nat → Option Nat} (hG : ∀ r, fsW (μ0 402 1) r (sqT μ0 r) 200 0 = G r) (hGb : ∀ w j, G w = some j → w < j ∧ j ≤ 200) (hT : TX TT μ0 z0) (ha : -1 ≤ (μ0 402 3).toInt ∧ (μ0 402 3).toInt < (μ0 402 2).toInt) (hg : Go t (μ0 403) A0) (hA4 : A0 4 = μ0 402 3) (hA2 : A0 2 = μ0 403 9) (hA1 : A0 1 = μ0 402 1) (h9 : t < 20000) (h25 : μ0 537 25 = 0) :
    ∀ (q r fu : Nat) (l1 l2 l3 : Int32) (s : Nat) (μ : Mu) (z : Zt), MFr μ0 z0 μ z → RgOk t A0 (μ 538) → 61 = r + q → l3.toInt = (r : Int) → q < fu → l2.toInt = lstM s → s ≤ 201 → ∃ μ' z', mX2_whenToGo_l8 fu (E μ z) (some 537) l1 l2 l3 = some (bestF G q r l1 s, E μ' z') ∧ MFr μ0 z0 μ' z' ∧ RgOk t A0 (μ' 538) := by
  intro q
  induction q with
  | zero =>
    intro r fu l1 l2 l3 s μ z hm hr hw hl hf h2 hs
    obtain ⟨g, rfl⟩ : ∃ g, fu = g + 1 := ⟨fu - 1, by omega⟩
    refine ⟨μ, z, ?_, hm, hr⟩
    show mX2_whenToGo_b8 _ _ _ _ _ _ = _
    unfold mX2_whenToGo_b8
    exact if_pos (by rw [Int32.lt_iff_toInt_lt, hl]; show (60 : Int) < _; omega)
  | succ q ih =>
    intro r fu l1 l2 l3 s μ z hm hr hw hl hf h2 hs
    obtain ⟨g, rfl⟩ : ∃ g, fu = g + 1 := ⟨fu - 1, by omega⟩
    have e402 : μ 402 = μ0 402 := hm.1 402 (by omega)
    have e540 : μ 540 = μ0 540 := hm.1 540 (by omega)
    have s540 : setM μ 546 (cpK 18 (μ 538) (μ 546)) 540 = μ0 540 := (setM_ne (by omega)).trans e540
    have s402 : setM μ 546 (cpK 18 (μ 538) (μ 546)) 402 = μ0 402 := (setM_ne (by omega)).trans e402
    have f25 : μ 537 25 = 0 := (hm.2.1 25 (by omega)).trans h25
    obtain ⟨F', A', N', T', V', k', em, w1, w2, w3⟩ := goneBy_E (μ := setM μ 546 (cpK 18 (μ 538) (μ 546))) (z := z) (t4 := μ0 402 3) (l2 := l3) (near := μ0 402 1) (calm := 0) (Xs := sqT μ0 r) (A0 := μ 538) (F := μ 537) (A := μ 538) (N := μ 543) (T := μ 545) (V := z.1 544) (t := t) (w := r) (by rw [s540]; exact fun _ => rfl) (TX_546 (TX_MFr hm hT)) (by rw [s402]; exact ha) (by rw [hr.1 1 (by omega)]; exact hA1) (by omega) (by omega) hl f25 (Ml_0 (Go_ring hg hr) (by rw [hr.1 4 (by omega)]; exact hA4) (by rw [hr.1 2 (by omega)]; exact hA2))
    rw [hG r] at em
    have hm1 : MFr μ0 z0 (fM (setM μ 546 (cpK 18 (μ 538) (μ 546))) (upd F' 25 0) (cpK 18 (setM μ 546 (cpK 18 (μ 538) (μ 546)) 546) A') N' T') (zM z V') := MFr_w hm (fun j hj => by
      by_cases h : j = 25
      · rw [h, upd_eq]; exact f25.symm
      · rw [upN h, w1 j (by omega) (by omega)])
    have hr1 : RgOk t A0 (cpK 18 (setM μ 546 (cpK 18 (μ 538) (μ 546)) 546) A') := RgOk.trans hr (w3.2.1.ok (by omega) (fun i hi => by rw [setM_same]; exact if_pos hi))
    have pre : ∀ (ρ : Option (Int32 × Wd)), (if gbO (G r) < l2 then mX2_whenToGo_l8 g (WM (setM μ 546 (cpK 18 (μ 538) (μ 546))) z (upd F' 25 0) (cpK 18 (setM μ 546 (cpK 18 (μ 538) (μ 546)) 546) A') N' T' V') (some 537) l3 (gbO (G r)) (l3 + 1) else mX2_whenToGo_l8 g (WM (setM μ 546 (cpK 18 (μ 538) (μ 546))) z (upd F' 25 0) (cpK 18 (setM μ 546 (cpK 18 (μ 538) (μ 546)) 546) A') N' T' V') (some 537) l1 l2 (l3 + 1)) = ρ → mX2_whenToGo_l8 (g + 1) (E μ z) (some 537) l1 l2 l3 = ρ := by
      intro ρ hρ
      show mX2_whenToGo_b8 _ _ _ _ _ _ = _
      unfold mX2_whenToGo_b8
      refine (if_neg (by rw [Int32.lt_iff_toInt_lt, hl]; show ¬ (60 : Int) < _; omega)).trans ?_
      rw [WM_0 μ z]
      refine bind_step (recv_537 554 (by omega) _ _) ?_
      refine bind_step (cal_E begin_E) ?_
      refine bind_step (recv_537 554 (by omega) _ _) ?_
      refine bind_step (calM em) ?_
      refine bind_step (recv_537 554 (by omega) _ _) ?_
      refine bind_step (cal_E putBack_E) ?_
      exact hρ
    cases hf9 : G r with
    | none =>
      obtain ⟨μ', z', e, p1, p2⟩ := ih (r + 1) g l1 l2 (l3 + 1) s _ _ hm1 hr1 (by omega) (inc_I hl (by omega)) (by omega) h2 hs
      refine ⟨μ', z', pre _ ?_, p1, p2⟩
      rw [best_no hf9, hf9]
      exact (if_neg (gb_no h2 hs)).trans e
    | some j =>
      have hb := hGb r j hf9
      have ej : (Int32.ofNat j).toInt = (j : Int) := tI (by omega)
      by_cases hj : j < s
      · obtain ⟨μ', z', e, p1, p2⟩ := ih (r + 1) g l3 (Int32.ofNat j) (l3 + 1) j _ _ hm1 hr1 (by omega) (inc_I hl (by omega)) (by omega) (by
          rw [ej]
          unfold lstM
          rw [if_neg (by omega)]) (by omega)
        refine ⟨μ', z', pre _ ?_, p1, p2⟩
        rw [best_lt hf9 hj, hf9, ← I_nat hl]
        exact (if_pos ((gb_lt h2 hs (by omega)).mpr (Or.inr hj))).trans e
      · obtain ⟨μ', z', e, p1, p2⟩ := ih (r + 1) g l1 l2 (l3 + 1) s _ _ hm1 hr1 (by omega) (inc_I hl (by omega)) (by omega) h2 hs
        refine ⟨μ', z', pre _ ?_, p1, p2⟩
        rw [best_ge hf9 hj, hf9]
        exact (if_neg (fun q => ((gb_lt h2 hs (by omega)).mp q).elim (fun q => by omega) hj)).trans e
theorem gTo_CQ {μ μ1 : Mu} (h : CQ μ μ1) : gTo μ1 = gTo μ := by
  funext r
  unfold gTo sqT
  rw [h.1 402 (by omega), h.1 540 (by omega), h.1 403 (by omega)]
theorem ow_whenToGo (L : Nat) (xs : Nat → Int32) : Ow_whenToGo (Inv (TX TT) L xs) := by
  intro n μ z hI
  obtain ⟨t, ht, ht9, hgo, hTc, hn1, h4, h2, hc7, hf25⟩ := Inv_q hI
  have hz := hI.2.2.2.1.2.1
  have ec := copy_E (p := 554) (μ := μ) (z := z) isI_403 isI_530 (by omega) (by omega) (by omega)
  have hc0 : CQ μ (setM μ 530 (va_cpy (μ 403) (μ 530) 0 0 413)) := CQ_set ⟨by omega, by omega⟩ (CQ.refl μ)
  obtain ⟨μ1, f1, hq⟩ := wait_C gTo_lim gTo_bd hTc hz (Go_Gc hgo) (by omega) hc7 61 0 FU (-1) 201 0 201 (setM μ 530 (va_cpy (μ 403) (μ 530) 0 0 413)) (by omega) rfl (by unfold FU; omega) hc0 (by
    rw [setM_same]
    exact fun j hj => cpy413 hj) rfl (by omega) (by omega)
  have hT1 := Tc_CFr (CQ_CFr (z := z) hq) hz hTc
  have e402 : μ1 402 = μ 402 := hq.1 402 (by omega)
  have e403 : μ1 403 = μ 403 := hq.1 403 (by omega)
  have e538 : μ1 538 = μ 538 := hq.1 538 (by omega)
  have e537 : μ1 537 = μ 537 := hq.1 537 (by omega)
  obtain ⟨μ2, z2, f2, p1, p2⟩ := wait_M (μ0 := μ1) (z0 := z) (A0 := μ 538) (t := t) (G := gTo μ1) (fun _ => rfl) gTo_bd hT1.2.1 hT1.2.2 (by rw [e403]; exact hgo) (by rw [e402]; exact h4) (by rw [e403]; exact h2) (by rw [e402]; exact hn1) (by omega) (by rw [e537]; exact hf25) 61 0 FU (-1) 100000000 0 201 μ1 z (MFr.refl _ _) (by rw [e538]; exact RgOk.refl _ _) (by omega) rfl (by unfold FU; omega) rfl (by omega)
  rw [gTo_CQ hq] at f2
  refine Agr_q hI ht (bestF (gTo μ) 61 0 (-1) 201) (μ1 := μ1) ?_ hq f2 p1 p2
  show mX0_whenToGo 400 (E μ z) = _
  unfold mX0_whenToGo
  refine bind_step (gR_400_0 554 (by omega) _ _) ?_
  refine bind_step (gR_401_1 554 (by omega) _ _) ?_
  refine bind_step (gR_400_13 554 (by omega) _ _) ?_
  refine bind_step (cal_E ec) ?_
  exact f1
