/-! ===== barred ===== -/
def bdF (b : Nat → Nat → Int32) (X : Nat → Int32) : Nat → Nat → Int32
  | 0, _ => 0
  | q + 1, i => if inB (X 0) (b i 0) (b i 1) = 0 then bdF b X q (i + 1) else if inB (X 8) (b i 2) (b i 3) = 0 then bdF b X q (i + 1) else 1
def brF (b : Nat → Nat → Int32) (nb : Nat) (Xs : Nat → Nat → Int32) : Nat → Nat → Int32
  | 0, _ => -1
  | d + 1, k => if bdF b (Xs (k + 1)) nb 0 = 0 then brF b nb Xs d (k + 1) else Int32.ofNat (k + 1)
theorem bd_congr {b : Nat → Nat → Int32} {X X' : Nat → Int32} (e : Eq4 X X') : ∀ q i, bdF b X' q i = bdF b X q i := by
  intro q
  induction q with
  | zero => intro i; rfl
  | succ q ih =>
    intro i
    unfold bdF
    rw [ih, e 0 (by omega), e 8 (by omega)]
theorem br_congr {b : Nat → Nat → Int32} {nb : Nat} {Xs Xs' : Nat → Nat → Int32} (e : ∀ k, Eq4 (Xs k) (Xs' k)) : ∀ d k, brF b nb Xs' d k = brF b nb Xs d k := by
  intro d
  induction d with
  | zero => intro k; rfl
  | succ d ih =>
    intro k
    unfold brF
    rw [ih, bd_congr (e (k + 1))]
theorem isBarred_C {μ : Mu} {z : Zt} {C N X : Nat → Int32} {nb : Nat} (hnb : (μ 402 6).toInt = (nb : Int)) (h4 : nb ≤ 4) : ∀ (q i fu : Nat) (l2 : Int32), nb = i + q → l2.toInt = (i : Int) → q < fu → mX0_isBarred_l2 fu (WC μ z 519 C N X) (some 400) (some 519) l2 = some (bdF (fun i => μ (423 + i)) X q i, WC μ z 519 C N X) := by
  have e402 : fC μ 519 C N X 402 = μ 402 := fC_o (by omega) (by omega) (by omega)
  intro q
  induction q with
  | zero =>
    intro i fu l2 hi hl hf
    obtain ⟨g, rfl⟩ : ∃ g, fu = g + 1 := ⟨fu - 1, by omega⟩
    show mX0_isBarred_b2 _ _ _ _ _ = _
    unfold mX0_isBarred_b2
    refine bind_step (gR_400_0 554 (by omega) _ _) ?_
    refine bind_step (gR_401_0 554 (by omega) _ _) ?_
    refine bind_step (ia_E (n := 6) isI_402 rfl (by omega)) ?_
    rw [e402]
    refine (if_pos (by rw [Int32.le_iff_toInt_le, hnb, hl]; omega)).trans ?_
    exact bind_step nok0 rfl
  | succ q ih =>
    intro i fu l2 hi hl hf
    obtain ⟨g, rfl⟩ : ∃ g, fu = g + 1 := ⟨fu - 1, by omega⟩
    have eb : fC μ 519 C N X (423 + i) = μ (423 + i) := fC_o (by omega) (by omega) (by omega)
    have nx := ih (i + 1) g (l2 + 1) (by omega) (inc_I hl (by omega)) (by omega)
    show mX0_isBarred_b2 _ _ _ _ _ = _
    unfold mX0_isBarred_b2 bdF
    refine bind_step (gR_400_0 554 (by omega) _ _) ?_
    refine bind_step (gR_401_0 554 (by omega) _ _) ?_
    refine bind_step (ia_E (n := 6) isI_402 rfl (by omega)) ?_
    rw [e402]
    refine (if_neg (by rw [Int32.le_iff_toInt_le, hnb, hl]; omega)).trans ?_
    refine bind_step (gR_400_0 554 (by omega) _ _) ?_
    refine bind_step (gR_401_4 554 (by omega) _ _) ?_
    refine bind_step (aa_E (n := i) isA_422 hl (by omega)) ?_
    refine bind_step (iaX (n := 0) okl_519 rfl (by omega)) ?_
    refine bind_step (ia_E (n := 0) (isI_423 i (by omega)) rfl (by omega)) ?_
    refine bind_step (ia_E (n := 1) (isI_423 i (by omega)) rfl (by omega)) ?_
    rw [eb]
    refine bind_step (cal_w (in_E _ _ _ _)) ?_
    by_cases c1 : inB (X 0) (μ (423 + i) 0) (μ (423 + i) 1) = 0
    · rw [if_pos c1, if_pos c1]
      exact nx
    · rw [if_neg c1, if_neg c1]
      refine bind_step (iaX (n := 8) okl_519 rfl (by omega)) ?_
      refine bind_step (ia_E (n := 2) (isI_423 i (by omega)) rfl (by omega)) ?_
      refine bind_step (ia_E (n := 3) (isI_423 i (by omega)) rfl (by omega)) ?_
      rw [eb]
      refine bind_step (cal_w (in_E _ _ _ _)) ?_
      by_cases c2 : inB (X 8) (μ (423 + i) 2) (μ (423 + i) 3) = 0
      · rw [if_pos c2, if_pos c2]
        exact nx
      · rw [if_neg c2, if_neg c2]
        exact bind_step nok1 rfl
theorem isBarred_M {μ : Mu} {z : Zt} {F A N T X : Nat → Int32} {V : Nat → Int64} {b : Nat → Nat → Int32} {nb : Nat} (hnb : (A 18).toInt = (nb : Int)) (h4 : nb ≤ 4) (hb : ∀ i, i < nb → ∀ j, j < 4 → A (9818 + 4 * i + j) = b i j) (hm : RM X A) : ∀ (q i fu : Nat) (l2 : Int32), nb = i + q → l2.toInt = (i : Int) → q < fu → mX2_isBarred_l2 fu (WM μ z F A N T V) (some 537) l2 = some (bdF b X q i, WM μ z F A N T V) := by
  intro q
  induction q with
  | zero =>
    intro i fu l2 hi hl hf
    obtain ⟨g, rfl⟩ : ∃ g, fu = g + 1 := ⟨fu - 1, by omega⟩
    show mX2_isBarred_b2 _ _ _ _ = _
    unfold mX2_isBarred_b2
    refine bind_step (gR_537_0 554 (by omega) _ _) ?_
    refine bind_step (iaA (n := 18) rfl (by omega)) ?_
    refine (if_pos (by rw [Int32.le_iff_toInt_le, hnb, hl]; omega)).trans ?_
    exact bind_step nok0 rfl
  | succ q ih =>
    intro i fu l2 hi hl hf
    obtain ⟨g, rfl⟩ : ∃ g, fu = g + 1 := ⟨fu - 1, by omega⟩
    have nx := ih (i + 1) g (l2 + 1) (by omega) (inc_I hl (by omega)) (by omega)
    have e0 : (9818 + 4 * l2).toInt = ((9818 + 4 * i : Nat) : Int) := addN (x := 9818) rfl (mulN (x := 4) rfl hl (by omega)) (by omega)
    have b0 := hb i (by omega) 0 (by omega)
    rw [Nat.add_zero] at b0
    have b1 := hb i (by omega) 1 (by omega)
    have b2 := hb i (by omega) 2 (by omega)
    have b3 := hb i (by omega) 3 (by omega)
    have m0 : A 8 = X 0 := hm 0 (by omega)
    have m8 : A 16 = X 8 := hm 8 (by omega)
    show mX2_isBarred_b2 _ _ _ _ = _
    unfold mX2_isBarred_b2 bdF
    refine bind_step (gR_537_0 554 (by omega) _ _) ?_
    refine bind_step (iaA (n := 18) rfl (by omega)) ?_
    refine (if_neg (by rw [Int32.le_iff_toInt_le, hnb, hl]; omega)).trans ?_
    refine bind_step (gR_537_0 554 (by omega) _ _) ?_
    refine bind_step (iaA (n := 8) rfl (by omega)) ?_
    refine bind_step (gR_537_0 554 (by omega) _ _) ?_
    refine bind_step (iaA (n := 9818 + 4 * i) e0 (by omega)) ?_
    refine bind_step (gR_537_0 554 (by omega) _ _) ?_
    refine bind_step (iaA (n := 9818 + 4 * i + 1) (addN e0 (y := 1) rfl (by omega)) (by omega)) ?_
    rw [b0, b1, m0]
    refine bind_step (cal_w (isIn_E _ _ _ _)) ?_
    by_cases c1 : inB (X 0) (b i 0) (b i 1) = 0
    · rw [if_pos c1, if_pos c1]
      exact nx
    · rw [if_neg c1, if_neg c1]
      refine bind_step (gR_537_0 554 (by omega) _ _) ?_
      refine bind_step (iaA (n := 16) rfl (by omega)) ?_
      refine bind_step (gR_537_0 554 (by omega) _ _) ?_
      refine bind_step (iaA (n := 9818 + 4 * i + 2) (addN e0 (y := 2) rfl (by omega)) (by omega)) ?_
      refine bind_step (gR_537_0 554 (by omega) _ _) ?_
      refine bind_step (iaA (n := 9818 + 4 * i + 3) (addN e0 (y := 3) rfl (by omega)) (by omega)) ?_
      rw [b2, b3, m8]
      refine bind_step (cal_w (isIn_E _ _ _ _)) ?_
      by_cases c2 : inB (X 8) (b i 2) (b i 3) = 0
      · rw [if_pos c2, if_pos c2]
        exact nx
      · rw [if_neg c2, if_neg c2]
        exact bind_step nok1 rfl
theorem barred_C {μ : Mu} {z : Zt} {h : Option Int32} {l1 l2 : Int32} {t n nb : Nat} (hT : Tc μ z) (hh : (l2 = 0 ∧ h = none) ∨ (¬ l2 = 0 ∧ h = some (μ 402 3))) (h0 : Gc t (tri μ)) (h9 : t + n < 900000) (h7 : μ 400 7 = 0) (h1 : l1.toInt = (n : Int)) (hn : n ≤ 200) (hnb : (μ 402 6).toInt = (nb : Int)) (h4 : nb ≤ 4) : ∀ (d k fu : Nat) (l3 : Int32) (N : Nat → Int32), n = k + d → l3.toInt = ((k + 1 : Nat) : Int) → d < fu →
    ∃ k' N', mX0_barred_l29 fu (WC μ z 519 (μ 400) N (itH (μ 540) (μ 402 3) 0 h (tri μ) k)) (some 400) l1 l2 l3 = some (brF (fun i => μ (423 + i)) nb (itH (μ 540) (μ 402 3) 0 h (tri μ)) d k, WC μ z 519 (μ 400) N' (itH (μ 540) (μ 402 3) 0 h (tri μ) k')) := by
  intro d
  induction d with
  | zero =>
    intro k fu l3 N hd h3 hf
    obtain ⟨g, rfl⟩ : ∃ g, fu = g + 1 := ⟨fu - 1, by omega⟩
    refine ⟨k, N, ?_⟩
    show mX0_barred_b29 _ _ _ _ _ _ = _
    unfold mX0_barred_b29
    exact if_pos (by rw [Int32.lt_iff_toInt_lt, h1, h3]; omega)
  | succ d ih =>
    intro k fu l3 N hd h3 hf
    obtain ⟨g, rfl⟩ : ∃ g, fu = g + 1 := ⟨fu - 1, by omega⟩
    have hg := Gc_it (tx := μ 540) (t4 := μ 402 3) (calm := 0) (h := h) h0 k (by omega)
    have hX1 : itH (μ 540) (μ 402 3) 0 h (tri μ) (k + 1) = tenF (μ 540) (μ 402 3) 0 (itH (μ 540) (μ 402 3) 0 h (tri μ) k) (cmH (μ 540) h (itH (μ 540) (μ 402 3) 0 h (tri μ) k)) := rfl
    have el : l3 = Int32.ofNat (k + 1) := I_nat h3
    have tail : ∀ N1, ∃ k' N', mX0_barred_p59 (mX0_barred_l29 g) (WC μ z 519 (μ 400) N1 (itH (μ 540) (μ 402 3) 0 h (tri μ) k)) (some 400) l1 l2 l3 (cmH (μ 540) h (itH (μ 540) (μ 402 3) 0 h (tri μ) k)) (some 519) (some 400) = some (brF (fun i => μ (423 + i)) nb (itH (μ 540) (μ 402 3) 0 h (tri μ)) (d + 1) k, WC μ z 519 (μ 400) N' (itH (μ 540) (μ 402 3) 0 h (tri μ) k')) := by
      intro N1
      obtain ⟨N2, e1⟩ := tenth_E (z := z) (C := μ 400) (N := N1) okl_519 hT hg.1 hg.2.2 (by omega) hg.2.1 (cmH_bd (tx := μ 540) (h := h) (X := itH (μ 540) (μ 402 3) 0 h (tri μ) k))
      rw [h7, ← hX1] at e1
      have eb := isBarred_C (μ := μ) (z := z) (C := μ 400) (N := N2) (X := itH (μ 540) (μ 402 3) 0 h (tri μ) (k + 1)) hnb h4 nb 0 FU 0 (by omega) rfl (by unfold FU; omega)
      unfold brF
      by_cases c : bdF (fun i => μ (423 + i)) (itH (μ 540) (μ 402 3) 0 h (tri μ) (k + 1)) nb 0 = 0
      · obtain ⟨k', N', e2⟩ := ih (k + 1) g (l3 + 1) N2 (by omega) (inc_I h3 (by omega)) (by omega)
        refine ⟨k', N', ?_⟩
        unfold mX0_barred_p59
        refine bind_step (recv_400 554 (by omega) _ _) ?_
        refine bind_step (cal_E e1) ?_
        refine bind_step (gR_400_8 554 (by omega) _ _) ?_
        refine bind_step (recv_400 554 (by omega) _ _) ?_
        refine bind_step (cal_w eb) ?_
        refine (if_pos c).trans ?_
        rw [if_pos c]
        exact e2
      · refine ⟨k + 1, N2, ?_⟩
        unfold mX0_barred_p59
        refine bind_step (recv_400 554 (by omega) _ _) ?_
        refine bind_step (cal_E e1) ?_
        refine bind_step (gR_400_8 554 (by omega) _ _) ?_
        refine bind_step (recv_400 554 (by omega) _ _) ?_
        refine bind_step (cal_w eb) ?_
        refine (if_neg c).trans ?_
        rw [if_neg c, el]
    rcases hh with ⟨c0, hn0⟩ | ⟨c0, hn0⟩
    · obtain ⟨k', N', e⟩ := tail N
      refine ⟨k', N', ?_⟩
      show mX0_barred_b29 _ _ _ _ _ _ = _
      unfold mX0_barred_b29
      refine (if_neg (by rw [Int32.lt_iff_toInt_lt, h1, h3]; omega)).trans ?_
      refine bind_step (gR_400_8 554 (by omega) _ _) ?_
      refine (if_pos c0).trans ?_
      subst hn0
      exact e
    · have hT2 := Tc_C (C := μ 400) (N := N) (X := itH (μ 540) (μ 402 3) 0 h (tri μ) k) okl_519 hT
      obtain ⟨y, y1, y2⟩ := rules_E hT2.2.1 hT2.2.2
      rw [fC_402 okl_519] at y1
      have y3 : txtOf μ z (μ 402 3) y := by
        unfold txtOf at y1 ⊢
        rw [fC_402 okl_519] at y1
        exact y1
      have eh := handOf_E (C := μ 400) (N := N) okl_519 hT y3 hg.1 hg.2.2 (by omega) hg.2.1
      obtain ⟨k', N', e⟩ := tail (nmA (t + k) (itH (μ 540) (μ 402 3) 0 h (tri μ) k) N)
      refine ⟨k', N', ?_⟩
      show mX0_barred_b29 _ _ _ _ _ _ = _
      unfold mX0_barred_b29
      refine (if_neg (by rw [Int32.lt_iff_toInt_lt, h1, h3]; omega)).trans ?_
      refine bind_step (gR_400_8 554 (by omega) _ _) ?_
      refine (if_neg c0).trans ?_
      refine bind_step (gR_400_8 554 (by omega) _ _) ?_
      refine bind_step (recv_400 554 (by omega) _ _) ?_
      refine bind_step (cal_w y2) ?_
      refine bind_step (recv_400 554 (by omega) _ _) ?_
      refine bind_step (cal_E eh) ?_
      subst hn0
      exact e
theorem barred_M {μ : Mu} {z : Zt} {t4 l1 l2 : Int32} {h : Option Int32} {Xs : Nat → Nat → Int32} {A0 : Nat → Int32} {b : Nat → Nat → Int32} {t n nb : Nat} (hXs : ∀ k, Xs (k + 1) = tenF (μ 540) t4 0 (Xs k) (cmH (μ 540) h (Xs k))) (hh : (l2 = 0 ∧ h = none) ∨ (¬ l2 = 0 ∧ h = some t4)) (hT : TX TT μ z) (ha : -1 ≤ t4.toInt ∧ t4.toInt < (μ 402 2).toInt) (h46 : ∀ i, i < 18 → μ 546 i = A0 i) (h9 : t + n < 900000) (hn : n ≤ 200) (h1 : l1.toInt = (n : Int)) (hnb : (A0 18).toInt = (nb : Int)) (h4 : nb ≤ 4) (hb : ∀ i, i < nb → ∀ j, j < 4 → A0 (9818 + 4 * i + j) = b i j) :
    ∀ (d k fu : Nat) (l4 : Int32) (F A N T : Nat → Int32) (V : Nat → Int64), n = k + d → l4.toInt = ((k + 1 : Nat) : Int) → d < fu → F 25 = 0 → Ml t k μ t4 A0 (Xs k) A 0 →
    ∃ F' A' N' T' V', mX2_barred_l22 fu (WM μ z F A N T V) (some 537) l1 l2 (-1) l4 = some (brF b nb Xs d k, WM μ z F' A' N' T' V') ∧ (∀ i, i ≠ 21 → i ≠ 22 → F' i = F i) ∧ RgOk t A0 A' := by
  have p71 : ∀ {F A N T : Nat → Int32} {V : Nat → Int64} {v : Int32}, F 25 = 0 → mX2_barred_p71 (WM μ z F A N T V) (some 537) v = some (v, WM μ z F (cpK 18 (μ 546) A) N T V) := by
    intro F A N T V v h25
    unfold mX2_barred_p71
    refine bind_step (recv_537 554 (by omega) _ _) ?_
    refine bind_step (cal_E putBack_E) ?_
    rw [F25 h25]
  intro d
  induction d with
  | zero =>
    intro k fu l4 F A N T V hd h4' hf h25 hm
    obtain ⟨g, rfl⟩ : ∃ g, fu = g + 1 := ⟨fu - 1, by omega⟩
    refine ⟨F, cpK 18 (μ 546) A, N, T, V, ?_, fun _ _ _ => rfl, hm.2.1.ok (by omega) h46⟩
    show mX2_barred_b22 _ _ _ _ _ _ _ = _
    unfold mX2_barred_b22
    refine (if_pos (by rw [Int32.lt_iff_toInt_lt, h1, h4']; omega)).trans ?_
    exact p71 h25
  | succ d ih =>
    intro k fu l4 F A N T V hd h4' hf h25 hm
    obtain ⟨g, rfl⟩ : ∃ g, fu = g + 1 := ⟨fu - 1, by omega⟩
    have h4n := inc_I h4' (by omega)
    have el : l4 = Int32.ofNat (k + 1) := I_nat h4'
    have ne4 : ¬ l4 = -1 := fun q => by
      rw [q] at h4'
      have : (-1 : Int32).toInt = -1 := rfl
      omega
    have tail : ∀ F1 N1 T1 V1, (∀ i, i ≠ 21 → i ≠ 22 → F1 i = F i) → ∃ F' A' N' T' V', mX2_barred_p52 (mX2_barred_l22 g) (WM μ z F1 A N1 T1 V1) (some 537) l1 l2 (-1) l4 (cmH (μ 540) h (Xs k)) (some 537) = some (brF b nb Xs (d + 1) k, WM μ z F' A' N' T' V') ∧ (∀ i, i ≠ 21 → i ≠ 22 → F' i = F i) ∧ RgOk t A0 A' := by
      intro F1 N1 T1 V1 hF1
      obtain ⟨F2, A2, N2, T2, V2, e2, x1, x2⟩ := Ml_pass (F := F1) (N := N1) (T := T1) (V := V1) (c := cmH (μ 540) h (Xs k)) hT ha (by omega) (by rw [hF1 25 (by omega) (by omega)]; exact h25) hm
      rw [← hXs k] at x2
      have f2 : ∀ i, i ≠ 21 → i ≠ 22 → F2 i = F i := fun i i1 i2 => (x1 i i1 i2).trans (hF1 i i1 i2)
      have eo : ∀ i, (i = 18 ∨ 9818 ≤ i) → A2 i = A0 i := fun i hi => x2.2.1 i (by omega) (by omega) (fun u _ _ => by have := Nat.mod_lt u (show 0 < 1536 by omega); omega)
      have ebr := isBarred_M (μ := μ) (z := z) (F := F2) (A := A2) (N := N2) (T := T2) (V := V2) (X := Xs (k + 1)) (b := b) (nb := nb) (by rw [eo 18 (by omega)]; exact hnb) h4 (fun i hi j hj => by rw [eo _ (by omega)]; exact hb i hi j hj) x2.1.2.1 nb 0 FU 0 (by omega) rfl (by unfold FU; omega)
      unfold brF
      by_cases c : bdF b (Xs (k + 1)) nb 0 = 0
      · obtain ⟨F', A', N', T', V', e, w1, w2⟩ := ih (k + 1) g (l4 + 1) F2 A2 N2 T2 V2 (by omega) h4n (by omega) (by rw [f2 25 (by omega) (by omega)]; exact h25) x2
        refine ⟨F', A', N', T', V', ?_, fun i i1 i2 => (w1 i i1 i2).trans (f2 i i1 i2), w2⟩
        unfold mX2_barred_p52
        refine bind_step (recv_537 554 (by omega) _ _) ?_
        refine bind_step (calM e2) ?_
        refine bind_step (recv_537 554 (by omega) _ _) ?_
        refine bind_step (cal_w ebr) ?_
        refine (if_pos c).trans ?_
        rw [if_pos c]
        exact e
      · obtain ⟨g2, rfl⟩ : ∃ g2, g = g2 + 1 := ⟨g - 1, by omega⟩
        have h25' : F2 25 = 0 := by rw [f2 25 (by omega) (by omega)]; exact h25
        refine ⟨F2, cpK 18 (μ 546) A2, N2, T2, V2, ?_, f2, x2.2.1.ok (by omega) h46⟩
        unfold mX2_barred_p52
        refine bind_step (recv_537 554 (by omega) _ _) ?_
        refine bind_step (calM e2) ?_
        refine bind_step (recv_537 554 (by omega) _ _) ?_
        refine bind_step (cal_w ebr) ?_
        refine (if_neg c).trans ?_
        rw [if_neg c, ← el]
        show mX2_barred_b22 _ _ _ _ _ _ _ = _
        unfold mX2_barred_b22
        by_cases c4 : l1 < l4 + 1
        · refine (if_pos c4).trans ?_
          exact p71 h25'
        · refine (if_neg c4).trans ?_
          refine (if_pos ne4).trans ?_
          exact p71 h25'
    rcases hh with ⟨c0, hn0⟩ | ⟨c0, hn0⟩
    · obtain ⟨F', A', N', T', V', e, q⟩ := tail F N T V (fun _ _ _ => rfl)
      refine ⟨F', A', N', T', V', ?_, q⟩
      show mX2_barred_b22 _ _ _ _ _ _ _ = _
      unfold mX2_barred_b22
      refine (if_neg (by rw [Int32.lt_iff_toInt_lt, h1, h4']; omega)).trans ?_
      refine (if_neg (fun q => q rfl)).trans ?_
      refine (if_pos c0).trans ?_
      subst hn0
      exact e
    · obtain ⟨T1, V1, e1⟩ := Ml_hand (F := F) (N := N) (T := T) (V := V) (a := t4) hT ha (by omega) hm
      obtain ⟨F', A', N', T', V', e, q⟩ := tail (fNow F A) (nmM A N) T1 V1 (fun i i1 i2 => fNow_o i1 i2)
      refine ⟨F', A', N', T', V', ?_, q⟩
      have a4 : A 4 = t4 := (hm.2.1 4 (by omega) (by omega) (fun u _ _ => by omega)).trans hm.2.2.1
      show mX2_barred_b22 _ _ _ _ _ _ _ = _
      unfold mX2_barred_b22
      refine (if_neg (by rw [Int32.lt_iff_toInt_lt, h1, h4']; omega)).trans ?_
      refine (if_neg (fun q => q rfl)).trans ?_
      refine (if_neg c0).trans ?_
      refine bind_step (gR_537_0 554 (by omega) _ _) ?_
      refine bind_step (iaA (n := 4) rfl (by omega)) ?_
      rw [a4]
      refine bind_step (recv_537 554 (by omega) _ _) ?_
      refine bind_step (calM e1) ?_
      subst hn0
      exact e
theorem ow_barred (L : Nat) (xs : Nat → Int32) : Ow_barred (Inv (TX TT) L xs) := by
  intro n μ z a c hb hI
  obtain ⟨t, ht, ht9, hgo, hTc, hn1, h4, h2, hc7, hf25⟩ := Inv_q hI
  rcases inB_01 a 1 200 with hin | hin
  · refine Agr_ro hI (-1) ?_ ?_
    · show mX0_barred 400 a c (E μ z) = _
      unfold mX0_barred
      refine bind_step (cal_w (in_E _ _ _ _)) ?_
      exact if_neg (fun q => q hin)
    · show mX2_barred 537 a c (E μ z) = _
      unfold mX2_barred
      refine bind_step (cal_w (isIn_E _ _ _ _)) ?_
      exact if_neg (fun q => q hin)
  · have hn : ¬ inB a 1 200 = 0 := by rw [hin]; exact one_ne
    have ba := inB_bd.mp hin
    have c1 : (1 : Int32).toInt = 1 := rfl
    have c200 : (200 : Int32).toInt = 200 := rfl
    obtain ⟨d, hd⟩ : ∃ d : Nat, a.toInt = (d : Int) := ⟨a.toInt.toNat, by have := ba.1; omega⟩
    have hd200 : d ≤ 200 := by have := ba.2; omega
    obtain ⟨h, hh⟩ : ∃ h, (c = 0 ∧ h = none) ∨ (¬ c = 0 ∧ h = some (μ 402 3)) := by
      by_cases hc : c = 0
      · exact ⟨none, Or.inl ⟨hc, rfl⟩⟩
      · exact ⟨some (μ 402 3), Or.inr ⟨hc, rfl⟩⟩
    have b6 : bd (μ 402 6) 0 4 := hI.1.1.2.2.2.2.2.2.2
    obtain ⟨nb, hnb⟩ : ∃ nb : Nat, (μ 402 6).toInt = (nb : Int) := ⟨(μ 402 6).toInt.toNat, by have := b6.1; omega⟩
    have hnb4 : nb ≤ 4 := by
      have h64 := b6.2
      omega
    obtain ⟨k', N', e1⟩ := barred_C (z := z) (h := h) (l1 := a) (l2 := c) hTc hh (Gc_tri (Go_Gc hgo)) (show t + d < 900000 by omega) hc7 hd hd200 hnb hnb4 d 0 FU 1 (μ 518) (by omega) rfl (by unfold FU; omega)
    have ec := it_congr (tx := μ 540) (t4 := μ 402 3) (calm := 0) (h := h) (tri_4 μ)
    rw [br_congr ec] at e1
    change _ = some (_, E (fC μ 519 (μ 400) N' (itH (μ 540) (μ 402 3) 0 h (tri μ) k')) z) at e1
    have q1 : CQ μ (fC μ 519 (μ 400) N' (itH (μ 540) (μ 402 3) 0 h (tri μ) k')) := CQ_C ⟨by omega, by omega⟩ (fun j hj => rfl) (CQ.refl μ)
    generalize fC μ 519 (μ 400) N' (itH (μ 540) (μ 402 3) 0 h (tri μ) k') = μ1 at e1 q1
    have e402 := q1.1 402 (by omega)
    have e538 := q1.1 538 (by omega)
    have e537 := q1.1 537 (by omega)
    have e540 := q1.1 540 (by omega)
    have hT1 : Tc μ1 z := Tc_CFr (CQ_CFr (z := z) q1) hI.2.2.2.1.2.1 hTc
    have s540 : setM μ1 546 (cpK 18 (μ 538) (μ1 546)) 540 = μ 540 := (setM_ne (by omega)).trans e540
    have s402 : setM μ1 546 (cpK 18 (μ 538) (μ1 546)) 402 = μ 402 := (setM_ne (by omega)).trans e402
    have a18 : μ 538 18 = μ 402 6 := hI.1.1.1.2.2.2.2.2.2
    have p4 := hI.1.2.2.2.1
    obtain ⟨F', A', N2, T', V', em, x1, x2⟩ := barred_M (μ := setM μ1 546 (cpK 18 (μ 538) (μ1 546))) (z := z) (t4 := μ 402 3) (l1 := a) (l2 := c) (h := h) (Xs := sqH μ 0 h) (A0 := μ 538) (b := fun i => μ (423 + i)) (t := t) (n := d) (nb := nb) (by rw [s540]; exact fun _ => rfl) hh (TX_546 hT1.2.1) (by rw [s402]; exact hTc.2.2) (fun i hi => by rw [setM_same]; exact if_pos hi) (by omega) hd200 hd (by rw [a18]; exact hnb) hnb4 (fun i hi j hj => by rw [p4 i (by show (i : Int) < (μ 402 6).toInt; omega) j hj]; exact congrFun (fam_at (by omega)) j) d 0 FU 1 (μ 537) (μ 538) (μ1 543) (μ1 545) (z.1 544) (by omega) rfl (by unfold FU; omega) hf25 (Ml_0 hgo h4 h2)
    have hmf : MFr μ1 z (fM (setM μ1 546 (cpK 18 (μ 538) (μ1 546))) F' A' N2 T') (zM z V') := MFr_546 (fun j hj => by rw [x1 j (by omega) (by omega), e537])
    refine Agr_q hI ht (brF (fun i => μ (423 + i)) nb (sqH μ 0 h) d 0) ?_ q1 ?_ hmf x2
    · show mX0_barred 400 a c (E μ z) = _
      have ecp := copy_E (p := 554) (μ := μ) (z := z) isI_403 isI_519 (by omega) (by omega) (by omega)
      rw [setM_fC okl_519] at ecp
      unfold mX0_barred
      refine bind_step (cal_w (in_E _ _ _ _)) ?_
      refine (if_pos hn).trans ?_
      refine bind_step (gR_400_0 554 (by omega) _ _) ?_
      refine bind_step (gR_401_1 554 (by omega) _ _) ?_
      refine bind_step (gR_400_8 554 (by omega) _ _) ?_
      refine bind_step (cal_E ecp) ?_
      exact e1
    · show mX2_barred 537 a c (E μ1 z) = _
      rw [WM_0, e537, e538]
      unfold mX2_barred
      refine bind_step (cal_w (isIn_E _ _ _ _)) ?_
      refine (if_pos hn).trans ?_
      refine bind_step (recv_537 554 (by omega) _ _) ?_
      refine bind_step (cal_E begin_E) ?_
      exact em
