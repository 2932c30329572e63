/-! ===== whose hand: the commands that are kept against a text's hand ===== -/
/-- the names of a tenth that is kept, with the rope and the weight of now -/
def nvW (X : Nat → Int32) (u : Nat) : Nat → Int32 := fun j => if j < 5 then X (53 + 6 * (u % 60) + j) else if j = 5 then X 4 else X 5
def whC (tx : Nat → Int32) (a : Int32) (X : Nat → Int32) (f u : Nat) : Int32 := cmdF tx a (nvW X u) (agX u f X)
def whF (X : Nat → Int32) (c : Nat → Int32) : Nat → Nat → Int32
  | 0, _ => 1
  | d + 1, u => if c u = X (53 + 6 * (u % 60) + 5) then whF X c d (u + 1) else 0
theorem slot_bd {X A : Nat → Int32} {t u j : Nat} (hh : HR X A) (ht : (X 8).toInt = (t : Int)) (h2 : u < t) (h3 : t ≤ u + 60) (hj : j < 5) : bd (X (53 + 6 * (u % 60) + j)) (-1000000) 1000000 := by
  obtain ⟨-, b0, b1, b2, b3, b4, -⟩ := hh u (by omega) (by omega)
  match j, hj with
  | 0, _ => exact bd_w b0 (by omega) (by omega)
  | 1, _ =>
    rw [show 53 + 6 * (u % 60) + 1 = 54 + 6 * (u % 60) by omega]
    exact bd_w b1 (by omega) (by omega)
  | 2, _ =>
    rw [show 53 + 6 * (u % 60) + 2 = 55 + 6 * (u % 60) by omega]
    exact bd_w b2 (by omega) (by omega)
  | 3, _ =>
    rw [show 53 + 6 * (u % 60) + 3 = 56 + 6 * (u % 60) by omega]
    exact bd_w b3 (by omega) (by omega)
  | 4, _ =>
    rw [show 53 + 6 * (u % 60) + 4 = 57 + 6 * (u % 60) by omega]
    exact bd_w b4 (by omega) (by omega)
theorem kind_W {t u f : Nat} {X A N : Nat → Int32} (hr : RBw X) (hh : HR X A) (ht : (X 8).toInt = (t : Int)) (hf : f = t - 60) (h1 : f ≤ u) (h2 : u < t) (h5 : N 5 = X 4) (h6 : N 6 = X 5) : kindOk 2 (agF u f X (va_cpy X N (53 + 6 * (u % 60)) 0 5)) (nvW X u) (agX u f X) := by
  refine ⟨fun j hj => ?_, fun _ q j q1 q2 q3 => ?_⟩
  · have hj7 : j < 7 := by
      rcases hj with hj | hj | hj <;> omega
    have e : agF u f X (va_cpy X N (53 + 6 * (u % 60)) 0 5) j = nvW X u j := by
      show agP 9 u f X (va_cpy X N (53 + 6 * (u % 60)) 0 5) j = _
      unfold agP
      rw [if_neg (by omega)]
      unfold va_cpy nvW
      by_cases j5 : j < 5
      · rw [if_pos (by omega), if_pos j5, Nat.sub_zero]
      · rw [if_neg (by omega), if_neg j5]
        by_cases e5 : j = 5
        · rw [if_pos e5, e5, h5]
        · rw [if_neg e5, show j = 6 by omega, h6]
    rw [e]
    refine ⟨rfl, ?_⟩
    unfold nvW
    by_cases j5 : j < 5
    · rw [if_pos j5]
      exact slot_bd hh ht h2 (by omega) j5
    · rw [if_neg j5]
      obtain ⟨-, -, -, -, r4, r5, -⟩ := hr
      by_cases e5 : j = 5
      · rw [if_pos e5]
        exact bd_w r4 (by omega) (by omega)
      · rw [if_neg e5]
        exact bd_w r5 (by omega) (by omega)
  · have e : agF u f X (va_cpy X N (53 + 6 * (u % 60)) 0 5) (3 + 5 * q + j) = agX u f X q j := by
      show agP 9 u f X (va_cpy X N (53 + 6 * (u % 60)) 0 5) (3 + 5 * q + j) = _
      unfold agP agX
      rw [if_pos (by omega), show (3 + 5 * q + j - 8) / 5 + 1 = q by omega, show (3 + 5 * q + j - 8) % 5 = j by omega]
      by_cases hc : f + q ≤ u
      · rw [if_pos hc, if_pos ⟨hc, q3⟩]
      · rw [if_neg hc, if_neg (fun w => hc w.1)]
    rw [e]
    refine ⟨rfl, ?_⟩
    unfold agX
    by_cases hc : f + q ≤ u ∧ j < 5
    · rw [if_pos hc]
      exact slot_bd hh ht (by omega) (by omega) q3
    · rw [if_neg hc]
      exact bd0
theorem WC_0 (μ : Mu) (z : Zt) (l : Nat) : WC μ z l (μ 400) (μ 518) (μ l) = E μ z := congrArg (fun m => E m z) (fC_0 μ l)
section WC89q
variable {μ : Mu} {z : Zt} {C X A : Nat → Int32}
theorem isHand_loop {l3 t9 : Int32} {y t f : Nat} (hT : Tc μ z) (hy : txtOf μ z t9 y) (hr : RBw X) (hh : HR X A) (ht : (X 8).toInt = (t : Int)) (h9 : t < 100000) (hf : f = t - 60) (h3 : l3.toInt = (f : Int)) : ∀ (d u fu : Nat) (l4 : Int32) (N : Nat → Int32), t = u + d → f ≤ u → l4.toInt = (u : Int) → d < fu → N 5 = X 4 → N 6 = X 5 →
    ∃ N', mX0_isHand_l35 fu (WC μ z 403 C N X) (some 400) (some y) (some 403) l3 l4 = some (whF X (whC (μ 540) t9 X f) d u, WC μ z 403 C N' X) := by
  intro d
  induction d with
  | zero =>
    intro u fu l4 N hd hfu h4 hg h5 h6
    obtain ⟨g, rfl⟩ : ∃ g, fu = g + 1 := ⟨fu - 1, by omega⟩
    refine ⟨N, ?_⟩
    show mX0_isHand_b35 _ _ _ _ _ _ _ = _
    unfold mX0_isHand_b35
    refine bind_step (iaX (n := 8) okl_403 rfl (by omega)) ?_
    refine (if_pos (by rw [Int32.le_iff_toInt_le, ht, h4]; omega)).trans ?_
    exact bind_step nok1 rfl
  | succ d ih =>
    intro u fu l4 N hd hfu h4 hg h5 h6
    obtain ⟨g, rfl⟩ : ∃ g, fu = g + 1 := ⟨fu - 1, by omega⟩
    have s60 := sixty u
    obtain ⟨r, r1, r2⟩ := tenthAt_E (t := u) (T := l4) (w := WC μ z 403 C N X) h4 (by omega)
    have k := kind_W (N := N) hr hh ht hf hfu (by omega) h5 h6
    obtain ⟨r', r1', r2'⟩ := tenthAt_E (t := u) (T := l4) (w := WC μ z 403 C (agF u f X (va_cpy X N (53 + 6 * (u % 60)) 0 5)) X) h4 (by omega)
    have hi : (r' + 5).toInt = ((53 + 6 * (u % 60) + 5 : Nat) : Int) := addN r2' (y := 5) rfl (by omega)
    have pre : ∀ ρ : Option (Int32 × Wd), (if whC (μ 540) t9 X f u = X (53 + 6 * (u % 60) + 5) then mX0_isHand_l35 g (WC μ z 403 C (agF u f X (va_cpy X N (53 + 6 * (u % 60)) 0 5)) X) (some 400) (some y) (some 403) l3 (l4 + 1) else some (0, WC μ z 403 C (agF u f X (va_cpy X N (53 + 6 * (u % 60)) 0 5)) X)) = ρ → mX0_isHand_l35 (g + 1) (WC μ z 403 C N X) (some 400) (some y) (some 403) l3 l4 = ρ := by
      intro ρ hρ
      show mX0_isHand_b35 _ _ _ _ _ _ _ = _
      unfold mX0_isHand_b35
      refine bind_step (iaX (n := 8) okl_403 rfl (by omega)) ?_
      refine (if_neg (by rw [Int32.le_iff_toInt_le, ht, h4]; omega)).trans ?_
      refine bind_step (cal_w r1) ?_
      refine bind_step (gR_400_6 554 (by omega) _ _) ?_
      refine bind_step (acpXN (n := 5) okl_403 r2 (p' := 0) rfl rfl (by omega) (by omega)) ?_
      refine bind_step (recv_400 554 (by omega) _ _) ?_
      refine bind_step (cal_E (namesAgo_E okl_403 h4 h3 (by omega) (by omega))) ?_
      refine bind_step (recv_400 554 (by omega) _ _) ?_
      refine bind_step (cal_w (commandByW okl_403 hT hy k)) ?_
      refine bind_step (cal_w r1') ?_
      refine bind_step (iaX (n := 53 + 6 * (u % 60) + 5) okl_403 hi (by omega)) ?_
      by_cases c : whC (μ 540) t9 X f u = X (53 + 6 * (u % 60) + 5)
      · rw [if_pos c] at hρ
        exact (if_pos c).trans hρ
      · rw [if_neg c] at hρ
        refine (if_neg c).trans ?_
        exact bind_step nok0 hρ
    unfold whF
    by_cases c : whC (μ 540) t9 X f u = X (53 + 6 * (u % 60) + 5)
    · obtain ⟨N', e⟩ := ih (u + 1) g (l4 + 1) (agF u f X (va_cpy X N (53 + 6 * (u % 60)) 0 5)) (by omega) (by omega) (inc_I h4 (by omega)) (by omega) (by
        show agP 9 u f X _ 5 = _
        unfold agP va_cpy
        rw [if_neg (by omega), if_neg (by omega)]
        exact h5) (by
        show agP 9 u f X _ 6 = _
        unfold agP va_cpy
        rw [if_neg (by omega), if_neg (by omega)]
        exact h6)
      refine ⟨N', pre _ ?_⟩
      rw [if_pos c, if_pos c]
      exact e
    · refine ⟨agF u f X (va_cpy X N (53 + 6 * (u % 60)) 0 5), pre _ ?_⟩
      rw [if_neg c, if_neg c]
theorem isHand_E {t9 : Int32} {y t : Nat} {N : Nat → Int32} (hT : Tc μ z) (hy : txtOf μ z t9 y) (hr : RBw X) (hh : HR X A) (ht : (X 8).toInt = (t : Int)) (h9 : t < 100000) : ∃ N', mX0_isHand 400 (some y) (WC μ z 403 C N X) = some (whF X (whC (μ 540) t9 X (t - 60)) (t - (t - 60)) (t - 60), WC μ z 403 C N' X) := by
  have h3 : (jmaxI 0 (X 8 - 60)).toInt = ((t - 60 : Nat) : Int) := max60 ht (by omega)
  obtain ⟨N', e⟩ := isHand_loop (C := C) (l3 := jmaxI 0 (X 8 - 60)) hT hy hr hh ht h9 rfl h3 (t - (t - 60)) (t - 60) FU (jmaxI 0 (X 8 - 60)) (upd (upd N 5 (X 4)) 6 (X 5)) (by omega) (by omega) h3 (by unfold FU; omega) (by rw [upN (by omega)]; exact upd_eq) upd_eq
  refine ⟨N', ?_⟩
  unfold mX0_isHand
  refine bind_step (gR_400_0 554 (by omega) _ _) ?_
  refine bind_step (gR_401_1 554 (by omega) _ _) ?_
  refine bind_step (cal_w (firstKept_X okl_403)) ?_
  refine bind_step (gR_400_6 554 (by omega) _ _) ?_
  refine bind_step (iaX (n := 4) okl_403 rfl (by omega)) ?_
  refine bind_step (iasN (n := 5) rfl (by omega)) ?_
  refine bind_step (gR_400_6 554 (by omega) _ _) ?_
  refine bind_step (iaX (n := 5) okl_403 rfl (by omega)) ?_
  refine bind_step (iasN (n := 6) rfl (by omega)) ?_
  exact e
end WC89q
/-! the model -/
section WM89q
variable {μ : Mu} {z : Zt} {X A : Nat → Int32}
/-- the first k names of a tenth that is kept -/
def mnK (k u : Nat) (A N : Nat → Int32) : Nat → Int32 := fun j => if j < k then A (602 + 6 * (u % 1536) + j) else N j
theorem kind_WM {t u f : Nat} {N : Nat → Int32} (hr : RBw X) (hm : RM X A) (hh : HR X A) (ht : (X 8).toInt = (t : Int)) (hf : f = t - 60) (h1 : f ≤ u) (h2 : u < t) (h5 : N 5 = A 12) (h6 : N 6 = A 13) : kindOk 2 (agF u f X (va_cpy X (fun j => if j = 5 then X 4 else X 5) (53 + 6 * (u % 60)) 0 5)) (mnK 5 u A N) (agM u f A) := by
  obtain ⟨k1, k2⟩ := kind_W (N := fun j => if j = 5 then X 4 else X 5) hr hh ht hf h1 h2 rfl rfl
  refine ⟨fun j hj => ?_, fun h3 q j q1 q2 q3 => ?_⟩
  · obtain ⟨e1, e2⟩ := k1 j hj
    have hj7 : j < 7 := by
      rcases hj with hj | hj | hj <;> omega
    refine ⟨e1.trans ?_, e2⟩
    unfold nvW mnK
    by_cases j5 : j < 5
    · rw [if_pos j5, if_pos j5]
      exact ((hh u (by omega) (by omega)).1 j (by omega)).symm
    · rw [if_neg j5, if_neg j5]
      by_cases e5 : j = 5
      · rw [if_pos e5, e5, h5]
        exact (hm 4 (by omega)).symm
      · rw [if_neg e5, show j = 6 by omega, h6]
        exact (hm 5 (by omega)).symm
  · obtain ⟨e1, e2⟩ := k2 h3 q j q1 q2 q3
    refine ⟨e1.trans ?_, e2⟩
    unfold agX agM
    by_cases hc : f + q ≤ u
    · rw [if_pos ⟨hc, q3⟩, if_pos hc]
      exact ((hh (u - q) (by omega) (by omega)).1 j (by omega)).symm
    · rw [if_neg (fun w => hc w.1), if_neg hc]
theorem isHandOf_names {F N T : Nat → Int32} {V : Nat → Int64} {l1 l2 : Int32} {u : Nat} {k48 : Wd → Option Nat → Int32 → Int32 → Option (Int32 × Wd)} {ρ : Option (Int32 × Wd)} (h2 : l2.toInt = (u : Int)) (hu : u < 100000) (h : ∀ g, mX2_isHandOf_b61 k48 (mX2_isHandOf_l61 k48 g) (WM μ z F A (mnK 5 u A N) T V) (some 537) l1 l2 5 = ρ) : ∀ (d k fu : Nat) (l3 : Int32), 5 = k + d → l3.toInt = (k : Int) → d < fu → mX2_isHandOf_l61 k48 fu (WM μ z F A (mnK k u A N) T V) (some 537) l1 l2 l3 = ρ := by
  intro d
  induction d with
  | zero =>
    intro k fu l3 hd hl hf
    obtain ⟨g, rfl⟩ : ∃ g, fu = g + 1 := ⟨fu - 1, by omega⟩
    have hk : k = 5 := by omega
    subst hk
    rw [show l3 = 5 from I32_eq (hl.trans rfl)]
    exact h g
  | succ d ih =>
    intro k fu l3 hd hl hf
    obtain ⟨g, rfl⟩ : ∃ g, fu = g + 1 := ⟨fu - 1, by omega⟩
    show mX2_isHandOf_b61 _ _ _ _ _ _ _ = _
    unfold mX2_isHandOf_b61
    refine (if_neg (by rw [Int32.le_iff_toInt_le, hl]; show ¬ (5 : Int) ≤ _; omega)).trans ?_
    refine bind_step (gR_537_20 554 (by omega) _ _) ?_
    refine bind_step (recv_537 554 (by omega) _ _) ?_
    refine bind_step (cal_w (pastOf_E h2 hl (by omega) (by omega))) ?_
    refine bind_step (iasNm (n := k) hl (by omega)) ?_
    have e : upd (mnK k u A N) k (A (602 + 6 * (u % 1536) + k)) = mnK (k + 1) u A N := by
      funext i
      unfold upd mnK
      by_cases hi : i = k
      · rw [if_pos hi, if_pos (by omega), hi]
      · rw [if_neg hi]
        by_cases h9 : i < k
        · rw [if_pos h9, if_pos (by omega)]
        · rw [if_neg h9, if_neg (by omega)]
    rw [e]
    exact ih (k + 1) g (l3 + 1) (by omega) (inc_I hl (by omega)) (by omega)
theorem isHandOf_loop {a : Int32} {t f : Nat} (hT : TX TT μ z) (ha : -1 ≤ a.toInt ∧ a.toInt < (μ 402 2).toInt) (hr : RBw X) (hm : RM X A) (hh : HR X A) (ht : (X 8).toInt = (t : Int)) (h9 : t < 100000) (hf : f = t - 60) : ∀ (d u fu : Nat) (l2 : Int32) (F N T : Nat → Int32) (V : Nat → Int64), t = u + d → f ≤ u → l2.toInt = (u : Int) → d < fu → (F 22).toInt = (f : Int) → N 5 = A 12 → N 6 = A 13 →
    ∃ F' N' T' V', mX2_isHandOf_l48 fu (WM μ z F A N T V) (some 537) a l2 = some (whF X (whC (μ 540) a X f) d u, WM μ z F' A N' T' V') ∧ ∀ i, i ≠ 21 → F' i = F i := by
  intro d
  induction d with
  | zero =>
    intro u fu l2 F N T V hd hfu h2 hg h22 h5 h6
    obtain ⟨g, rfl⟩ : ∃ g, fu = g + 1 := ⟨fu - 1, by omega⟩
    refine ⟨F, N, T, V, ?_, fun _ _ => rfl⟩
    show mX2_isHandOf_b48 _ _ _ _ _ = _
    unfold mX2_isHandOf_b48
    refine bind_step (gR_537_0 554 (by omega) _ _) ?_
    refine bind_step (iaA (n := 16) rfl (by omega)) ?_
    refine (if_pos (by rw [Int32.le_iff_toInt_le, hm 8 (by omega), ht, h2]; omega)).trans ?_
    exact bind_step nok1 rfl
  | succ d ih =>
    intro u fu l2 F N T V hd hfu h2 hg h22 h5 h6
    obtain ⟨g, rfl⟩ : ∃ g, fu = g + 1 := ⟨fu - 1, by omega⟩
    have k := kind_WM (N := N) hr hm hh ht hf hfu (by omega) h5 h6
    have k' := kind_W (N := fun j => if j = 5 then X 4 else X 5) hr hh ht hf hfu (by omega) rfl rfl
    obtain ⟨T1, V1, e1⟩ := commandBy2_E (F := upd F 21 l2) (A := A) (N := mnK 5 u A N) (T := T) (V := V) (t := u) (f := f) hT ha h2 (by rw [upN (by omega)]; exact h22) (by omega) k
    rw [cmd_congr hT ha k k'] at e1
    have ep : A (602 + 6 * (u % 1536) + 5) = X (53 + 6 * (u % 60) + 5) := (hh u (by omega) (by omega)).1 5 (by omega)
    have pre : ∀ ρ : Option (Int32 × Wd), (if whC (μ 540) a X f u = X (53 + 6 * (u % 60) + 5) then mX2_isHandOf_l48 g (WM μ z (upd F 21 l2) A (mnK 5 u A N) T1 V1) (some 537) a (l2 + 1) else some (0, WM μ z (upd F 21 l2) A (mnK 5 u A N) T1 V1)) = ρ → mX2_isHandOf_l48 (g + 1) (WM μ z F A N T V) (some 537) a l2 = ρ := by
      intro ρ hρ
      show mX2_isHandOf_b48 _ _ _ _ _ = _
      unfold mX2_isHandOf_b48
      refine bind_step (gR_537_0 554 (by omega) _ _) ?_
      refine bind_step (iaA (n := 16) rfl (by omega)) ?_
      refine (if_neg (by rw [Int32.le_iff_toInt_le, hm 8 (by omega), ht, h2]; omega)).trans ?_
      have e0 : mnK 0 u A N = N := by
        funext i
        unfold mnK
        rw [if_neg (by omega)]
      have hn := isHandOf_names (z := z) (F := F) (N := N) (T := T) (V := V) (A := A) (μ := μ) (l1 := a) (l2 := l2) (u := u) (k48 := mX2_isHandOf_l48 g) (ρ := ρ) h2 (by omega) (fun g2 => ?_) 5 0 FU 0 (by omega) rfl (by unfold FU; omega)
      · rw [e0] at hn
        exact hn
      · unfold mX2_isHandOf_b61
        refine (if_pos (by decide)).trans ?_
        refine bind_step pfM_21 ?_
        refine bind_step (recv_537 554 (by omega) _ _) ?_
        refine bind_step (calM e1) ?_
        refine bind_step (recv_537 554 (by omega) _ _) ?_
        refine bind_step (cal_w (pastOf_E (j := 5) h2 rfl (by omega) (by omega))) ?_
        rw [ep]
        by_cases c : whC (μ 540) a X f u = X (53 + 6 * (u % 60) + 5)
        · rw [if_pos c] at hρ
          exact (if_pos c).trans hρ
        · rw [if_neg c] at hρ
          refine (if_neg c).trans ?_
          exact bind_step nok0 hρ
    unfold whF
    by_cases c : whC (μ 540) a X f u = X (53 + 6 * (u % 60) + 5)
    · obtain ⟨F', N', T', V', e, w⟩ := ih (u + 1) g (l2 + 1) (upd F 21 l2) (mnK 5 u A N) T1 V1 (by omega) (by omega) (inc_I h2 (by omega)) (by omega) (by rw [upN (by omega)]; exact h22) h5 h6
      refine ⟨F', N', T', V', pre _ ?_, fun i hi => (w i hi).trans (upN hi)⟩
      rw [if_pos c, if_pos c]
      exact e
    · refine ⟨upd F 21 l2, mnK 5 u A N, T1, V1, pre _ ?_, fun i hi => upN hi⟩
      rw [if_neg c, if_neg c]
theorem isHandOf_E {a : Int32} {t : Nat} {F N T : Nat → Int32} {V : Nat → Int64} (hT : TX TT μ z) (ha : -1 ≤ a.toInt ∧ a.toInt < (μ 402 2).toInt) (hr : RBw X) (hm : RM X A) (hh : HR X A) (ht : (X 8).toInt = (t : Int)) (h9 : t < 100000) : ∃ F' N' T' V', mX2_isHandOf 537 a (WM μ z F A N T V) = some (whF X (whC (μ 540) a X (t - 60)) (t - (t - 60)) (t - 60), WM μ z F' A N' T' V') ∧ ∀ i, i ≠ 21 → i ≠ 22 → F' i = F i := by
  have h16 : (A 16).toInt = (t : Int) := by rw [hm 8 (by omega)]; exact ht
  have e22 : (A 16 - (if 60 ≤ A 16 then 60 else A 16)).toInt = ((t - 60 : Nat) : Int) := by
    have c60 : (60 : Int32).toInt = 60 := rfl
    by_cases hc : 60 ≤ A 16
    · rw [if_pos hc]
      rw [Int32.le_iff_toInt_le, h16, c60] at hc
      exact subN h16 rfl (by omega) (by omega)
    · rw [if_neg hc]
      rw [Int32.le_iff_toInt_le, h16, c60] at hc
      rw [I32_sub h16 h16 (by omega)]
      omega
  obtain ⟨F', N', T', V', e, w⟩ := isHandOf_loop (z := z) (a := a) hT ha hr hm hh ht h9 rfl (t - (t - 60)) (t - 60) FU (upd F 22 (A 16 - (if 60 ≤ A 16 then 60 else A 16)) 22) (upd F 22 (A 16 - (if 60 ≤ A 16 then 60 else A 16))) (upd (upd N 5 (A 12)) 6 (A 13)) T V (by omega) (by omega) (by rw [upd_eq]; exact e22) (by unfold FU; omega) (by rw [upd_eq]; exact e22) (by rw [upN (by omega)]; exact upd_eq) upd_eq
  refine ⟨F', N', T', V', ?_, fun i i1 i2 => (w i i1).trans (upN i2)⟩
  unfold mX2_isHandOf
  refine bind_step (gR_537_0 554 (by omega) _ _) ?_
  refine bind_step (iaA (n := 16) rfl (by omega)) ?_
  refine bind_step (recv_537 554 (by omega) _ _) ?_
  refine bind_step (cal_w held_E) ?_
  refine bind_step pfM_22 ?_
  refine bind_step (gR_537_20 554 (by omega) _ _) ?_
  refine bind_step (gR_537_0 554 (by omega) _ _) ?_
  refine bind_step (iaA (n := 12) rfl (by omega)) ?_
  refine bind_step (iasNm (n := 5) rfl (by omega)) ?_
  refine bind_step (gR_537_20 554 (by omega) _ _) ?_
  refine bind_step (gR_537_0 554 (by omega) _ _) ?_
  refine bind_step (iaA (n := 13) rfl (by omega)) ?_
  refine bind_step (iasNm (n := 6) rfl (by omega)) ?_
  refine bind_step gIM_22 ?_
  exact e
end WM89q
/-- the texts whose hand it is, of q from k on, as bits -/
def whB (c : Nat → Int32) : Nat → Nat → Int32 → Int32
  | 0, _, b => b
  | q + 1, k, b => whB c q (k + 1) (if c k = 0 then b ||| 0 else b ||| (1 <<< (Int32.ofNat k &&& 31)))
def whT (μ : Mu) (t k : Nat) : Int32 := whF (μ 403) (whC (μ 540) (Int32.ofNat k) (μ 403) (t - 60)) (t - (t - 60)) (t - 60)
theorem whose_C {μ0 : Mu} {z : Zt} {A : Nat → Int32} {t nt : Nat} (hT : Tc μ0 z) (hz : 554 ≤ z.2.2.2.1) (hr : RBw (μ0 403)) (hh : HR (μ0 403) A) (ht : (μ0 403 8).toInt = (t : Int)) (h9 : t < 100000) (hnt : (μ0 402 2).toInt = (nt : Int)) :
    ∀ (q k fu : Nat) (l1 l2 : Int32) (μ : Mu), CQ μ0 μ → nt = k + q → l2.toInt = (k : Int) → q < fu → ∃ μ', mX0_whoseHand_l4 fu (E μ z) (some 400) l1 l2 = some (whB (whT μ0 t) q k l1, E μ' z) ∧ CQ μ0 μ' := by
  intro q
  induction q with
  | zero =>
    intro k fu l1 l2 μ hc hk hl hf
    obtain ⟨g, rfl⟩ : ∃ g, fu = g + 1 := ⟨fu - 1, by omega⟩
    refine ⟨μ, ?_, hc⟩
    show mX0_whoseHand_b4 _ _ _ _ _ = _
    unfold mX0_whoseHand_b4
    refine bind_step (gR_400_0 554 (by omega) _ _) ?_
    refine bind_step (gR_401_0 554 (by omega) _ _) ?_
    refine bind_step (ia_E (n := 2) isI_402 rfl (by omega)) ?_
    rw [hc.1 402 (by omega)]
    exact if_pos (by rw [Int32.le_iff_toInt_le, hnt, hl]; omega)
  | succ q ih =>
    intro k fu l1 l2 μ hc hk hl hf
    obtain ⟨g, rfl⟩ : ∃ g, fu = g + 1 := ⟨fu - 1, by omega⟩
    have hT1 := Tc_CFr (CQ_CFr (z := z) hc) hz hT
    have el : l2 = Int32.ofNat k := I_nat hl
    have m403 : μ 403 = μ0 403 := hc.1 403 (by omega)
    have m540 : μ 540 = μ0 540 := hc.1 540 (by omega)
    obtain ⟨i4, y, y1, y2⟩ := txt_i (i := k) hT1.2.1 (by rw [hc.1 402 (by omega)]; omega)
    obtain ⟨N', e1⟩ := isHand_E (C := μ 400) (N := μ 518) (X := μ 403) (t9 := Int32.ofNat k) (y := y) hT1 y2 (by rw [m403]; exact hr) (by rw [m403]; exact hh) (by rw [m403]; exact ht) h9
    rw [WC_0, m540] at e1
    rw [show whF (μ 403) (whC (μ0 540) (Int32.ofNat k) (μ 403) (t - 60)) (t - (t - 60)) (t - 60) = whT μ0 t k by rw [m403]; rfl] at e1
    have hc1 := CQ.trans hc (CQ_403 (μ := μ) (N := N'))
    have pre : ∀ ρ : Option (Int32 × Wd), mX0_whoseHand_l4 g (WC μ z 403 (μ 400) N' (μ 403)) (some 400) (if whT μ0 t k = 0 then l1 ||| 0 else l1 ||| (1 <<< (Int32.ofNat k &&& 31))) (l2 + 1) = ρ → mX0_whoseHand_l4 (g + 1) (E μ z) (some 400) l1 l2 = ρ := by
      intro ρ hρ
      show mX0_whoseHand_b4 _ _ _ _ _ = _
      unfold mX0_whoseHand_b4
      refine bind_step (gR_400_0 554 (by omega) _ _) ?_
      refine bind_step (gR_401_0 554 (by omega) _ _) ?_
      refine bind_step (ia_E (n := 2) isI_402 rfl (by omega)) ?_
      rw [hc.1 402 (by omega)]
      refine (if_neg (by rw [Int32.le_iff_toInt_le, hnt, hl]; omega)).trans ?_
      refine bind_step (gR_400_0 554 (by omega) _ _) ?_
      refine bind_step (gR_401_6 554 (by omega) _ _) ?_
      refine bind_step (aaX_E (n := k) isX_458 hl i4) ?_
      rw [y1]
      refine bind_step (recv_400 554 (by omega) _ _) ?_
      refine bind_step (cal_E e1) ?_
      by_cases c : whT μ0 t k = 0
      · rw [if_pos c] at hρ
        exact (if_pos c).trans hρ
      · rw [if_neg c, ← el] at hρ
        refine (if_neg c).trans ?_
        exact bind_step rfl hρ
    obtain ⟨μ', e, hq⟩ := ih (k + 1) g (if whT μ0 t k = 0 then l1 ||| 0 else l1 ||| (1 <<< (Int32.ofNat k &&& 31))) (l2 + 1) _ hc1 (by omega) (inc_I hl (by omega)) (by omega)
    exact ⟨μ', pre _ e, hq⟩
theorem whose_M {μ0 : Mu} {z0 : Zt} {A0 : Nat → Int32} {t nt : Nat} (hT : TX TT μ0 z0) (hr : RBw (μ0 403)) (hm : RM (μ0 403) A0) (hh : HR (μ0 403) A0) (ht : (μ0 403 8).toInt = (t : Int)) (h9 : t < 100000) (hnt : (μ0 402 2).toInt = (nt : Int)) (hA3 : A0 3 = μ0 402 2) :
    ∀ (q k fu : Nat) (l1 l2 : Int32) (μ : Mu) (z : Zt), MFr μ0 z0 μ z → μ 538 = A0 → nt = k + q → l2.toInt = (k : Int) → q < fu → ∃ μ' z', mX2_whoseHand_l4 fu (E μ z) (some 537) l1 l2 = some (whB (whT μ0 t) q k l1, E μ' z') ∧ MFr μ0 z0 μ' z' ∧ μ' 538 = A0 := by
  have h4 := hT.2.2.2.1.2
  intro q
  induction q with
  | zero =>
    intro k fu l1 l2 μ z hf0 hA hk hl hf
    obtain ⟨g, rfl⟩ : ∃ g, fu = g + 1 := ⟨fu - 1, by omega⟩
    refine ⟨μ, z, ?_, hf0, hA⟩
    show mX2_whoseHand_b4 _ _ _ _ _ = _
    unfold mX2_whoseHand_b4
    refine bind_step (gR_537_0 554 (by omega) _ _) ?_
    refine bind_step (ia_E (n := 3) isI_538 rfl (by omega)) ?_
    rw [hA, hA3]
    exact if_pos (by rw [Int32.le_iff_toInt_le, hnt, hl]; omega)
  | succ q ih =>
    intro k fu l1 l2 μ z hf0 hA hk hl hf
    obtain ⟨g, rfl⟩ : ∃ g, fu = g + 1 := ⟨fu - 1, by omega⟩
    have el : l2 = Int32.ofNat k := I_nat hl
    have m402 : μ 402 = μ0 402 := hf0.1 402 (by omega)
    have m540 : μ 540 = μ0 540 := hf0.1 540 (by omega)
    obtain ⟨F', N', T', V', e1, w1⟩ := isHandOf_E (μ := μ) (z := z) (X := μ0 403) (A := A0) (F := μ 537) (N := μ 543) (T := μ 545) (V := z.1 544) (a := l2) (t := t) (TX_MFr hf0 hT) (by rw [m402]; omega) hr hm hh ht h9
    rw [m540, show whF (μ0 403) (whC (μ0 540) l2 (μ0 403) (t - 60)) (t - (t - 60)) (t - 60) = whT μ0 t k by rw [el]; rfl] at e1
    have hm1 : MFr μ0 z0 (fM μ F' A0 N' T') (zM z V') := MFr.trans hf0 (MFr_M (fun j hj => w1 j (by omega) (by omega)))
    have pre : ∀ ρ : Option (Int32 × Wd), mX2_whoseHand_l4 g (WM μ z F' A0 N' T' V') (some 537) (if whT μ0 t k = 0 then l1 ||| 0 else l1 ||| (1 <<< (Int32.ofNat k &&& 31))) (l2 + 1) = ρ → mX2_whoseHand_l4 (g + 1) (E μ z) (some 537) l1 l2 = ρ := by
      intro ρ hρ
      show mX2_whoseHand_b4 _ _ _ _ _ = _
      unfold mX2_whoseHand_b4
      refine bind_step (gR_537_0 554 (by omega) _ _) ?_
      refine bind_step (ia_E (n := 3) isI_538 rfl (by omega)) ?_
      rw [hA, hA3]
      refine (if_neg (by rw [Int32.le_iff_toInt_le, hnt, hl]; omega)).trans ?_
      rw [WM_0 μ z, hA]
      refine bind_step (recv_537 554 (by omega) _ _) ?_
      refine bind_step (calM e1) ?_
      by_cases c : whT μ0 t k = 0
      · rw [if_pos c] at hρ
        exact (if_pos c).trans hρ
      · rw [if_neg c, ← el] at hρ
        refine (if_neg c).trans ?_
        exact bind_step rfl hρ
    obtain ⟨μ', z', e, p1, p2⟩ := ih (k + 1) g (if whT μ0 t k = 0 then l1 ||| 0 else l1 ||| (1 <<< (Int32.ofNat k &&& 31))) (l2 + 1) _ _ hm1 rfl (by omega) (inc_I hl (by omega)) (by omega)
    exact ⟨μ', z', pre _ e, p1, p2⟩
theorem whT_CQ {μ μ1 : Mu} {t : Nat} (h : CQ μ μ1) : whT μ1 t = whT μ t := by
  funext k
  unfold whT
  rw [h.1 403 (by omega), h.1 540 (by omega)]
theorem ow_whoseHand (L : Nat) (xs : Nat → Int32) : Ow_whoseHand (Inv (TX TT) L xs) := by
  intro n μ z hI
  obtain ⟨t, ht, ht9, hgo, hTc, hn1, h4, h2, hc7, hf25⟩ := Inv_q hI
  have hz := hI.2.2.2.1.2.1
  have a3 : μ 538 3 = μ 402 2 := hI.1.1.1.2.2.1
  have hh : HR (μ 403) (μ 538) := hI.1.2.2.2.2.2.1.2.1
  obtain ⟨nt, hnt⟩ : ∃ nt : Nat, (μ 402 2).toInt = (nt : Int) := ⟨(μ 402 2).toInt.toNat, by have := hTc.2.1.2.2.2.1.1; omega⟩
  have hnt4 : nt ≤ 4 := by have := hTc.2.1.2.2.2.1.2; omega
  obtain ⟨μ1, f1, hq⟩ := whose_C hTc hz hgo.1 hh ht (by omega) hnt nt 0 FU 0 0 μ (CQ.refl μ) (by omega) rfl (by unfold FU; omega)
  have hT1 := Tc_CFr (CQ_CFr (z := z) hq) hz hTc
  have e402 : μ1 402 = μ 402 := hq.1 402 (by omega)
  have e403 : μ1 403 = μ 403 := hq.1 403 (by omega)
  have e538 : μ1 538 = μ 538 := hq.1 538 (by omega)
  obtain ⟨μ2, z2, f2, p1, p2⟩ := whose_M (μ0 := μ1) (z0 := z) (A0 := μ 538) (t := t) (nt := nt) hT1.2.1 (by rw [e403]; exact hgo.1) (by rw [e403]; exact hgo.2.1) (by rw [e403]; exact hh) (by rw [e403]; exact ht) (by omega) (by rw [e402]; exact hnt) (by rw [e402]; exact a3) nt 0 FU 0 0 μ1 z (MFr.refl _ _) e538 (by omega) rfl (by unfold FU; omega)
  rw [whT_CQ hq] at f2
  exact Agr_q hI ht _ f1 hq f2 p1 (by rw [p2]; exact RgOk.refl _ _)
