/-! ===== dayEnds ===== -/
theorem Rf.ok2 {t0 k : Nat} {A0 A S B : Nat → Int32} (hk : k ≤ 230) (h : Rf t0 k A0 A) (h18 : ∀ i, 18 ≤ i → A0 i = B i) (hS : ∀ i, i < 18 → S i = B i) : RgOk t0 B (cpK 18 S A) := by
  refine ⟨fun i hi => ?_, fun u j u1 u2 hj => ?_⟩
  · unfold cpK
    by_cases h18' : i < 18
    · rw [if_pos h18']; exact hS i h18'
    · rw [if_neg h18', h i (by omega) (by omega) (fun u _ _ => by omega)]
      exact h18 i (by omega)
  · unfold cpK
    rw [if_neg (by omega), h _ (by omega) (by omega) (fun v v1 v2 => ?_)]
    · exact h18 _ (by omega)
    · have m15 := mod1536 (t := v) (q := v - u) (by omega) (by omega) (by omega)
      rw [show v - (v - u) = u by omega] at m15
      omega
def tmF (bnd : Int32) (Xs : Nat → Nat → Int32) : Nat → Nat → Int32
  | 0, _ => 0
  | d + 1, k => if awF (Xs (k + 1)) ≤ bnd then tmF bnd Xs d (k + 1) else 1
theorem gr_le {bnd : Int32} {Xs : Nat → Nat → Int32} (hb : 0 ≤ bnd.toInt) : ∀ n, grF Xs 1 n ≤ bnd ↔ ∀ j, 1 ≤ j → j ≤ n → awF (Xs j) ≤ bnd := by
  intro n
  induction n with
  | zero => exact ⟨fun _ j h1 h2 => absurd h1 (by omega), fun _ => by rw [Int32.le_iff_toInt_le]; exact hb⟩
  | succ n ih =>
    have e : grF Xs 1 (n + 1) = jmaxI (grF Xs 1 n) (awF (Xs (n + 1))) := if_neg (by omega)
    have ihb := ih
    rw [e]
    have em := max_I (grF Xs 1 n) (awF (Xs (n + 1)))
    constructor
    · intro h j h1 h2
      rw [Int32.le_iff_toInt_le, em] at h
      by_cases hj : j = n + 1
      · subst hj
        rw [Int32.le_iff_toInt_le]
        split at h <;> omega
      · refine ih.mp ?_ j h1 (by omega)
        rw [Int32.le_iff_toInt_le]
        split at h <;> omega
    · intro h
      have h1 := ih.mpr (fun j j1 j2 => h j j1 (by omega))
      have h2 := h (n + 1) (by omega) (by omega)
      rw [Int32.le_iff_toInt_le] at h1 h2 ⊢
      rw [em]
      split <;> omega
theorem tm_0 {bnd : Int32} {Xs : Nat → Nat → Int32} : ∀ d k, (tmF bnd Xs d k = 0 ↔ ∀ j, k + 1 ≤ j → j ≤ k + d → awF (Xs j) ≤ bnd) ∧ (tmF bnd Xs d k = 0 ∨ tmF bnd Xs d k = 1) := by
  intro d
  induction d with
  | zero => intro k; exact ⟨⟨fun _ j h1 h2 => absurd h1 (by omega), fun _ => rfl⟩, Or.inl rfl⟩
  | succ d ih =>
    intro k
    unfold tmF
    by_cases c : awF (Xs (k + 1)) ≤ bnd
    · rw [if_pos c]
      refine ⟨⟨fun h j h1 h2 => ?_, fun h => (ih (k + 1)).1.mpr (fun j h1 h2 => h j (by omega) (by omega))⟩, (ih (k + 1)).2⟩
      by_cases hj : j = k + 1
      · rw [hj]; exact c
      · exact (ih (k + 1)).1.mp h j (by omega) (by omega)
    · rw [if_neg c]
      exact ⟨⟨fun h => absurd h (by decide), fun h => absurd (h (k + 1) (by omega) (by omega)) c⟩, Or.inr rfl⟩
theorem tm_gr {bnd : Int32} {Xs : Nat → Nat → Int32} (hb : 0 ≤ bnd.toInt) (n : Nat) : tmF bnd Xs n 0 = 0 ↔ grF Xs 1 n ≤ bnd := by
  rw [(tm_0 n 0).1, gr_le hb]
  exact ⟨fun h j h1 h2 => h j (by omega) (by omega), fun h j h1 h2 => h j (by omega) (by omega)⟩
/-- the row with another wind -/
abbrev wrow (X : Nat → Int32) (w : Nat) : Nat → Int32 := upd X 6 (Int32.ofNat w)
def sqW (μ : Mu) (w : Nat) : Nat → Nat → Int32 := itH (μ 540) (μ 402 3) 1 none (wrow (μ 403) w)
def deF (μ : Mu) (n : Nat) (bnd : Int32) : Nat → Nat → Int32
  | 0, _ => -1
  | q + 1, w => if grF (sqW μ w) 1 n ≤ bnd then deF μ n bnd q (w + 1) else Int32.ofNat w
theorem Gc_w {t w : Nat} {X : Nat → Int32} (hw : w ≤ 9) (h : Gc t X) : Gc t (wrow X w) := by
  obtain ⟨⟨r0, r1, r2, r3, r4, r5, r6, r7, r9⟩, g2, g3⟩ := h
  have e : ∀ j, j ≠ 6 → wrow X w j = X j := fun j hj => upN hj
  have e6 : wrow X w 6 = Int32.ofNat w := upd_eq
  refine ⟨⟨by rw [e 0 (by omega)]; exact r0, by rw [e 1 (by omega)]; exact r1, by rw [e 2 (by omega)]; exact r2, by rw [e 3 (by omega)]; exact r3, by rw [e 4 (by omega)]; exact r4, by rw [e 5 (by omega)]; exact r5, by rw [e6]; exact ⟨by rw [tI (by omega)]; omega, by rw [tI (by omega)]; omega⟩, by rw [e 7 (by omega)]; exact r7, by rw [e 9 (by omega)]; exact r9⟩, fun q j q1 q2 q3 hj => by rw [e _ (by omega)]; exact g2 q j q1 q2 q3 hj, by rw [e 8 (by omega)]; exact g3⟩
theorem Go_w {t w : Nat} {X A : Nat → Int32} (hw : w ≤ 9) (h : Go t X A) : Go t (wrow X w) (upd A 14 (Int32.ofNat w)) := by
  obtain ⟨g1, g2, g3, g4, g5⟩ := h
  obtain ⟨c1, c2, c3⟩ := Gc_w hw ⟨g1, g3, g5⟩
  have e : ∀ j, j ≠ 6 → wrow X w j = X j := fun j hj => upN hj
  have e6 : wrow X w 6 = Int32.ofNat w := upd_eq
  refine ⟨c1, fun j hj => ?_, c2, fun q j q1 q2 q3 hj => by rw [upN (by omega), e _ (by omega)]; exact g4 q j q1 q2 q3 hj, c3⟩
  by_cases j6 : j = 6
  · subst j6
    rw [e6, show 8 + 6 = 14 from rfl, upd_eq]
  · rw [upN (by omega), e j j6]
    exact g2 j hj
/-- within dayEnds: all but scratch, the wind of now and the calm is as it was -/
def CW (μ μ1 : Mu) : Prop := (∀ k, (k ≤ 399 ∨ k = 401 ∨ k = 402 ∨ (404 ≤ k ∧ k ≤ 517) ∨ 537 ≤ k) → μ1 k = μ k) ∧ (∀ j, (j = 3 ∨ j = 4 ∨ j = 5) → μ1 400 j = μ 400 j) ∧ μ1 400 7 = 1 ∧ ∃ v, μ1 403 = upd (μ 403) 6 v
theorem dayEnds_C {μ0 : Mu} {z : Zt} {l1 l2 : Int32} {t n : Nat} (hT : Tc μ0 z) (hz : 554 ≤ z.2.2.2.1) (hg : Gc t (μ0 403)) (h9 : t < 20000) (h1 : l1.toInt = (n : Int)) (hn : n ≤ 200) (hb : bd l2 0 9999) : ∀ (q w fu : Nat) (l5 : Int32) (μ : Mu), 10 = w + q → 1 ≤ w → l5.toInt = (w : Int) → q < fu → CW μ0 μ →
    ∃ μ', mX0_dayEnds_l46 fu (E μ z) (some 400) l1 l2 (μ0 403 6) (-1) l5 = some (deF μ0 n l2 q w, E μ' z) ∧ CQ (setM μ0 400 (upd (μ0 400) 7 0)) μ' := by
  have uu : ∀ v v', upd (upd (μ0 403) 6 v) 6 v' = upd (μ0 403) 6 v' := fun v v' => by
    funext j
    unfold upd
    by_cases hj : j = 6
    · rw [if_pos hj, if_pos hj]
    · rw [if_neg hj, if_neg hj, if_neg hj]
  have us : upd (μ0 403) 6 (μ0 403 6) = μ0 403 := by
    funext j
    unfold upd
    by_cases hj : j = 6
    · rw [if_pos hj, hj]
    · rw [if_neg hj]
  have p100 : ∀ {μ : Mu} {v : Int32}, CW μ0 μ → ∃ μ', mX0_dayEnds_p100 (E μ z) (some 400) (μ0 403 6) v = some (v, E μ' z) ∧ CQ (setM μ0 400 (upd (μ0 400) 7 0)) μ' := by
    intro μ v hw
    obtain ⟨w1, w2, w3, v9, w4⟩ := hw
    refine ⟨setM (setM μ 400 (upd (μ 400) 7 0)) 403 (μ0 403), ?_, fun k hk => ?_, fun j hj => ?_⟩
    · unfold mX0_dayEnds_p100
      refine bind_step (if_pos (Or.inl rfl)) ?_
      refine bind_step (pf_E isF_400_7) ?_
      refine bind_step (gR_400_0 554 (by omega) _ _) ?_
      refine bind_step (gR_401_1 554 (by omega) _ _) ?_
      refine bind_step (ias_E (n := 6) isI_403 rfl (by omega)) ?_
      have e : up (up μ 400 7 0) 403 6 (μ0 403 6) = setM (setM μ 400 (upd (μ 400) 7 0)) 403 (μ0 403) := by
        show setM (setM μ 400 (upd (μ 400) 7 0)) 403 (upd (setM μ 400 (upd (μ 400) 7 0) 403) 6 (μ0 403 6)) = _
        rw [setM_ne (show (403 : Nat) ≠ 400 by omega), w4, uu, us]
      rw [e]
    · rw [setM_ne (show k ≠ 400 by omega)]
      by_cases h3 : k = 403
      · rw [h3, setM_same]
      · rw [setM_ne h3, setM_ne (by omega)]
        exact w1 k (by omega)
    · rw [setM_ne (show (400 : Nat) ≠ 403 by omega), setM_same, setM_same]
      by_cases h7 : j = 7
      · rw [h7, upd_eq, upd_eq]
      · rw [upN h7, upN h7]
        exact w2 j (by omega)
  intro q
  induction q with
  | zero =>
    intro w fu l5 μ hw h1w hl hf hc
    obtain ⟨g, rfl⟩ : ∃ g, fu = g + 1 := ⟨fu - 1, by omega⟩
    obtain ⟨μ', e, hq⟩ := p100 (v := -1) hc
    refine ⟨μ', ?_, hq⟩
    show mX0_dayEnds_b46 _ _ _ _ _ _ _ _ = _
    unfold mX0_dayEnds_b46
    refine (if_pos (by rw [Int32.le_iff_toInt_le, hl]; show (10 : Int) ≤ _; omega)).trans ?_
    exact e
  | succ q ih =>
    intro w fu l5 μ hw h1w hl hf hc
    obtain ⟨g, rfl⟩ : ∃ g, fu = g + 1 := ⟨fu - 1, by omega⟩
    have hc' := hc
    obtain ⟨w1, w2, w3, v9, w4⟩ := hc'
    have el : l5 = Int32.ofNat w := I_nat hl
    have e3 : up μ 403 6 l5 = setM μ 403 (wrow (μ0 403) w) := by
      show setM μ 403 (upd (μ 403) 6 l5) = _
      rw [w4, uu, el]
    have hT2 : Tc (setM μ 403 (wrow (μ0 403) w)) z := by
      obtain ⟨t0, t1, t2⟩ := hT
      have e : ∀ k, (k = 402 ∨ k = 460 ∨ k = 540) → setM μ 403 (wrow (μ0 403) w) k = μ0 k := fun k hk => by rw [setM_ne (by omega)]; exact w1 k (by omega)
      exact ⟨t0, TX_ext (e 540 (by omega)) (by rw [e 402 (by omega)]) (by rw [e 460 (by omega)]) rfl (fun _ _ => rfl) (Nat.le_refl _) t1, by rw [e 402 (by omega)]; exact t2⟩
    obtain ⟨μ3, e4, q1, q2, -, -⟩ := goes_Q (z := z) (h := none) (hl := none) (t := t) (fr := 1) (n := n) (l1 := l1) (l3 := 1) hT2 (Or.inl ⟨rfl, rfl⟩) (by rw [setM_same]; exact Gc_w (by omega) hg) (by omega) (by omega) h1 rfl
    have es : sqH (setM μ 403 (wrow (μ0 403) w)) (setM μ 403 (wrow (μ0 403) w) 400 7) none = sqW μ0 w := by
      unfold sqH sqW
      rw [setM_same, setM_ne (show (540 : Nat) ≠ 403 by omega), setM_ne (show (402 : Nat) ≠ 403 by omega), setM_ne (show (400 : Nat) ≠ 403 by omega), w1 540 (by omega), w1 402 (by omega), w3]
    rw [es] at q2
    have hc3 : CW μ0 μ3 := by
      refine ⟨fun k hk => (q1.1 k (by omega)).trans ((setM_ne (by omega)).trans (w1 k hk)), fun j hj => ?_, ?_, Int32.ofNat w, ?_⟩
      · rw [q1.2 j (by omega), setM_ne (show (400 : Nat) ≠ 403 by omega)]
        exact w2 j hj
      · rw [q1.2 7 (by omega), setM_ne (show (400 : Nat) ≠ 403 by omega)]
        exact w3
      · rw [q1.1 403 (by omega), setM_same]
    have pre : ∀ (r : Option (Int32 × Wd)), (if grF (sqW μ0 w) 1 n ≤ l2 then mX0_dayEnds_l46 g (E μ3 z) (some 400) l1 l2 (μ0 403 6) (-1) (l5 + 1) else mX0_dayEnds_l46 g (E μ3 z) (some 400) l1 l2 (μ0 403 6) l5 (l5 + 1)) = r → mX0_dayEnds_l46 (g + 1) (E μ z) (some 400) l1 l2 (μ0 403 6) (-1) l5 = r := by
      intro r hr
      show mX0_dayEnds_b46 _ _ _ _ _ _ _ _ = _
      unfold mX0_dayEnds_b46
      refine (if_neg (by rw [Int32.le_iff_toInt_le, hl]; show ¬ (10 : Int) ≤ _; omega)).trans ?_
      refine (if_neg (fun q => q rfl)).trans ?_
      refine bind_step (gR_400_0 554 (by omega) _ _) ?_
      refine bind_step (gR_401_1 554 (by omega) _ _) ?_
      refine bind_step (ias_E (n := 6) isI_403 rfl (by omega)) ?_
      rw [e3]
      refine bind_step (recv_400 554 (by omega) _ _) ?_
      refine bind_step (cal_E e4) ?_
      refine bind_step (gI_400_9 554 (by omega) _ _) ?_
      rw [q2]
      exact hr
    unfold deF
    by_cases c : grF (sqW μ0 w) 1 n ≤ l2
    · obtain ⟨μ', e, hq⟩ := ih (w + 1) g (l5 + 1) μ3 (by omega) (by omega) (inc_I hl (by omega)) (by omega) hc3
      refine ⟨μ', pre _ ?_, hq⟩
      rw [if_pos c, if_pos c]
      exact e
    · obtain ⟨g2, rfl⟩ : ∃ g2, g = g2 + 1 := ⟨g - 1, by omega⟩
      obtain ⟨μ', e, hq⟩ := p100 (v := l5) hc3
      refine ⟨μ', pre _ ?_, hq⟩
      rw [if_neg c, if_neg c, ← el]
      have ne5 : ¬ l5 = -1 := fun q => by
        rw [q] at hl
        have : (-1 : Int32).toInt = -1 := rfl
        omega
      show mX0_dayEnds_b46 _ _ _ _ _ _ _ _ = _
      unfold mX0_dayEnds_b46
      by_cases c10 : 10 ≤ l5 + 1
      · exact (if_pos c10).trans e
      · refine (if_neg c10).trans ?_
        exact (if_pos ne5).trans e
theorem tooMuch_loop {μ : Mu} {z : Zt} {t4 l2 l3 : Int32} {Xs : Nat → Nat → Int32} {A0 B : Nat → Int32} {t n : Nat} (hXs : ∀ k, Xs (k + 1) = tenF (μ 540) t4 1 (Xs k) 0) (hT : TX TT μ z) (ha : -1 ≤ t4.toInt ∧ t4.toInt < (μ 402 2).toInt) (h46 : ∀ i, i < 18 → μ 546 i = B i) (h18 : ∀ i, 18 ≤ i → A0 i = B i) (h9 : t + n < 900000) (hn : n ≤ 200) (h2 : l2.toInt = (n : Int)) :
    ∀ (d k fu : Nat) (l5 : Int32) (F A N T : Nat → Int32) (V : Nat → Int64), n = k + d → l5.toInt = (k : Int) → d < fu → F 25 = 1 → Ml t k μ t4 A0 (Xs k) A 1 →
    ∃ F' A' N' T' V', mX2_isTooMuch_l23 fu (WM μ z F A N T V) (some 537) l2 l3 0 l5 = some (tmF l3 Xs d k, WM μ z F' A' N' T' V') ∧ (∀ i, i ≠ 21 → i ≠ 22 → i ≠ 25 → F' i = F i) ∧ F' 25 = 0 ∧ RgOk t B A' := by
  have p63 : ∀ {F A N T : Nat → Int32} {V : Nat → Int64} {v : Int32}, (v = 0 ∨ v = 1) → mX2_isTooMuch_p63 (WM μ z F A N T V) (some 537) v = some (v, WM μ z (upd F 25 0) (cpK 18 (μ 546) A) N T V) := by
    intro F A N T V v hv
    unfold mX2_isTooMuch_p63
    refine bind_step (recv_537 554 (by omega) _ _) ?_
    refine bind_step (cal_E putBack_E) ?_
    rcases hv with rfl | rfl
    · exact bind_step nok0 rfl
    · exact bind_step nok1 rfl
  intro d
  induction d with
  | zero =>
    intro k fu l5 F A N T V hd h5 hf h25 hm
    obtain ⟨g, rfl⟩ : ∃ g, fu = g + 1 := ⟨fu - 1, by omega⟩
    refine ⟨upd F 25 0, cpK 18 (μ 546) A, N, T, V, ?_, fun i _ _ i3 => upN i3, upd_eq, hm.2.1.ok2 (by omega) h18 h46⟩
    show mX2_isTooMuch_b23 _ _ _ _ _ _ _ = _
    unfold mX2_isTooMuch_b23
    refine (if_pos (by rw [Int32.le_iff_toInt_le, h2, h5]; omega)).trans ?_
    exact p63 (Or.inl rfl)
  | succ d ih =>
    intro k fu l5 F A N T V hd h5 hf h25 hm
    obtain ⟨g, rfl⟩ : ∃ g, fu = g + 1 := ⟨fu - 1, by omega⟩
    obtain ⟨F2, A2, N2, T2, V2, e2, x1, x2⟩ := Ml_pass (F := F) (N := N) (T := T) (V := V) (c := 0) hT ha (by omega) h25 hm
    rw [← hXs k] at x2
    have ea2 : jabsI (A2 8 - A2 10) = awF (Xs (k + 1)) := by
      rw [show A2 8 = _ from x2.1.2.1 0 (by omega), show A2 10 = _ from x2.1.2.1 2 (by omega)]
      rfl
    have h5n := inc_I h5 (by omega)
    unfold tmF
    by_cases c : awF (Xs (k + 1)) ≤ l3
    · obtain ⟨F', A', N', T', V', e, w1, w2, w3⟩ := ih (k + 1) g (l5 + 1) F2 A2 N2 T2 V2 (by omega) h5n (by omega) (by rw [x1 25 (by omega) (by omega)]; exact h25) x2
      refine ⟨F', A', N', T', V', ?_, fun i i1 i2 i3 => (w1 i i1 i2 i3).trans (x1 i i1 i2), w2, w3⟩
      show mX2_isTooMuch_b23 _ _ _ _ _ _ _ = _
      unfold mX2_isTooMuch_b23
      refine (if_neg (by rw [Int32.le_iff_toInt_le, h2, h5]; omega)).trans ?_
      refine (if_neg (fun q => q rfl)).trans ?_
      refine bind_step (recv_537 554 (by omega) _ _) ?_
      refine bind_step (calM e2) ?_
      refine bind_step (recv_537 554 (by omega) _ _) ?_
      refine bind_step (cal_w away_E) ?_
      refine bind_step (cal_w sizeOf_E) ?_
      rw [ea2]
      refine (if_pos c).trans ?_
      rw [if_pos c]
      exact e
    · obtain ⟨g2, rfl⟩ : ∃ g2, g = g2 + 1 := ⟨g - 1, by omega⟩
      refine ⟨upd F2 25 0, cpK 18 (μ 546) A2, N2, T2, V2, ?_, fun i i1 i2 i3 => by rw [upN i3, x1 i i1 i2], upd_eq, x2.2.1.ok2 (by omega) h18 h46⟩
      show mX2_isTooMuch_b23 _ _ _ _ _ _ _ = _
      unfold mX2_isTooMuch_b23
      refine (if_neg (by rw [Int32.le_iff_toInt_le, h2, h5]; omega)).trans ?_
      refine (if_neg (fun q => q rfl)).trans ?_
      refine bind_step (recv_537 554 (by omega) _ _) ?_
      refine bind_step (calM e2) ?_
      refine bind_step (recv_537 554 (by omega) _ _) ?_
      refine bind_step (cal_w away_E) ?_
      refine bind_step (cal_w sizeOf_E) ?_
      rw [ea2]
      refine (if_neg c).trans ?_
      rw [if_neg c]
      show mX2_isTooMuch_b23 _ _ _ _ _ _ _ = _
      unfold mX2_isTooMuch_b23
      by_cases c4 : l2 ≤ l5 + 1
      · exact (if_pos c4).trans (p63 (Or.inr rfl))
      · refine (if_neg c4).trans ?_
        exact (if_pos one_ne).trans (p63 (Or.inr rfl))
theorem dayEnds_M {μ0 : Mu} {z0 : Zt} {X A0 : Nat → Int32} {l1 l2 : Int32} {t n : Nat} (hT : TX TT μ0 z0) (ha : -1 ≤ (μ0 402 3).toInt ∧ (μ0 402 3).toInt < (μ0 402 2).toInt) (hg : Go t X A0) (hX : X = μ0 403) (hA4 : A0 4 = μ0 402 3) (h1 : l1.toInt = (n : Int)) (hn : n ≤ 200) (h9 : t < 20000) (hb : bd l2 0 9999) (h25 : μ0 537 25 = 0) :
    ∀ (q w fu : Nat) (l3 : Int32) (μ : Mu) (z : Zt), MFr μ0 z0 μ z → RgOk t A0 (μ 538) → 10 = w + q → 1 ≤ w → l3.toInt = (w : Int) → q < fu → ∃ μ' z', mX2_dayEnds_l26 fu (E μ z) (some 537) l1 l2 l3 = some (deF μ0 n l2 q w, E μ' z') ∧ MFr μ0 z0 μ' z' ∧ RgOk t A0 (μ' 538) := by
  intro q
  induction q with
  | zero =>
    intro w fu l3 μ z hm hr hw h1w hl hf
    obtain ⟨g, rfl⟩ : ∃ g, fu = g + 1 := ⟨fu - 1, by omega⟩
    refine ⟨μ, z, ?_, hm, hr⟩
    show mX2_dayEnds_b26 _ _ _ _ _ _ = _
    unfold mX2_dayEnds_b26
    exact if_pos (by rw [Int32.le_iff_toInt_le, hl]; show (10 : Int) ≤ _; omega)
  | succ q ih =>
    intro w fu l3 μ z hm hr hw h1w hl hf
    obtain ⟨g, rfl⟩ : ∃ g, fu = g + 1 := ⟨fu - 1, by omega⟩
    have e402 : μ 402 = μ0 402 := hm.1 402 (by omega)
    have e540 : μ 540 = μ0 540 := hm.1 540 (by omega)
    have el : l3 = Int32.ofNat w := I_nat hl
    have s540 : setM μ 546 (cpK 18 (μ 538) (μ 546)) 540 = μ0 540 := (setM_ne (by omega)).trans e540
    have s402 : setM μ 546 (cpK 18 (μ 538) (μ 546)) 402 = μ0 402 := (setM_ne (by omega)).trans e402
    have hgw := Go_w (w := w) (by omega) (Go_ring hg hr)
    obtain ⟨F', A', N', T', V', em, w1, w2, w3⟩ := tooMuch_loop (μ := setM μ 546 (cpK 18 (μ 538) (μ 546))) (z := z) (t4 := μ0 402 3) (l2 := l1) (l3 := l2) (Xs := sqW μ0 w) (A0 := upd (μ 538) 14 (Int32.ofNat w)) (B := μ 538) (t := t) (n := n) (by rw [s540]; exact fun _ => rfl) (TX_546 (TX_MFr hm hT)) (by rw [s402]; exact ha) (fun i hi => by rw [setM_same]; exact if_pos hi) (fun i hi => upN (by omega)) (by omega) hn h1 n 0 FU 0 (upd (μ 537) 25 1) (upd (μ 538) 14 (Int32.ofNat w)) (μ 543) (μ 545) (z.1 544) (by omega) rfl (by unfold FU; omega) upd_eq (by
        rw [hX] at hgw
        exact ⟨hgw, fun _ _ _ _ => rfl, by rw [upN (by omega), hr.1 4 (by omega)]; exact hA4, fun q => absurd q (by decide)⟩)
    have hm1 : MFr μ0 z0 (fM (setM μ 546 (cpK 18 (μ 538) (μ 546))) F' A' N' T') (zM z V') := MFr_w hm (fun j hj => by
      by_cases h : j = 25
      · subst h
        rw [w2, hm.2.1 25 (by omega)]
        exact h25.symm
      · rw [w1 j (by omega) (by omega) h, upN h])
    have hr1 : RgOk t A0 A' := RgOk.trans hr w3
    have pre : ∀ (r : Option (Int32 × Wd)), (if tmF l2 (sqW μ0 w) n 0 = 0 then mX2_dayEnds_l26 g (WM (setM μ 546 (cpK 18 (μ 538) (μ 546))) z F' A' N' T' V') (some 537) l1 l2 (l3 + 1) else some (l3, WM (setM μ 546 (cpK 18 (μ 538) (μ 546))) z F' A' N' T' V')) = r → mX2_dayEnds_l26 (g + 1) (E μ z) (some 537) l1 l2 l3 = r := by
      intro r hr9
      have et : mX2_isTooMuch 537 l3 l1 l2 (WM μ z (μ 537) (μ 538) (μ 543) (μ 545) (z.1 544)) = some (tmF l2 (sqW μ0 w) n 0, WM (setM μ 546 (cpK 18 (μ 538) (μ 546))) z F' A' N' T' V') := by
        unfold mX2_isTooMuch
        refine bind_step (recv_537 554 (by omega) _ _) ?_
        refine bind_step (cal_E begin_E) ?_
        refine bind_step (gR_537_0 554 (by omega) _ _) ?_
        refine bind_step (iasA (n := 14) rfl (by omega)) ?_
        refine bind_step (if_pos (Or.inr rfl)) ?_
        refine bind_step pfM_25 ?_
        rw [el]
        exact em
      show mX2_dayEnds_b26 _ _ _ _ _ _ = _
      unfold mX2_dayEnds_b26
      refine (if_neg (by rw [Int32.le_iff_toInt_le, hl]; show ¬ (10 : Int) ≤ _; omega)).trans ?_
      rw [WM_0 μ z]
      refine bind_step (recv_537 554 (by omega) _ _) ?_
      refine bind_step (calM et) ?_
      exact hr9
    unfold deF
    by_cases c : grF (sqW μ0 w) 1 n ≤ l2
    · have ct := (tm_gr (Xs := sqW μ0 w) hb.1 n).mpr c
      obtain ⟨μ', z', e, r1, r2⟩ := ih (w + 1) g (l3 + 1) _ _ hm1 hr1 (by omega) (by omega) (inc_I hl (by omega)) (by omega)
      refine ⟨μ', z', pre _ ?_, r1, r2⟩
      rw [if_pos ct, if_pos c]
      exact e
    · have ct : ¬ tmF l2 (sqW μ0 w) n 0 = 0 := fun q => c ((tm_gr hb.1 n).mp q)
      refine ⟨_, _, pre _ ?_, hm1, hr1⟩
      rw [if_neg ct, if_neg c, el]
theorem ow_dayEnds (L : Nat) (xs : Nat → Int32) : Ow_dayEnds (Inv (TX TT) L xs) := by
  intro n μ z a c hI
  obtain ⟨t, ht, ht9, hgo, hTc, hn1, h4, h2, hc7, hf25⟩ := Inv_q hI
  rcases inB_01 a 1 200 with hin | hin
  · refine Agr_ro hI (-1) ?_ ?_
    · show mX0_dayEnds 400 a c (E μ z) = _
      unfold mX0_dayEnds
      refine bind_step (cal_w (in_E _ _ _ _)) ?_
      exact if_pos hin
    · show mX2_dayEnds 537 a c (E μ z) = _
      unfold mX2_dayEnds
      refine bind_step (cal_w (isIn_E _ _ _ _)) ?_
      exact if_pos hin
  · have hn : ¬ inB a 1 200 = 0 := by rw [hin]; exact one_ne
    rcases inB_01 c 0 9999 with hic | hic
    · refine Agr_ro hI (-1) ?_ ?_
      · show mX0_dayEnds 400 a c (E μ z) = _
        unfold mX0_dayEnds
        refine bind_step (cal_w (in_E _ _ _ _)) ?_
        refine (if_neg hn).trans ?_
        refine bind_step (cal_w (in_E _ _ _ _)) ?_
        exact if_neg (fun q => q hic)
      · show mX2_dayEnds 537 a c (E μ z) = _
        unfold mX2_dayEnds
        refine bind_step (cal_w (isIn_E _ _ _ _)) ?_
        refine (if_neg hn).trans ?_
        refine bind_step (cal_w (isIn_E _ _ _ _)) ?_
        exact if_neg (fun q => q hic)
    · have hnc : ¬ inB c 0 9999 = 0 := by rw [hic]; exact one_ne
      have ba := inB_bd.mp hin
      have bc : bd c 0 9999 := inB_bd.mp hic
      have c1 : (1 : Int32).toInt = 1 := rfl
      have c200 : (200 : Int32).toInt = 200 := rfl
      obtain ⟨d, hd⟩ : ∃ d : Nat, a.toInt = (d : Int) := ⟨a.toInt.toNat, by have := ba.1; omega⟩
      have hd200 : d ≤ 200 := by have := ba.2; omega
      obtain ⟨μ1, e1, q1⟩ := dayEnds_C (μ0 := μ) (z := z) (l1 := a) (l2 := c) hTc hI.2.2.2.1.2.1 (Go_Gc hgo) (by omega) hd hd200 bc 9 1 FU 1 (up μ 400 7 1) (by omega) (by omega) rfl (by unfold FU; omega) ⟨fun k hk => setM_ne (by omega), fun j hj => by show setM μ 400 _ 400 j = _; rw [setM_same, upN (by omega)], by show setM μ 400 _ 400 7 = _; rw [setM_same, upd_eq], μ 403 6, by
          rw [show up μ 400 7 1 403 = μ 403 from setM_ne (by omega)]
          funext j
          unfold upd
          by_cases hj : j = 6
          · rw [if_pos hj, hj]
          · rw [if_neg hj]⟩
      have hs : setM μ 400 (upd (μ 400) 7 0) = μ := by
        funext k
        unfold setM
        by_cases hk : k = 400
        · rw [if_pos hk, hk]
          funext j
          unfold upd
          by_cases hj : j = 7
          · rw [if_pos hj, hj, hc7]
          · rw [if_neg hj]
        · rw [if_neg hk]
      rw [hs] at q1
      have e402 := q1.1 402 (by omega)
      have e403 := q1.1 403 (by omega)
      have e538 := q1.1 538 (by omega)
      have e537 := q1.1 537 (by omega)
      have e540 := q1.1 540 (by omega)
      have hT1 : Tc μ1 z := Tc_CFr (CQ_CFr (z := z) q1) hI.2.2.2.1.2.1 hTc
      have edF : ∀ q w, deF μ1 d c q w = deF μ d c q w := by
        intro q
        induction q with
        | zero => intro w; rfl
        | succ q ih =>
          intro w
          unfold deF sqW
          rw [ih, e540, e402, e403]
      obtain ⟨μ2, z2, e2, m1, m2⟩ := dayEnds_M (μ0 := μ1) (z0 := z) (X := μ 403) (A0 := μ 538) (l1 := a) (l2 := c) (t := t) (n := d) hT1.2.1 (by rw [e402]; exact hTc.2.2) hgo e403.symm (by rw [e402]; exact h4) hd hd200 (by omega) bc (by rw [e537]; exact hf25) 9 1 FU 1 μ1 z (MFr.refl μ1 z) (by rw [e538]; exact RgOk.refl t _) (by omega) (by omega) rfl (by unfold FU; omega)
      rw [edF] at e2
      refine Agr_q hI ht (deF μ d c 9 1) ?_ q1 ?_ m1 m2
      · show mX0_dayEnds 400 a c (E μ z) = _
        unfold mX0_dayEnds
        refine bind_step (cal_w (in_E _ _ _ _)) ?_
        refine (if_neg hn).trans ?_
        refine bind_step (cal_w (in_E _ _ _ _)) ?_
        refine (if_pos hnc).trans ?_
        refine bind_step (gR_400_0 554 (by omega) _ _) ?_
        refine bind_step (gR_401_1 554 (by omega) _ _) ?_
        refine bind_step (ia_E (n := 6) isI_403 rfl (by omega)) ?_
        refine bind_step (if_pos (Or.inr rfl)) ?_
        refine bind_step (pf_E isF_400_7) ?_
        exact e1
      · show mX2_dayEnds 537 a c (E μ1 z) = _
        unfold mX2_dayEnds
        refine bind_step (cal_w (isIn_E _ _ _ _)) ?_
        refine (if_neg hn).trans ?_
        refine bind_step (cal_w (isIn_E _ _ _ _)) ?_
        refine (if_pos hnc).trans ?_
        exact e2
