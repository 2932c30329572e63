/-! ===== tenths to come ===== -/
/-- of the model's row only what is kept of tenths to come has changed -/
def RgOk (t : Nat) (A A' : Nat → Int32) : Prop := (∀ i, (i < 602 ∨ 9818 ≤ i) → A' i = A i) ∧ ∀ u j, u < t → t ≤ u + 1300 → j < 6 → A' (602 + 6 * (u % 1536) + j) = A (602 + 6 * (u % 1536) + j)
theorem RgOk.refl (t : Nat) (A : Nat → Int32) : RgOk t A A := ⟨fun _ _ => rfl, fun _ _ _ _ _ => rfl⟩
theorem RgOk.trans {t : Nat} {A B C : Nat → Int32} (h1 : RgOk t A B) (h2 : RgOk t B C) : RgOk t A C := ⟨fun i hi => (h2.1 i hi).trans (h1.1 i hi), fun u j a b c => (h2.2 u j a b c).trans (h1.2 u j a b c)⟩
theorem PS_ring {n X A A' : Nat → Int32} {ord said bar step : Nat → Nat → Int32} {t : Nat} (ht : (X 8).toInt = (t : Int)) (hr : RgOk t A A') (h : PS n X ord said bar step A) : PS n X ord said bar step A' := by
  obtain ⟨⟨⟨a0, a1, a3, a4, a5, a6, a18⟩, b⟩, p2, p3, p4, ⟨f1, f2, f3, f4, f5, f6, f7⟩, ⟨rb, hh, g1⟩, p6⟩ := h
  obtain ⟨r1, r2⟩ := hr
  have h08 := b.1.2
  have h58 := b.2.2.2.2.2.1.2
  have h64 := b.2.2.2.2.2.2.2
  have h430 := b.2.2.2.2.1.2
  have hx12 := rb.2.2.2.2.2.2.2.2.2.2.2.2.2
  refine ⟨⟨⟨by rw [r1 0 (by omega)]; exact a0, by rw [r1 1 (by omega)]; exact a1, by rw [r1 3 (by omega)]; exact a3, by rw [r1 4 (by omega)]; exact a4, by rw [r1 5 (by omega)]; exact a5, by rw [r1 6 (by omega)]; exact a6, by rw [r1 18 (by omega)]; exact a18⟩, b⟩, P2_congr rfl h08 (fun i _ _ => r1 i (by omega)) p2, P3_congr rfl h58 (fun i _ _ => r1 i (by omega)) p3, P4_congr rfl h64 (fun i _ _ => r1 i (by omega)) p4,
    ⟨fun j hj => by rw [r1 _ (by omega)]; exact f1 j hj, by rw [r1 2 (by omega)]; exact f2, by rw [r1 17 (by omega)]; exact f3, by rw [r1 7 (by omega)]; exact f4, fun i hi j hj => by rw [r1 _ (by omega)]; exact f5 i hi j hj, fun o ho => by rw [r1 _ (by omega)]; exact f6 o ho, f7⟩,
    ⟨rb, HR_ring (fun u u1 u2 j hj => r2 u j (by omega) (by omega) hj) hh, g1⟩, fun q hq => ?_⟩
  obtain ⟨⟨d1, d1h, d1o⟩, d2, d3, d4, d5, d6, d7, d8, d9, d10, d11, d12⟩ := p6 q hq
  refine ⟨⟨d1, HR_ring (fun u u1 u2 j hj => r2 u j (by omega) (by omega) hj) d1h, d1o⟩, d2, fun j hj => ?_, ?_, ?_, ?_, ?_, d8, d9, d10, d11, d12⟩
  · rw [r1 _ (by omega)]; exact d3 j hj
  · rw [r1 _ (by omega)]; exact d4
  · rw [r1 _ (by omega)]; exact d5
  · rw [r1 _ (by omega)]; exact d6
  · rw [r1 _ (by omega)]; exact d7
/-- what a question leaves on the component's side -/
def CQ (μ μ1 : Mu) : Prop := (∀ k, (k ≤ 399 ∨ (401 ≤ k ∧ k ≤ 517) ∨ 537 ≤ k) → μ1 k = μ k) ∧ (∀ j, (j = 3 ∨ j = 4 ∨ j = 5 ∨ j = 7) → μ1 400 j = μ 400 j)
theorem CQ.refl (μ : Mu) : CQ μ μ := ⟨fun _ _ => rfl, fun _ _ => rfl⟩
theorem CQ.trans {μ μ1 μ2 : Mu} (h1 : CQ μ μ1) (h2 : CQ μ1 μ2) : CQ μ μ2 := ⟨fun k hk => (h2.1 k hk).trans (h1.1 k hk), fun j hj => (h2.2 j hj).trans (h1.2 j hj)⟩
theorem CQ_C {l : Nat} {μ μ1 : Mu} {C N X : Nat → Int32} (hl : 519 ≤ l ∧ l ≤ 536) (hC : ∀ j, (j = 3 ∨ j = 4 ∨ j = 5 ∨ j = 7) → C j = μ1 400 j) (h : CQ μ μ1) : CQ μ (fC μ1 l C N X) :=
  ⟨fun k hk => (fC_o (by omega) (by omega) (by omega)).trans (h.1 k hk), fun j hj => (hC j hj).trans (h.2 j hj)⟩
theorem CQ_set {l : Nat} {μ μ1 : Mu} {Y : Nat → Int32} (hl : 518 ≤ l ∧ l ≤ 536) (h : CQ μ μ1) : CQ μ (setM μ1 l Y) :=
  ⟨fun k hk => (setM_ne (by omega)).trans (h.1 k hk), fun j hj => by rw [setM_ne (by omega)]; exact h.2 j hj⟩
theorem CQ_CFr {μ μ1 : Mu} {z : Zt} (h : CQ μ μ1) : CFr 0 0 μ z μ1 z :=
  ⟨fun k k1 k2 => h.1 k (by omega), ⟨h.2 3 (by omega), h.2 4 (by omega), h.2 5 (by omega), h.2 7 (by omega)⟩, fun j hj => by rw [h.1 402 (by omega)], fun k k1 k2 => h.1 k (by omega), rfl, fun _ _ => rfl, by omega, by omega⟩
theorem Agr_q {ρ : Type} {L : Nat} {xs : Nat → Int32} {n t : Nat} {μ μ1 μ2 : Mu} {z z2 : Zt} {f g : Wd → Option (ρ × Wd)} (hI : Inv (TX TT) L xs n μ z) (ht : (μ 403 8).toInt = (t : Int)) (r : ρ) (hf : f (E μ z) = some (r, E μ1 z)) (hc : CQ μ μ1) (hg : g (E μ1 z) = some (r, E μ2 z2)) (hm : MFr μ1 z μ2 z2) (hr : RgOk t (μ 538) (μ2 538)) : Agr ρ (Inv (TX TT) L xs) n μ z f g := by
  obtain ⟨c1, c2⟩ := hc
  have hm' := hm
  obtain ⟨b1, b2, b3⟩ := hm'
  obtain ⟨h1, h2, h3, h4, h5⟩ := hI.next
  have e : ∀ k, 401 ≤ k → k ≤ 516 → μ2 k = μ k := fun k k1 k2 => (b1 k (by omega)).trans (c1 k (by omega))
  refine ⟨r, μ1, z, μ2, z2, hf, hg, ⟨Nat.le_refl _, Nat.le_refl _⟩, ⟨by rw [b3]; exact Nat.le_refl _, by rw [b3]; exact Nat.le_refl _⟩, rfl, ?_, RelS_congr (fun k k1 k2 => e k (by omega) (by omega)) ((b1 539 (by omega)).trans (c1 539 (by omega))) h2, RelT_fr (CQ_CFr (z := z) ⟨c1, c2⟩) hm h3, ?_, TX_ext ((b1 540 (by omega)).trans (c1 540 (by omega))) (by rw [e 402 (by omega) (by omega)]) (by rw [e 460 (by omega) (by omega)]) (by rw [b3]) (fun k _ => by rw [b3]) (by rw [b3]; exact Nat.le_refl _) h5⟩
  · have hps := PS_ring ht hr h1
    unfold RelS
    rw [show (401 + 1 : Nat) = 402 from rfl, show (401 + 2 : Nat) = 403 from rfl, e 402 (by omega) (by omega), e 403 (by omega) (by omega), fam_congr (μ := μ) (fun k hk => e _ (by omega) (by omega)), fam_congr (μ := μ) (b := 401 + 13) (fun k hk => e _ (by omega) (by omega)), fam_congr (μ := μ) (b := 401 + 22) (fun k hk => e _ (by omega) (by omega)), fam_congr (μ := μ) (b := 401 + 27) (fun k hk => e _ (by omega) (by omega))]
    exact hps
  · obtain ⟨z0, z5, z6, z7⟩ := h4
    exact ⟨fun k hk => by rw [b3]; exact z0 k hk, by rw [b3]; exact z5, by rw [b3]; exact z6, by rw [b3]; exact z7⟩
/-! the model's side: begin, putBack, tenths -/
section WM79
variable {μ : Mu} {z : Zt} {F A N T : Nat → Int32} {V : Nat → Int64}
def cpK (k : Nat) (A S : Nat → Int32) : Nat → Int32 := fun i => if i < k then A i else S i
theorem fM_546 {S : Nat → Int32} : setM (fM μ F A N T) 546 S = fM (setM μ 546 S) F A N T := by
  funext k
  unfold setM fM
  by_cases h : k = 546
  · rw [if_pos h, if_neg (by omega), if_neg (by omega), if_neg (by omega), if_neg (by omega)]
    exact (if_pos h).symm
  · simp only [if_neg h]
theorem setM_setM' {k : Nat} {f g : Nat → Int32} : setM (setM μ k f) k g = setM μ k g := by
  funext q
  unfold setM
  by_cases h : q = k
  · rw [if_pos h, if_pos h]
  · rw [if_neg h, if_neg h, if_neg h]
theorem begin_loop {S0 : Nat → Int32} : ∀ (d k fu : Nat) (l1 : Int32), 18 = k + d → l1.toInt = (k : Int) → d < fu →
    mX2_begin_l2 fu (WM (setM μ 546 (cpK k A S0)) z F A N T V) (some 537) l1 = some ((), WM (setM μ 546 (cpK 18 A S0)) z F A N T V) := by
  intro d
  induction d with
  | zero =>
    intro k fu l1 hd hl hf
    obtain ⟨g, rfl⟩ : ∃ g, fu = g + 1 := ⟨fu - 1, by omega⟩
    show mX2_begin_b2 _ _ _ _ = _
    unfold mX2_begin_b2
    refine (if_pos (by rw [Int32.le_iff_toInt_le, hl]; show (18 : Int) ≤ _; omega)).trans ?_
    rw [show k = 18 by omega]
  | succ d ih =>
    intro k fu l1 hd hl hf
    obtain ⟨g, rfl⟩ : ∃ g, fu = g + 1 := ⟨fu - 1, by omega⟩
    show mX2_begin_b2 _ _ _ _ = _
    unfold mX2_begin_b2
    refine (if_neg (by rw [Int32.le_iff_toInt_le, hl]; show ¬ (18 : Int) ≤ _; omega)).trans ?_
    refine bind_step (gR_537_26 554 (by omega) _ _) ?_
    refine bind_step (gR_537_0 554 (by omega) _ _) ?_
    refine bind_step (iaA (n := k) hl (by omega)) ?_
    refine bind_step (ias_E (n := k) isI_546 hl (by omega)) ?_
    have e : up (fM (setM μ 546 (cpK k A S0)) F A N T) 546 k (A k) = fM (setM μ 546 (cpK (k + 1) A S0)) F A N T := by
      show setM _ 546 (upd (fM (setM μ 546 (cpK k A S0)) F A N T 546) k (A k)) = _
      rw [fM_546, setM_setM', fM_o ⟨by omega, by omega, by omega, by omega⟩, setM_same]
      congr 2
      funext i
      unfold upd cpK
      by_cases hi : i = k
      · rw [if_pos hi, if_pos (by omega), hi]
      · rw [if_neg hi]
        by_cases h2 : i < k
        · rw [if_pos h2, if_pos (by omega)]
        · rw [if_neg h2, if_neg (by omega)]
    rw [e]
    exact ih (k + 1) g (l1 + 1) (by omega) (inc_I hl (by omega)) (by omega)
theorem begin_E : mX2_begin 537 (WM μ z F A N T V) = some ((), WM (setM μ 546 (cpK 18 A (μ 546))) z F A N T V) := by
  have e : setM μ 546 (cpK 0 A (μ 546)) = μ := by
    funext k
    unfold setM
    by_cases h : k = 546
    · rw [if_pos h, h]
      funext i
      unfold cpK
      rw [if_neg (by omega)]
    · rw [if_neg h]
  have h := begin_loop (μ := μ) (z := z) (F := F) (A := A) (N := N) (T := T) (V := V) (S0 := μ 546) 18 0 FU 0 (by omega) rfl (by unfold FU; omega)
  rw [e] at h
  exact h
theorem putBack_loop : ∀ (d k fu : Nat) (l1 : Int32), 18 = k + d → l1.toInt = (k : Int) → d < fu →
    mX2_putBack_l2 fu (WM μ z F (cpK k (μ 546) A) N T V) (some 537) l1 = some ((), WM μ z (upd F 25 0) (cpK 18 (μ 546) A) N T V) := by
  intro d
  induction d with
  | zero =>
    intro k fu l1 hd hl hf
    obtain ⟨g, rfl⟩ : ∃ g, fu = g + 1 := ⟨fu - 1, by omega⟩
    show mX2_putBack_b2 _ _ _ _ = _
    unfold mX2_putBack_b2
    refine (if_pos (by rw [Int32.le_iff_toInt_le, hl]; show (18 : Int) ≤ _; omega)).trans ?_
    refine bind_step (if_pos (Or.inl rfl)) ?_
    refine bind_step pfM_25 ?_
    rw [show k = 18 by omega]
  | succ d ih =>
    intro k fu l1 hd hl hf
    obtain ⟨g, rfl⟩ : ∃ g, fu = g + 1 := ⟨fu - 1, by omega⟩
    show mX2_putBack_b2 _ _ _ _ = _
    unfold mX2_putBack_b2
    refine (if_neg (by rw [Int32.le_iff_toInt_le, hl]; show ¬ (18 : Int) ≤ _; omega)).trans ?_
    refine bind_step (gR_537_0 554 (by omega) _ _) ?_
    refine bind_step (gR_537_26 554 (by omega) _ _) ?_
    refine bind_step (ia_E (n := k) isI_546 hl (by omega)) ?_
    rw [show fM μ F (cpK k (μ 546) A) N T 546 = μ 546 from fM_o ⟨by omega, by omega, by omega, by omega⟩]
    refine bind_step (iasA (n := k) hl (by omega)) ?_
    have e : upd (cpK k (μ 546) A) k (μ 546 k) = cpK (k + 1) (μ 546) A := by
      funext i
      unfold upd cpK
      by_cases hi : i = k
      · rw [if_pos hi, if_pos (by omega), hi]
      · rw [if_neg hi]
        by_cases h2 : i < k
        · rw [if_pos h2, if_pos (by omega)]
        · rw [if_neg h2, if_neg (by omega)]
    rw [e]
    exact ih (k + 1) g (l1 + 1) (by omega) (inc_I hl (by omega)) (by omega)
theorem putBack_E : mX2_putBack 537 (WM μ z F A N T V) = some ((), WM μ z (upd F 25 0) (cpK 18 (μ 546) A) N T V) := by
  have e : cpK 0 (μ 546) A = A := by
    funext i
    unfold cpK
    rw [if_neg (by omega)]
  have h := putBack_loop (μ := μ) (z := z) (F := F) (A := A) (N := N) (T := T) (V := V) 18 0 FU 0 (by omega) rfl (by unfold FU; omega)
  rw [e] at h
  exact h
end WM79
/-- what tenths from t0 on, k of them, leave of the model's row -/
def Rf (t0 k : Nat) (A0 A : Nat → Int32) : Prop := ∀ i, i ≠ 2 → (i < 8 ∨ 17 ≤ i ∨ i = 12 ∨ i = 13 ∨ i = 15) → (∀ u, t0 ≤ u → u < t0 + k → ¬ (602 + 6 * (u % 1536) ≤ i ∧ i < 602 + 6 * (u % 1536) + 6)) → A i = A0 i
theorem Rf.step {t0 k : Nat} {A0 A A' : Nat → Int32} (h : Rf t0 k A0 A) (h2 : ∀ i, i ≠ 2 → (i < 8 ∨ 17 ≤ i ∨ i = 12 ∨ i = 13 ∨ i = 15) → ¬ (602 + 6 * ((t0 + k) % 1536) ≤ i ∧ i < 602 + 6 * ((t0 + k) % 1536) + 6) → A' i = A i) : Rf t0 (k + 1) A0 A' :=
  fun i i2 hi hu => (h2 i i2 hi (hu (t0 + k) (by omega) (by omega))).trans (h i i2 hi (fun u u1 u2 => hu u u1 (by omega)))
theorem Rf.ok {t0 k : Nat} {A0 A S : Nat → Int32} (hk : k ≤ 230) (h : Rf t0 k A0 A) (hS : ∀ i, i < 18 → S i = A0 i) : RgOk t0 A0 (cpK 18 S A) := by
  refine ⟨fun i hi => ?_, fun u j u1 u2 hj => ?_⟩
  · unfold cpK
    by_cases h18 : i < 18
    · rw [if_pos h18]; exact hS i h18
    · rw [if_neg h18]
      exact h i (by omega) (by omega) (fun u _ _ => by omega)
  · unfold cpK
    rw [if_neg (by omega)]
    refine h _ (by omega) (by omega) (fun v v1 v2 => ?_)
    have m15 := mod1536 (t := v) (q := v - u) (by omega) (by omega) (by omega)
    rw [show v - (v - u) = u by omega] at m15
    omega
/-- the model's state within tenths to come -/
def Ml (t0 k : Nat) (μ : Mu) (t4 : Int32) (A0 X A : Nat → Int32) (calm : Int32) : Prop := Go (t0 + k) X A ∧ Rf t0 k A0 A ∧ A0 4 = t4 ∧ (calm = 0 → A 2 = X 9)
theorem Ml_pass {μ : Mu} {z : Zt} {F A N T A0 X : Nat → Int32} {V : Nat → Int64} {t0 k : Nat} {t4 c calm : Int32} (hT : TX TT μ z) (ha : -1 ≤ t4.toInt ∧ t4.toInt < (μ 402 2).toInt) (h9 : t0 + k < 1000000) (hF : F 25 = calm) (h : Ml t0 k μ t4 A0 X A calm) :
    ∃ F' A' N' T' V', mX2_pass 537 c (WM μ z F A N T V) = some ((), WM μ z F' A' N' T' V') ∧ (∀ i, i ≠ 21 → i ≠ 22 → F' i = F i) ∧ Ml t0 (k + 1) μ t4 A0 (tenF (μ 540) t4 calm X c) A' calm := by
  obtain ⟨g, rf, a4, a2⟩ := h
  have hA4 : A 4 = t4 := (rf 4 (by omega) (by omega) (fun u _ _ => by omega)).trans a4
  obtain ⟨F', A', N', T', V', e, x1, x2, x3, x4, x5⟩ := pass_rel (μ := μ) (z := z) (F := F) (A := A) (N := N) (T := T) (V := V) (c := c) hT ha hA4 (by rw [hF]; exact a2) h9 g
  rw [hF] at x2 x3 x5
  exact ⟨F', A', N', T', V', e, x1, Go_next h9 g x2 x4 x5, rf.step x4, a4, x3⟩
theorem Ml_hand {μ : Mu} {z : Zt} {F A N T A0 X : Nat → Int32} {V : Nat → Int64} {t0 k : Nat} {t4 a calm : Int32} (hT : TX TT μ z) (ha : -1 ≤ a.toInt ∧ a.toInt < (μ 402 2).toInt) (h9 : t0 + k < 1000000) (h : Ml t0 k μ t4 A0 X A calm) :
    ∃ T' V', mX2_commandNow 537 a (WM μ z F A N T V) = some (handF (μ 540) a X, WM μ z (fNow F A) A (nmM A N) T' V') := by
  obtain ⟨⟨g1, g2, g3, g4, g5⟩, -⟩ := h
  exact hand_rel hT ha g1 g2 g5 h9 g3 g4
theorem fNow_o {F A : Nat → Int32} {i : Nat} (h1 : i ≠ 21) (h2 : i ≠ 22) : fNow F A i = F i := by
  unfold fNow
  rw [upN h2, upN h1]
/-- a row that is tried: as now -/
theorem Go_ext {t : Nat} {X X' A : Nat → Int32} (h : ∀ j, j < 413 → X' j = X j) (hg : Go t X A) : Go t X' A := by
  obtain ⟨⟨r0, r1, r2, r3, r4, r5, r6, r7, r9⟩, g2, g3, g4, g5⟩ := hg
  refine ⟨⟨by rw [h 0 (by omega)]; exact r0, by rw [h 1 (by omega)]; exact r1, by rw [h 2 (by omega)]; exact r2, by rw [h 3 (by omega)]; exact r3, by rw [h 4 (by omega)]; exact r4, by rw [h 5 (by omega)]; exact r5, by rw [h 6 (by omega)]; exact r6, by rw [h 7 (by omega)]; exact r7, by rw [h 9 (by omega)]; exact r9⟩, fun j hj => by rw [h j (by omega)]; exact g2 j hj, fun q j q1 q2 q3 hj => ?_, fun q j q1 q2 q3 hj => ?_, by rw [h 8 (by omega)]; exact g5⟩
  · have := sixty (t - q)
    rw [h _ (by omega)]; exact g3 q j q1 q2 q3 hj
  · have := sixty (t - q)
    rw [h _ (by omega)]; exact g4 q j q1 q2 q3 hj
