/-! ===== how soon it hangs still by the hand: both sides ===== -/
/-- w tenths without commands, then by the hand -/
def wtF (tx : Nat → Int32) (t4 calm : Int32) (w : Nat) (X0 : Nat → Int32) : Nat → Nat → Int32
  | 0 => X0
  | k + 1 => tenF tx t4 calm (wtF tx t4 calm w X0 k) (if k + 1 ≤ w then 0 else handF tx t4 (wtF tx t4 calm w X0 k))
/-- the first tenth behind w that hangs still, of d from k on -/
def fsW (near : Int32) (w : Nat) (Xs : Nat → Nat → Int32) : Nat → Nat → Option Nat
  | 0, _ => none
  | d + 1, k => if k + 1 ≤ w then fsW near w Xs d (k + 1) else if hsF near (Xs (k + 1)) = 0 then fsW near w Xs d (k + 1) else some (k + 1)
theorem wt_c {tx : Nat → Int32} {t4 : Int32} {w k : Nat} {X : Nat → Int32} : bd (if k + 1 ≤ w then 0 else handF tx t4 X) (-1) 1 := by
  by_cases h : k + 1 ≤ w
  · rw [if_pos h]; exact ⟨by decide, by decide⟩
  · rw [if_neg h]; exact cmd_bd
theorem Gc_wt {tx : Nat → Int32} {t4 calm : Int32} {w t : Nat} {X0 : Nat → Int32} (h0 : Gc t X0) : ∀ k, t + k < 1000000 → Gc (t + k) (wtF tx t4 calm w X0 k) := by
  intro k
  induction k with
  | zero => intro _; exact h0
  | succ k ih => intro hk; exact Gc_next (t := t + k) (by omega) (ih (by omega))
theorem wt_congr {tx : Nat → Int32} {t4 calm : Int32} {w : Nat} {X X' : Nat → Int32} (e : Eq4 X X') : ∀ k, Eq4 (wtF tx t4 calm w X k) (wtF tx t4 calm w X' k) := by
  intro k
  induction k with
  | zero => exact e
  | succ k ih =>
    show Eq4 (tenF tx t4 calm (wtF tx t4 calm w X k) (if k + 1 ≤ w then 0 else handF tx t4 (wtF tx t4 calm w X k))) (tenF tx t4 calm (wtF tx t4 calm w X' k) (if k + 1 ≤ w then 0 else handF tx t4 (wtF tx t4 calm w X' k)))
    rw [handF_congr ih]
    exact ten_congr ih
theorem fs_congr {near : Int32} {w : Nat} {Xs Xs' : Nat → Nat → Int32} (e : ∀ k, Eq4 (Xs k) (Xs' k)) : ∀ d k, fsW near w Xs' d k = fsW near w Xs d k := by
  intro d
  induction d with
  | zero => intro k; rfl
  | succ d ih =>
    intro k
    unfold fsW
    rw [ih, hsF_4 (e (k + 1))]
theorem fs_bd {near : Int32} {w : Nat} {Xs : Nat → Nat → Int32} : ∀ d k j, fsW near w Xs d k = some j → k + 1 ≤ j ∧ j ≤ k + d ∧ w < j ∧ ¬ hsF near (Xs j) = 0 := by
  intro d
  induction d with
  | zero => intro k j h; cases h
  | succ d ih =>
    intro k j h
    unfold fsW at h
    by_cases c1 : k + 1 ≤ w
    · rw [if_pos c1] at h
      have := ih _ _ h
      exact ⟨by omega, by omega, this.2.2⟩
    · rw [if_neg c1] at h
      by_cases c2 : hsF near (Xs (k + 1)) = 0
      · rw [if_pos c2] at h
        have := ih _ _ h
        exact ⟨by omega, by omega, this.2.2⟩
      · rw [if_neg c2] at h
        cases h
        exact ⟨by omega, by omega, by omega, c2⟩
theorem fs_skip {near : Int32} {w : Nat} {Xs : Nat → Nat → Int32} : ∀ p k d, k + p = w → fsW near w Xs (d + p) k = fsW near w Xs d w := by
  intro p
  induction p with
  | zero => intro k d h; rw [show k = w by omega]; rfl
  | succ p ih =>
    intro k d h
    show fsW near w Xs (d + p + 1) k = _
    unfold fsW
    rw [if_pos (by omega)]
    have := ih (k + 1) d (by omega)
    rw [this]
    cases d <;> rfl
/-- of fewer tenths -/
theorem fs_lim {near : Int32} {w : Nat} {Xs : Nat → Nat → Int32} : ∀ d d' k, d' ≤ d → fsW near w Xs d' k = (match fsW near w Xs d k with | none => none | some j => if j ≤ k + d' then some j else none) := by
  intro d
  induction d with
  | zero =>
    intro d' k h
    rw [show d' = 0 by omega]
    rfl
  | succ d ih =>
    intro d' k h
    cases d' with
    | zero =>
      cases hf : fsW near w Xs (d + 1) k with
      | none => rfl
      | some j =>
        have := fs_bd _ _ _ hf
        show none = if j ≤ k + 0 then some j else none
        rw [if_neg (by omega)]
    | succ d' =>
      have h1 := ih d' (k + 1) (by omega)
      show fsW near w Xs (d' + 1) k = _
      unfold fsW
      by_cases c1 : k + 1 ≤ w
      · rw [if_pos c1, if_pos c1, h1]
        cases fsW near w Xs d (k + 1) with
        | none => rfl
        | some j =>
          show (if j ≤ k + 1 + d' then some j else none) = (if j ≤ k + (d' + 1) then some j else none)
          rw [show k + 1 + d' = k + (d' + 1) by omega]
      · rw [if_neg c1, if_neg c1]
        by_cases c2 : hsF near (Xs (k + 1)) = 0
        · rw [if_pos c2, if_pos c2, h1]
          cases fsW near w Xs d (k + 1) with
          | none => rfl
          | some j =>
            show (if j ≤ k + 1 + d' then some j else none) = (if j ≤ k + (d' + 1) then some j else none)
            rw [show k + 1 + d' = k + (d' + 1) by omega]
        · rw [if_neg c2, if_neg c2]
          show some (k + 1) = if k + 1 ≤ k + (d' + 1) then some (k + 1) else none
          rw [if_pos (by omega)]
/-- as the component answers -/
def stO (w : Nat) : Option Nat → Int32
  | none => -1
  | some j => Int32.ofNat (j - w)
theorem stillIn_loop {μ : Mu} {z : Zt} {C : Nat → Int32} {Xs : Nat → Nat → Int32} {y w t : Nat} {l3 calm t9 : Int32} (hT : Tc μ z) (hy : txtOf μ z t9 y) (h7 : C 7 = calm) (hG : ∀ k, k ≤ 300 → Gc (t + k) (Xs k)) (ht : t < 900000) (hXs : ∀ k, w ≤ k → Xs (k + 1) = tenF (μ 540) (μ 402 3) calm (Xs k) (handF (μ 540) t9 (Xs k))) : ∀ (d k fu : Nat) (l4 : Int32) (N : Nat → Int32), d = (l3.toInt - (k : Int)).toNat → w + k + d ≤ 300 → l4.toInt = ((k + 1 : Nat) : Int) → d < fu →
    ∃ N' X', mX0_stillIn_l3 fu (WC μ z 519 C N (Xs (w + k))) (some 400) (some 519) (some y) l3 l4 = some (stO w (fsW (μ 402 1) w Xs d (w + k)), WC μ z 519 C N' X') := by
  intro d
  induction d with
  | zero =>
    intro k fu l4 N hd hk h4 hf
    obtain ⟨g, rfl⟩ : ∃ g, fu = g + 1 := ⟨fu - 1, by omega⟩
    refine ⟨N, Xs (w + k), ?_⟩
    show mX0_stillIn_b3 _ _ _ _ _ _ _ = _
    unfold mX0_stillIn_b3
    exact if_pos (by rw [Int32.lt_iff_toInt_lt, h4]; omega)
  | succ d ih =>
    intro k fu l4 N hd hk h4 hf
    obtain ⟨g, rfl⟩ : ∃ g, fu = g + 1 := ⟨fu - 1, by omega⟩
    have hg := hG (w + k) (by omega)
    have e1 := handOf_E (C := C) (N := N) (t9 := t9) okl_519 hT hy hg.1 hg.2.2 (by omega) hg.2.1
    obtain ⟨N2, e2⟩ := tenth_E (C := C) (N := nmA (t + (w + k)) (Xs (w + k)) N) okl_519 hT hg.1 hg.2.2 (by omega) hg.2.1 (cmd_bd (tx := μ 540) (t := t9) (nv := nvX (Xs (w + k))) (ag := agX (Xs (w + k) 8).toInt.toNat ((Xs (w + k) 8).toInt.toNat - 60) (Xs (w + k))))
    rw [show cmdF (μ 540) t9 (nvX (Xs (w + k))) (agX (Xs (w + k) 8).toInt.toNat ((Xs (w + k) 8).toInt.toNat - 60) (Xs (w + k))) = handF (μ 540) t9 (Xs (w + k)) from rfl, h7, ← hXs (w + k) (by omega)] at e2
    have pre : ∀ r : Option (Int32 × Wd), (if hsF (μ 402 1) (Xs (w + k + 1)) = 0 then mX0_stillIn_l3 g (WC μ z 519 C N2 (Xs (w + k + 1))) (some 400) (some 519) (some y) l3 (l4 + 1) else some (l4, WC μ z 519 C N2 (Xs (w + k + 1)))) = r → mX0_stillIn_l3 (g + 1) (WC μ z 519 C N (Xs (w + k))) (some 400) (some 519) (some y) l3 l4 = r := by
      intro r hr
      show mX0_stillIn_b3 _ _ _ _ _ _ _ = _
      unfold mX0_stillIn_b3
      refine (if_neg (by rw [Int32.lt_iff_toInt_lt, h4]; omega)).trans ?_
      refine bind_step (recv_400 554 (by omega) _ _) ?_
      refine bind_step (cal_E e1) ?_
      refine bind_step (recv_400 554 (by omega) _ _) ?_
      refine bind_step (cal_E e2) ?_
      refine bind_step (recv_400 554 (by omega) _ _) ?_
      refine bind_step (cal_w (hangsStill_E okl_519)) ?_
      exact hr
    unfold fsW
    rw [if_neg (show ¬ w + k + 1 ≤ w by omega)]
    by_cases c : hsF (μ 402 1) (Xs (w + k + 1)) = 0
    · obtain ⟨N', X', e⟩ := ih (k + 1) g (l4 + 1) N2 (by omega) (by omega) (inc_I h4 (by omega)) (by omega)
      refine ⟨N', X', pre _ ?_⟩
      rw [if_pos c, if_pos c]
      exact e
    · refine ⟨N2, Xs (w + k + 1), pre _ ?_⟩
      rw [if_neg c, if_neg c]
      show some (l4, _) = some (Int32.ofNat (w + k + 1 - w), _)
      rw [I_nat h4, show w + k + 1 - w = k + 1 by omega]
/-- as the model answers: within 200 tenths -/
def stM : Option Nat → Int32
  | none => 200
  | some j => Int32.ofNat j
theorem stillBy_loop {μ : Mu} {z : Zt} {t4 l1 l2 near calm : Int32} {Xs : Nat → Nat → Int32} {A0 : Nat → Int32} {t w : Nat} (hXs : ∀ k, Xs (k + 1) = tenF (μ 540) t4 calm (Xs k) (if k + 1 ≤ w then 0 else handF (μ 540) l1 (Xs k))) (hT : TX TT μ z) (ha : -1 ≤ t4.toInt ∧ t4.toInt < (μ 402 2).toInt) (ha1 : -1 ≤ l1.toInt ∧ l1.toInt < (μ 402 2).toInt) (hnear : A0 1 = near) (h9 : t < 900000) (hw : w ≤ 60) (h2 : l2.toInt = (w : Int)) :
    ∀ (d k fu : Nat) (l3 : Int32) (F A N T : Nat → Int32) (V : Nat → Int64), 200 = k + d → l3.toInt = ((k + 1 : Nat) : Int) → d < fu → F 25 = calm → Ml t k μ t4 A0 (Xs k) A calm →
    ∃ F' A' N' T' V' k', mX2_stillBy_l2 fu (WM μ z F A N T V) (some 537) l1 l2 l3 = some (stM (fsW near w Xs d k), WM μ z F' A' N' T' V') ∧ (∀ i, i ≠ 21 → i ≠ 22 → F' i = F i) ∧ k' ≤ 200 ∧ Ml t k' μ t4 A0 (Xs k') A' calm ∧ (∀ j, fsW near w Xs d k = some j → k' = j) ∧ (fsW near w Xs d k = none → k' = 200) := by
  intro d
  induction d with
  | zero =>
    intro k fu l3 F A N T V hd h3 hf h25 hm
    obtain ⟨g, rfl⟩ : ∃ g, fu = g + 1 := ⟨fu - 1, by omega⟩
    refine ⟨F, A, N, T, V, k, ?_, fun _ _ _ => rfl, by omega, hm, (fun j h => by cases h), fun _ => by omega⟩
    show mX2_stillBy_b2 _ _ _ _ _ _ = _
    unfold mX2_stillBy_b2
    exact if_pos (by rw [Int32.lt_iff_toInt_lt, h3]; show (200 : Int) < _; omega)
  | succ d ih =>
    intro k fu l3 F A N T V hd h3 hf h25 hm
    obtain ⟨g, rfl⟩ : ∃ g, fu = g + 1 := ⟨fu - 1, by omega⟩
    have n200 : ¬ (200 : Int32) < l3 := by rw [Int32.lt_iff_toInt_lt, h3]; show ¬ (200 : Int) < _; omega
    have tail : ∀ (F1 N1 T1 : Nat → Int32) (V1 : Nat → Int64) (c : Int32), c = (if k + 1 ≤ w then 0 else handF (μ 540) l1 (Xs k)) → (∀ i, i ≠ 21 → i ≠ 22 → F1 i = F i) → ∃ F' A' N' T' V' k', mX2_stillBy_p24 (mX2_stillBy_l2 g) (WM μ z F1 A N1 T1 V1) (some 537) l1 l2 l3 c (some 537) = some (stM (fsW near w Xs (d + 1) k), WM μ z F' A' N' T' V') ∧ (∀ i, i ≠ 21 → i ≠ 22 → F' i = F i) ∧ k' ≤ 200 ∧ Ml t k' μ t4 A0 (Xs k') A' calm ∧ (∀ j, fsW near w Xs (d + 1) k = some j → k' = j) ∧ (fsW near w Xs (d + 1) k = none → k' = 200) := by
      intro F1 N1 T1 V1 c hc hF1
      subst hc
      obtain ⟨F2, A2, N2, T2, V2, e2, x1, x2⟩ := Ml_pass (F := F1) (N := N1) (T := T1) (V := V1) (c := if k + 1 ≤ w then 0 else handF (μ 540) l1 (Xs k)) hT ha (by omega) (by rw [hF1 25 (by omega) (by omega)]; exact h25) hm
      rw [← hXs k] at x2
      have hF2 : ∀ i, i ≠ 21 → i ≠ 22 → F2 i = F i := fun i i1 i2 => (x1 i i1 i2).trans (hF1 i i1 i2)
      have eh : hsF (A2 1) (fun j => A2 (8 + j)) = hsF near (Xs (k + 1)) := by
        rw [show A2 1 = near from (x2.2.1 1 (by omega) (by omega) (fun u _ _ => by omega)).trans hnear]
        exact hsF_congr (fun j hj => x2.1.2.1 j hj)
      obtain ⟨F', A', N', T', V', k', e, r1, r2, r3, r4, r5⟩ := ih (k + 1) g (l3 + 1) F2 A2 N2 T2 V2 (by omega) (inc_I h3 (by omega)) (by omega) (by rw [hF2 25 (by omega) (by omega)]; exact h25) x2
      by_cases c1 : k + 1 ≤ w
      · have ef : fsW near w Xs (d + 1) k = fsW near w Xs d (k + 1) := if_pos c1
        rw [ef]
        refine ⟨F', A', N', T', V', k', ?_, fun i i1 i2 => (r1 i i1 i2).trans (hF2 i i1 i2), r2, r3, r4, r5⟩
        unfold mX2_stillBy_p24
        refine bind_step (recv_537 554 (by omega) _ _) ?_
        refine bind_step (calM e2) ?_
        refine (if_pos (by rw [Int32.le_iff_toInt_le, h2, h3]; omega)).trans ?_
        exact e
      · by_cases c2 : hsF near (Xs (k + 1)) = 0
        · have ef : fsW near w Xs (d + 1) k = fsW near w Xs d (k + 1) := (if_neg c1).trans (if_pos c2)
          rw [ef]
          refine ⟨F', A', N', T', V', k', ?_, fun i i1 i2 => (r1 i i1 i2).trans (hF2 i i1 i2), r2, r3, r4, r5⟩
          unfold mX2_stillBy_p24
          refine bind_step (recv_537 554 (by omega) _ _) ?_
          refine bind_step (calM e2) ?_
          refine (if_neg (by rw [Int32.le_iff_toInt_le, h2, h3]; omega)).trans ?_
          refine bind_step (recv_537 554 (by omega) _ _) ?_
          refine bind_step (cal_w hsM_E) ?_
          rw [eh]
          exact (if_pos c2).trans e
        · have ef : fsW near w Xs (d + 1) k = some (k + 1) := (if_neg c1).trans (if_neg c2)
          rw [ef]
          refine ⟨F2, A2, N2, T2, V2, k + 1, ?_, hF2, by omega, x2, (fun j h => by cases h; rfl), (fun h => by cases h)⟩
          unfold mX2_stillBy_p24
          refine bind_step (recv_537 554 (by omega) _ _) ?_
          refine bind_step (calM e2) ?_
          refine (if_neg (by rw [Int32.le_iff_toInt_le, h2, h3]; omega)).trans ?_
          refine bind_step (recv_537 554 (by omega) _ _) ?_
          refine bind_step (cal_w hsM_E) ?_
          rw [eh]
          refine (if_neg c2).trans ?_
          rw [I_nat h3]
          rfl
    by_cases c1 : k + 1 ≤ w
    · obtain ⟨F', A', N', T', V', k', e, r⟩ := tail F N T V 0 (by rw [if_pos c1]) (fun _ _ _ => rfl)
      refine ⟨F', A', N', T', V', k', ?_, r⟩
      show mX2_stillBy_b2 _ _ _ _ _ _ = _
      unfold mX2_stillBy_b2
      refine (if_neg n200).trans ?_
      refine (if_neg (by rw [Int32.lt_iff_toInt_lt, h2, h3]; omega)).trans ?_
      exact e
    · obtain ⟨T1, V1, e1⟩ := Ml_hand (F := F) (N := N) (T := T) (V := V) (a := l1) hT ha1 (by omega) hm
      obtain ⟨F', A', N', T', V', k', e, r⟩ := tail (fNow F A) (nmM A N) T1 V1 (handF (μ 540) l1 (Xs k)) (by rw [if_neg c1]) (fun i i1 i2 => fNow_o i1 i2)
      refine ⟨F', A', N', T', V', k', ?_, r⟩
      show mX2_stillBy_b2 _ _ _ _ _ _ = _
      unfold mX2_stillBy_b2
      refine (if_neg n200).trans ?_
      refine (if_pos (by rw [Int32.lt_iff_toInt_lt, h2, h3]; omega)).trans ?_
      refine bind_step (recv_537 554 (by omega) _ _) ?_
      refine bind_step (calM e1) ?_
      exact e
/-- as goneBy answers -/
def gbO : Option Nat → Int32
  | none => 100000000
  | some j => Int32.ofNat j
theorem goneBy_E {μ : Mu} {z : Zt} {t4 l2 near calm : Int32} {Xs : Nat → Nat → Int32} {A0 F A N T : Nat → Int32} {V : Nat → Int64} {t w : Nat} (hXs : ∀ k, Xs (k + 1) = tenF (μ 540) t4 calm (Xs k) (if k + 1 ≤ w then 0 else handF (μ 540) t4 (Xs k))) (hT : TX TT μ z) (ha : -1 ≤ t4.toInt ∧ t4.toInt < (μ 402 2).toInt) (hnear : A0 1 = near) (h9 : t < 900000) (hw : w ≤ 60) (h2 : l2.toInt = (w : Int)) (h25 : F 25 = calm) (hm : Ml t 0 μ t4 A0 (Xs 0) A calm) :
    ∃ F' A' N' T' V' k', mX2_goneBy 537 l2 (WM μ z F A N T V) = some (gbO (fsW near w Xs 200 0), WM μ z F' A' N' T' V') ∧ (∀ i, i ≠ 21 → i ≠ 22 → F' i = F i) ∧ k' ≤ 200 ∧ Ml t k' μ t4 A0 (Xs k') A' calm := by
  obtain ⟨F', A', N', T', V', k', e, r1, r2, r3, r4, r5⟩ := stillBy_loop (l1 := t4) (l2 := l2) hXs hT ha ha hnear h9 hw h2 200 0 FU 1 F A N T V (by omega) rfl (by unfold FU; omega) h25 hm
  refine ⟨F', A', N', T', V', k', ?_, r1, r2, r3⟩
  have a4 : A 4 = t4 := (hm.2.1 4 (by omega) (by omega) (fun u _ _ => by omega)).trans hm.2.2.1
  have eh : hsF (A' 1) (fun j => A' (8 + j)) = hsF near (Xs k') := by
    rw [show A' 1 = near from (r3.2.1 1 (by omega) (by omega) (fun u _ _ => by omega)).trans hnear]
    exact hsF_congr (fun j hj => r3.1.2.1 j hj)
  unfold mX2_goneBy mX2_stillBy
  refine bind_step (gR_537_0 554 (by omega) _ _) ?_
  refine bind_step (iaA (n := 4) rfl (by omega)) ?_
  rw [a4]
  refine bind_step (recv_537 554 (by omega) _ _) ?_
  refine bind_step (calM e) ?_
  cases hf : fsW near w Xs 200 0 with
  | none =>
    refine (if_neg (fun q => q rfl)).trans ?_
    refine bind_step (recv_537 554 (by omega) _ _) ?_
    refine bind_step (cal_w hsM_E) ?_
    rw [eh, r5 hf]
    have h0 : hsF near (Xs 200) = 0 := by
      refine Decidable.byContradiction (fun hne => ?_)
      have hl := fs_lim (near := near) (w := w) (Xs := Xs) 200 199 0 (by omega)
      have key : ∀ d k, k + d = 200 → 1 ≤ d → fsW near w Xs d k ≠ none := by
        intro d
        induction d with
        | zero => intro k _ h1; omega
        | succ d ih =>
          intro k hk _ hn
          unfold fsW at hn
          by_cases c1 : k + 1 ≤ w
          · rw [if_pos c1] at hn
            exact ih (k + 1) (by omega) (by omega) hn
          · rw [if_neg c1] at hn
            by_cases c2 : hsF near (Xs (k + 1)) = 0
            · rw [if_pos c2] at hn
              by_cases d0 : d = 0
              · rw [show k + 1 = 200 by omega] at c2
                exact hne c2
              · exact ih (k + 1) (by omega) (by omega) hn
            · rw [if_neg c2] at hn
              cases hn
      exact key 200 0 (by omega) (by omega) hf
    exact if_neg (fun q => q h0)
  | some j =>
    have hb := fs_bd _ _ _ hf
    by_cases c : Int32.ofNat j = 200
    · refine (if_neg (fun q => q c)).trans ?_
      refine bind_step (recv_537 554 (by omega) _ _) ?_
      refine bind_step (cal_w hsM_E) ?_
      rw [eh, r4 j hf]
      refine (if_pos hb.2.2.2).trans ?_
      rfl
    · refine (if_pos c).trans ?_
      rfl
