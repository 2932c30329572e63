/-! ===== commands by codes: the model ===== -/
theorem digit_loop {i : Nat} {l2 : Int32} {w : Wd} (h2 : l2.toInt = (i : Int)) (hi : i < 100) : ∀ (d fu cc : Nat) (l3 l4 : Int32), l3.toInt = (cc : Int) → cc < 100000 → l4.toInt = ((i + d : Nat) : Int) → d < 100 → d < fu → mX2_digitOf_l7 fu w l2 l3 l4 = some (cmI (cc / 3 ^ d % 3), w) := by
  intro d
  induction d with
  | zero =>
    intro fu cc l3 l4 h3 hcc h4 hd hf
    obtain ⟨g, rfl⟩ : ∃ g, fu = g + 1 := ⟨fu - 1, by omega⟩
    obtain ⟨r, r1, r2⟩ := irmN (x := l3) (m := 3) (b := 3) h3 rfl (by omega) (by omega)
    show mX2_digitOf_b7 _ _ _ _ _ = _
    unfold mX2_digitOf_b7
    refine (if_pos (by rw [Int32.le_iff_toInt_le, h2, h4]; omega)).trans ?_
    refine bind_step r1 ?_
    rw [Nat.pow_zero, Nat.div_one, I_nat r2]
    rfl
  | succ d ih =>
    intro fu cc l3 l4 h3 hcc h4 hd hf
    obtain ⟨g, rfl⟩ : ∃ g, fu = g + 1 := ⟨fu - 1, by omega⟩
    have hdv := divN h3 (m := 3) (b := 3) rfl (by omega)
    have hle := Nat.div_le_self cc 3
    show mX2_digitOf_b7 _ _ _ _ _ = _
    unfold mX2_digitOf_b7
    refine (if_neg (by rw [Int32.le_iff_toInt_le, h2, h4]; omega)).trans ?_
    refine bind_step (idvF (by decide)) ?_
    have := ih g (cc / 3) (l3 / 3) (l4 + (-1)) hdv (by omega) (by rw [I32_small h4 (show (-1 : Int32).toInt = -1 from rfl) (by omega)]; omega) (by omega) (by omega)
    rw [this, Nat.div_div_eq_div_mul, Nat.pow_succ, Nat.mul_comm 3]
theorem digit_E {i n c : Nat} {a b e : Int32} {w : Wd} (ha : a.toInt = (c : Int)) (hb : b.toInt = (n : Int)) (he : e.toInt = (i : Int)) (hi : i < n) (hn : n ≤ 7) (hc : c < 100000) : mX2_digitOf a b e w = some (cmI (c / 3 ^ (n - 1 - i) % 3), w) := by
  unfold mX2_digitOf
  exact digit_loop he (by omega) (n - 1 - i) FU c a (b - 1) ha hc (by rw [I32_sub hb (show (1 : Int32).toInt = 1 from rfl) (by omega)]; omega) (by omega) (by unfold FU; omega)
theorem cmI_0 {d : Nat} (hd : d < 3) : cmI d = 0 ↔ d = 1 := by
  match d, hd with
  | 0, _ => exact ⟨fun h => absurd h (by decide), fun h => by omega⟩
  | 1, _ => exact ⟨fun _ => rfl, fun _ => rfl⟩
  | 2, _ => exact ⟨fun h => absurd h (by decide), fun h => by omega⟩
theorem many_loop {n c : Nat} {l0 l1 : Int32} {w : Wd} (h0 : l0.toInt = (c : Int)) (h1 : l1.toInt = (n : Int)) (hn : n ≤ 7) (hc : c < 100000) : ∀ (d i fu m : Nat) (l2 l3 : Int32), n = i + d → l2.toInt = (m : Int) → m ≤ i → l3.toInt = (i : Int) → d < fu → mX2_many_l4 fu w l0 l1 l2 l3 = some (Int32.ofNat (m + mny d c), w) := by
  intro d
  induction d with
  | zero =>
    intro i fu m l2 l3 hd h2 hm h3 hf
    obtain ⟨g, rfl⟩ : ∃ g, fu = g + 1 := ⟨fu - 1, by omega⟩
    show mX2_many_b4 _ _ _ _ _ _ = _
    unfold mX2_many_b4
    refine (if_pos (by rw [Int32.le_iff_toInt_le, h1, h3]; omega)).trans ?_
    rw [I_nat h2]
    rfl
  | succ d ih =>
    intro i fu m l2 l3 hd h2 hm h3 hf
    obtain ⟨g, rfl⟩ : ∃ g, fu = g + 1 := ⟨fu - 1, by omega⟩
    have hlt : c / 3 ^ d % 3 < 3 := Nat.mod_lt _ (by omega)
    have hdg := digit_E (w := w) h0 h1 h3 (by omega) hn hc
    rw [show n - 1 - i = d by omega] at hdg
    show mX2_many_b4 _ _ _ _ _ _ = _
    unfold mX2_many_b4
    refine (if_neg (by rw [Int32.le_iff_toInt_le, h1, h3]; omega)).trans ?_
    refine bind_step (cal_w hdg) ?_
    show _ = some (Int32.ofNat (m + (mny d c + (if c / 3 ^ d % 3 = 1 then 0 else 1))), w)
    by_cases q : c / 3 ^ d % 3 = 1
    · refine (if_neg (fun e => e ((cmI_0 hlt).mpr q))).trans ?_
      rw [if_pos q, Nat.add_zero]
      exact ih (i + 1) g m (l2 + 0) (l3 + 1) (by omega) (by rw [Int32.add_zero]; exact h2) (by omega) (inc_I h3 (by omega)) (by omega)
    · refine (if_pos (fun e => q ((cmI_0 hlt).mp e))).trans ?_
      rw [if_neg q, show m + (mny d c + 1) = m + 1 + mny d c by omega]
      exact ih (i + 1) g (m + 1) (l2 + 1) (l3 + 1) (by omega) (inc_I h2 (by omega)) (by omega) (inc_I h3 (by omega)) (by omega)
theorem many_E {n c : Nat} {a b : Int32} {w : Wd} (ha : a.toInt = (c : Int)) (hb : b.toInt = (n : Int)) (hn : n ≤ 7) (hc : c < 100000) : mX2_many a b w = some (Int32.ofNat (mny n c), w) := by
  unfold mX2_many
  have := many_loop (w := w) ha hb hn hc n 0 FU 0 0 0 (by omega) rfl (by omega) rfl (by unfold FU; omega)
  rw [Nat.zero_add] at this
  exact this
section WM89t
variable {μ : Mu} {z : Zt}
theorem comes_loop {t4 near l1 l2 : Int32} {X A0 : Nat → Int32} {t n c : Nat} (hT : TX TT μ z) (ha : -1 ≤ t4.toInt ∧ t4.toInt < (μ 402 2).toInt) (hnear : A0 1 = near) (h46 : ∀ i, i < 18 → μ 546 i = A0 i) (h9 : t < 20000) (hn : n ≤ 7) (hc : c < 100000) (h1 : l1.toInt = (c : Int)) (h2 : l2.toInt = (n : Int)) :
    ∀ (d k fu : Nat) (l3 : Int32) (F A N T : Nat → Int32) (V : Nat → Int64), n = k + d → l3.toInt = (k : Int) → d < fu → F 25 = 0 → Ml t k μ t4 A0 (xcF (μ 540) t4 X k (c / 3 ^ d)) A 0 →
    ∃ F' A' N' T' V', mX2_comesStill_l6 fu (WM μ z F A N T V) (some 537) l1 l2 l3 = some (hsF near (xcF (μ 540) t4 X n c), WM μ z F' A' N' T' V') ∧ (∀ i, i ≠ 21 → i ≠ 22 → F' i = F i) ∧ RgOk t A0 A' := by
  intro d
  induction d with
  | zero =>
    intro k fu l3 F A N T V hd h3 hf h25 hm
    obtain ⟨g, rfl⟩ : ∃ g, fu = g + 1 := ⟨fu - 1, by omega⟩
    have hkn : n = k := by omega
    rw [Nat.pow_zero, Nat.div_one] at hm
    have eh : hsF (A 1) (fun j => A (8 + j)) = hsF near (xcF (μ 540) t4 X n c) := by
      rw [show A 1 = near from (hm.2.1 1 (by omega) (by omega) (fun u _ _ => by omega)).trans hnear, hkn]
      exact hsF_congr (fun j hj => hm.1.2.1 j hj)
    refine ⟨upd F 25 0, cpK 18 (μ 546) A, N, T, V, ?_, fun i i1 i2 => ?_, hm.2.1.ok (by omega) h46⟩
    · show mX2_comesStill_b6 _ _ _ _ _ _ = _
      unfold mX2_comesStill_b6
      refine (if_pos (by rw [Int32.le_iff_toInt_le, h2, h3]; omega)).trans ?_
      refine bind_step (recv_537 554 (by omega) _ _) ?_
      refine bind_step (cal_w hsM_E) ?_
      refine bind_step (recv_537 554 (by omega) _ _) ?_
      refine bind_step (cal_E putBack_E) ?_
      rw [eh]
      rcases hsF_01 near (xcF (μ 540) t4 X n c) with q | q
      · rw [q]
        exact bind_step nok0 rfl
      · rw [q]
        exact bind_step nok1 rfl
    · by_cases q : i = 25
      · rw [q, upd_eq, h25]
      · exact upN q
  | succ d ih =>
    intro k fu l3 F A N T V hd h3 hf h25 hm
    obtain ⟨g, rfl⟩ : ∃ g, fu = g + 1 := ⟨fu - 1, by omega⟩
    have hdg := digit_E (w := WM μ z F A N T V) h1 h2 h3 (by omega) hn hc
    rw [show n - 1 - k = d by omega] at hdg
    obtain ⟨F2, A2, N2, T2, V2, e2, x1, x2⟩ := Ml_pass (F := F) (N := N) (T := T) (V := V) (c := cmI (c / 3 ^ d % 3)) hT ha (by omega) h25 hm
    have ex : tenF (μ 540) t4 0 (xcF (μ 540) t4 X k (c / 3 ^ (d + 1))) (cmI (c / 3 ^ d % 3)) = xcF (μ 540) t4 X (k + 1) (c / 3 ^ d) := by
      show _ = tenF (μ 540) t4 0 (xcF (μ 540) t4 X k (c / 3 ^ d / 3)) (cmI (c / 3 ^ d % 3))
      rw [Nat.div_div_eq_div_mul, Nat.pow_succ]
    rw [ex] at x2
    obtain ⟨F', A', N', T', V', e, w1, w2⟩ := ih (k + 1) g (l3 + 1) F2 A2 N2 T2 V2 (by omega) (inc_I h3 (by omega)) (by omega) (by rw [x1 25 (by omega) (by omega)]; exact h25) x2
    refine ⟨F', A', N', T', V', ?_, fun i i1 i2 => (w1 i i1 i2).trans (x1 i i1 i2), w2⟩
    show mX2_comesStill_b6 _ _ _ _ _ _ = _
    unfold mX2_comesStill_b6
    refine (if_neg (by rw [Int32.le_iff_toInt_le, h2, h3]; omega)).trans ?_
    refine bind_step (cal_w hdg) ?_
    refine bind_step (recv_537 554 (by omega) _ _) ?_
    refine bind_step (calM e2) ?_
    exact e
theorem comes_E {t4 near l1 l2 : Int32} {X F A N T : Nat → Int32} {V : Nat → Int64} {t n c : Nat} (hT : TX TT μ z) (ha : -1 ≤ t4.toInt ∧ t4.toInt < (μ 402 2).toInt) (hg : Go t X A) (h4 : A 4 = t4) (hA2 : A 2 = X 9) (hnear : A 1 = near) (h25 : F 25 = 0) (h9 : t < 20000) (hn : n ≤ 7) (hc : c < 3 ^ n) (h1 : l1.toInt = (c : Int)) (h2 : l2.toInt = (n : Int)) :
    ∃ S F' A' N' T' V', mX2_comesStill 537 l1 l2 (WM μ z F A N T V) = some (hsF near (xcF (μ 540) t4 X n c), WM (setM μ 546 S) z F' A' N' T' V') ∧ (∀ i, i ≠ 21 → i ≠ 22 → F' i = F i) ∧ RgOk t A A' := by
  have s540 : setM μ 546 (cpK 18 A (μ 546)) 540 = μ 540 := setM_ne (by omega)
  have s402 : setM μ 546 (cpK 18 A (μ 546)) 402 = μ 402 := setM_ne (by omega)
  have hc5 : c < 100000 := Nat.lt_of_lt_of_le hc (Nat.le_trans (Nat.pow_le_pow_right (by omega) hn) (by decide))
  obtain ⟨F', A', N', T', V', e, w1, w2⟩ := comes_loop (μ := setM μ 546 (cpK 18 A (μ 546))) (z := z) (t4 := t4) (near := near) (X := X) (A0 := A) (t := t) (TX_546 hT) (by rw [s402]; exact ha) hnear (fun i hi => by rw [setM_same]; exact if_pos hi) h9 hn hc5 h1 h2 n 0 FU 0 F A N T V (by omega) rfl (by unfold FU; omega) h25 (by
    rw [Nat.div_eq_of_lt hc]
    exact Ml_0 hg h4 hA2)
  rw [s540] at e
  refine ⟨cpK 18 A (μ 546), F', A', N', T', V', ?_, w1, w2⟩
  unfold mX2_comesStill
  refine bind_step (recv_537 554 (by omega) _ _) ?_
  refine bind_step (cal_E begin_E) ?_
  exact e
end WM89t
/-- the model's side of a search: what has not changed -/
def SM (μ0 : Mu) (z0 : Zt) (t : Nat) (A0 : Nat → Int32) (μ : Mu) (z : Zt) : Prop := MFr μ0 z0 μ z ∧ RgOk t A0 (μ 538)
/-- of the start of a search -/
def SM0 (μ0 : Mu) (z0 : Zt) (t : Nat) (A0 : Nat → Int32) : Prop := TX TT μ0 z0 ∧ (-1 ≤ (μ0 402 3).toInt ∧ (μ0 402 3).toInt < (μ0 402 2).toInt) ∧ Go t (μ0 403) A0 ∧ A0 4 = μ0 402 3 ∧ A0 2 = μ0 403 9 ∧ A0 1 = μ0 402 1 ∧ t < 20000 ∧ μ0 537 25 = 0
theorem comes_S {μ0 μ : Mu} {z0 z : Zt} {t n c : Nat} {A0 : Nat → Int32} {l1 l2 : Int32} (h0 : SM0 μ0 z0 t A0) (h : SM μ0 z0 t A0 μ z) (hn : n ≤ 7) (hc : c < 3 ^ n) (h1 : l1.toInt = (c : Int)) (h2 : l2.toInt = (n : Int)) : ∃ μ' z', mX2_comesStill 537 l1 l2 (E μ z) = some (hsF (μ0 402 1) (xq μ0 n c), E μ' z') ∧ SM μ0 z0 t A0 μ' z' := by
  obtain ⟨hT, ha, hg, h4, hA2, hA1, h9, h25⟩ := h0
  obtain ⟨hm, hr⟩ := h
  have m402 : μ 402 = μ0 402 := hm.1 402 (by omega)
  have m540 : μ 540 = μ0 540 := hm.1 540 (by omega)
  have f25 : μ 537 25 = 0 := (hm.2.1 25 (by omega)).trans h25
  obtain ⟨S, F', A', N', T', V', e, w1, w2⟩ := comes_E (μ := μ) (z := z) (t4 := μ0 402 3) (near := μ0 402 1) (X := μ0 403) (F := μ 537) (A := μ 538) (N := μ 543) (T := μ 545) (V := z.1 544) (TX_MFr hm hT) (by rw [m402]; exact ha) (Go_ring hg hr) (by rw [hr.1 4 (by omega)]; exact h4) (by rw [hr.1 2 (by omega)]; exact hA2) (by rw [hr.1 1 (by omega)]; exact hA1) f25 h9 hn hc h1 h2
  rw [← WM_0, m540] at e
  exact ⟨_, _, e, MFr_w hm (fun j hj => w1 j (by omega) (by omega)), RgOk.trans hr w2⟩
theorem calZ' {ρ : Type} {μ0 μ μ' : Mu} {z0 z z' : Zt} {t : Nat} {A0 : Nat → Int32} {f : Option (ρ × Wd)} {v : ρ} (h1 : SM μ0 z0 t A0 μ z) (h2 : SM μ0 z0 t A0 μ' z') (h : f = some (v, E μ' z')) : cal (E μ z) f = some (v, E μ' z') := cal_Z h (by rw [h1.1.2.2, h2.1.2.2]; exact Nat.le_refl _) (by rw [h1.1.2.2, h2.1.2.2]; exact Nat.le_refl _)
/-! ===== soonest ===== -/
/-- what is answered of the code c of n commands, v of them told -/
def ansC (i : Int32) (v : Int32) (n c : Nat) : Int32 := if ¬ i = -1 then (if Int32.ofNat n ≤ i then -2 else cmI (c / 3 ^ (n - 1 - i.toInt.toNat) % 3)) else v
def soF (H : Nat → Nat → Int32) (i : Int32) : Nat → Nat → Int32
  | 0, _ => -2
  | q + 1, n => match fcd (H n) (3 ^ n) 0 with
    | none => soF H i q (n + 1)
    | some c => ansC i (Int32.ofNat n) n c
abbrev hsQ (μ : Mu) : Nat → Nat → Int32 := fun n c => hsF (μ 402 1) (xq μ n c)
theorem hsQ_CQ {μ μ1 : Mu} (h : CQ μ μ1) : hsQ μ1 = hsQ μ := by
  unfold hsQ
  rw [CQ_xq h, h.1 402 (by omega)]
theorem pw7 {n : Nat} (hn : n ≤ 7) : 3 ^ n ≤ 2187 ∧ 0 < 3 ^ n := ⟨Nat.le_trans (Nat.pow_le_pow_right (by omega) hn) (by decide), Nat.pow_pos (by omega)⟩
/-- the component's answer, behind a search -/
theorem ans_C {μ0 μ μ' : Mu} {z : Zt} {n c : Nat} {i : Int32} {o : Option Nat} (hs : Sr μ0 μ μ' 0 n o) (ho : o = some c) (hi : -1 ≤ i.toInt) (h1 : ¬ i = -1) (hn : n ≤ 7) (h2 : ¬ Int32.ofNat n ≤ i) : ia (E μ' z) (some 529) i = some (cmI (c / 3 ^ (n - 1 - i.toInt.toNat) % 3)) := by
  have hne : i.toInt ≠ -1 := fun q => h1 (I32_eq (by rw [q]; rfl))
  rw [Int32.le_iff_toInt_le, tI (show n < 2 ^ 31 by omega)] at h2
  rw [ia_E (n := i.toInt.toNat) isI_529 (by omega) (by omega), hs.2.2.2 c ho i.toInt.toNat (by omega) (by omega)]
theorem soonest_C {μ0 : Mu} {z : Zt} {t : Nat} {i : Int32} (hT : Tc μ0 z) (hz : 554 ≤ z.2.2.2.1) (hg : Gc t (μ0 403)) (h9 : t < 20000) (h7 : μ0 400 7 = 0) (hi : -1 ≤ i.toInt) : ∀ (q n fu : Nat) (l2 : Int32) (μ : Mu), 8 = n + q → l2.toInt = (n : Int) → q < fu → CQ μ0 μ → Eq4 (μ0 403) (μ 521) →
    ∃ μ', mX0_soonest_l26 fu (E μ z) (some 400) i l2 = some (soF (hsQ μ0) i q n, E μ' z) ∧ CQ μ0 μ' := by
  intro q
  induction q with
  | zero =>
    intro n fu l2 μ hq h2 hf hc hX
    obtain ⟨g, rfl⟩ : ∃ g, fu = g + 1 := ⟨fu - 1, by omega⟩
    refine ⟨μ, ?_, hc⟩
    show mX0_soonest_b26 _ _ _ _ _ = _
    unfold mX0_soonest_b26
    exact if_pos (by rw [Int32.lt_iff_toInt_lt, h2]; show (7 : Int) < _; omega)
  | succ q ih =>
    intro n fu l2 μ hq h2 hf hc hX
    obtain ⟨g, rfl⟩ : ∃ g, fu = g + 1 := ⟨fu - 1, by omega⟩
    obtain ⟨μ1, e1, hs⟩ := stills_E (z := z) (n := n) hT hz hg h9 h7 (by omega) h2 n 0 0 10 0 μ (by omega) rfl (by omega) hc hX
    rw [Nat.zero_mul] at e1 hs
    have el : l2 = Int32.ofNat n := I_nat h2
    have pre : ∀ ρ : Option (Int32 × Wd), (if okF (fcd (hsQ μ0 n) (3 ^ n) 0) = 0 then mX0_soonest_l26 g (E μ1 z) (some 400) i (l2 + 1) else (if ¬ i = (-1) then (if l2 ≤ i then some ((-2), E μ1 z) else ((gR (E μ1 z) (some 400) 0 12).bind fun v3 => (ia (E μ1 z) v3 i).bind fun v4 => some (v4, E μ1 z))) else some (l2, E μ1 z))) = ρ → mX0_soonest_l26 (g + 1) (E μ z) (some 400) i l2 = ρ := by
      intro ρ hρ
      show mX0_soonest_b26 _ _ _ _ _ = _
      unfold mX0_soonest_b26
      refine (if_neg (by rw [Int32.lt_iff_toInt_lt, h2]; show ¬ (7 : Int) < _; omega)).trans ?_
      refine bind_step (recv_400 554 (by omega) _ _) ?_
      refine bind_step (cal_E e1) ?_
      exact hρ
    unfold soF
    cases hf1 : fcd (hsQ μ0 n) (3 ^ n) 0 with
    | none =>
      rw [hf1] at pre
      obtain ⟨μ', e, hq9⟩ := ih (n + 1) g (l2 + 1) μ1 (by omega) (inc_I h2 (by omega)) (by omega) hs.1 (by have := hs.2.1 0 (by omega); rw [show μ1 521 = μ 521 from this]; exact hX)
      exact ⟨μ', pre _ ((if_pos rfl).trans e), hq9⟩
    | some c =>
      rw [hf1] at pre
      refine ⟨μ1, pre _ ((if_neg one_ne).trans ?_), hs.1⟩
      show _ = some (ansC i (Int32.ofNat n) n c, E μ1 z)
      unfold ansC
      by_cases c1 : ¬ i = -1
      · rw [if_pos c1, if_pos c1, el]
        by_cases c2 : Int32.ofNat n ≤ i
        · rw [if_pos c2, if_pos c2]
        · rw [if_neg c2, if_neg c2]
          refine bind_step (gR_400_12 554 (by omega) _ _) ?_
          refine bind_step (ans_C hs hf1 hi c1 (by omega) c2) ?_
          rfl
      · rw [if_neg c1, if_neg c1, el]
theorem soonest_in {μ0 : Mu} {z0 : Zt} {t n : Nat} {A0 : Nat → Int32} {i l2 l3 : Int32} (h0 : SM0 μ0 z0 t A0) (hi : -1 ≤ i.toInt) (hn : n ≤ 7) (h2 : l2.toInt = ((3 ^ n : Nat) : Int)) (h3 : l3.toInt = (n : Int)) {k12 : Wd → Option Nat → Int32 → Int32 → Int32 → Option (Int32 × Wd)} : ∀ (m c fu : Nat) (l4 : Int32) (μ : Mu) (z : Zt), 3 ^ n = c + m → l4.toInt = (c : Int) → m < fu → SM μ0 z0 t A0 μ z →
    ∃ μ' z', SM μ0 z0 t A0 μ' z' ∧ mX2_soonest_l21 k12 fu (E μ z) (some 537) i l2 l3 l4 = (match fcd (hsQ μ0 n) m c with | none => k12 (E μ' z') (some 537) i (l2 * 3) (l3 + 1) | some c => some (ansC i (Int32.ofNat n) n c, E μ' z')) := by
  intro m
  induction m with
  | zero =>
    intro c fu l4 μ z hm h4 hf hs
    obtain ⟨g, rfl⟩ : ∃ g, fu = g + 1 := ⟨fu - 1, by omega⟩
    refine ⟨μ, z, hs, ?_⟩
    show mX2_soonest_b21 _ _ _ _ _ _ _ _ = _
    unfold mX2_soonest_b21
    exact if_pos (by rw [Int32.le_iff_toInt_le, h2, h4]; omega)
  | succ m ih =>
    intro c fu l4 μ z hm h4 hf hs
    obtain ⟨g, rfl⟩ : ∃ g, fu = g + 1 := ⟨fu - 1, by omega⟩
    have h16 : (μ 538 16).toInt = (t : Int) := by
      rw [hs.2.1 16 (by omega), h0.2.2.1.2.1 8 (by omega)]
      exact h0.2.2.1.2.2.2.2
    have p7 := pw7 hn
    obtain ⟨μ1, z1, e1, s1⟩ := comes_S h0 hs hn (by omega) h4 h3
    have el : l3 = Int32.ofNat n := I_nat h3
    have ec : l4.toInt = (c : Int) := h4
    have pre : ∀ ρ : Option (Int32 × Wd), (if ¬ hsQ μ0 n c = 0 then (if ¬ i = (-1) then (if l3 ≤ i then some ((-2), E μ1 z1) else ((cal (E μ1 z1) (mX2_digitOf l4 l3 i (E μ1 z1))).bind fun r5 => some (r5.1, r5.2))) else some (l3, E μ1 z1)) else mX2_soonest_l21 k12 g (E μ1 z1) (some 537) i l2 l3 (l4 + 1)) = ρ → mX2_soonest_l21 k12 (g + 1) (E μ z) (some 537) i l2 l3 l4 = ρ := by
      intro ρ hρ
      show mX2_soonest_b21 _ _ _ _ _ _ _ _ = _
      unfold mX2_soonest_b21
      refine (if_neg (by rw [Int32.le_iff_toInt_le, h2, h4]; omega)).trans ?_
      refine bind_step (gR_537_0 554 (by omega) _ _) ?_
      refine bind_step (ia_E (n := 16) isI_538 rfl (by omega)) ?_
      refine (if_neg (by rw [Int32.lt_iff_toInt_lt, h16]; show ¬ (t : Int) < 0; omega)).trans ?_
      refine bind_step (recv_537 554 (by omega) _ _) ?_
      refine bind_step (calZ' hs s1 e1) ?_
      exact hρ
    unfold fcd
    by_cases c1 : hsQ μ0 n c = 0
    · rw [if_pos c1]
      obtain ⟨μ', z', s2, e2⟩ := ih (c + 1) g (l4 + 1) μ1 z1 (by omega) (inc_I h4 (by omega)) (by omega) s1
      exact ⟨μ', z', s2, pre _ ((if_neg (fun q => q c1)).trans e2)⟩
    · rw [if_neg c1]
      refine ⟨μ1, z1, s1, pre _ ((if_pos c1).trans ?_)⟩
      show _ = some (ansC i (Int32.ofNat n) n c, E μ1 z1)
      unfold ansC
      by_cases c2 : ¬ i = -1
      · rw [if_pos c2, if_pos c2, el]
        by_cases c3 : Int32.ofNat n ≤ i
        · rw [if_pos c3, if_pos c3]
        · rw [if_neg c3, if_neg c3]
          have hne : i.toInt ≠ -1 := fun q => c2 (I32_eq (by rw [q]; rfl))
          rw [Int32.le_iff_toInt_le, tI (show n < 2 ^ 31 by omega)] at c3
          refine bind_step (cal_w (digit_E (i := i.toInt.toNat) (n := n) h4 (tI (by omega)) (by omega) (by omega) hn (by omega))) ?_
          rfl
      · rw [if_neg c2, if_neg c2, el]
theorem soonest_M {μ0 : Mu} {z0 : Zt} {t : Nat} {A0 : Nat → Int32} {i : Int32} (h0 : SM0 μ0 z0 t A0) (hi : -1 ≤ i.toInt) : ∀ (q n fu : Nat) (l2 l3 : Int32) (μ : Mu) (z : Zt), 8 = n + q → l2.toInt = ((3 ^ n : Nat) : Int) → l3.toInt = (n : Int) → q < fu → SM μ0 z0 t A0 μ z →
    ∃ μ' z', mX2_soonest_l12 fu (E μ z) (some 537) i l2 l3 = some (soF (hsQ μ0) i q n, E μ' z') ∧ SM μ0 z0 t A0 μ' z' := by
  intro q
  induction q with
  | zero =>
    intro n fu l2 l3 μ z hq h2 h3 hf hs
    obtain ⟨g, rfl⟩ : ∃ g, fu = g + 1 := ⟨fu - 1, by omega⟩
    refine ⟨μ, z, ?_, hs⟩
    show mX2_soonest_b12 _ _ _ _ _ _ = _
    unfold mX2_soonest_b12
    exact if_pos (by rw [Int32.le_iff_toInt_le, h3]; show (8 : Int) ≤ _; omega)
  | succ q ih =>
    intro n fu l2 l3 μ z hq h2 h3 hf hs
    obtain ⟨g, rfl⟩ : ∃ g, fu = g + 1 := ⟨fu - 1, by omega⟩
    have p7 := pw7 (show n ≤ 7 by omega)
    obtain ⟨μ1, z1, s1, e1⟩ := soonest_in (k12 := mX2_soonest_l12 g) h0 hi (show n ≤ 7 by omega) h2 h3 (3 ^ n) 0 FU 0 μ z (by omega) rfl (by unfold FU; omega) hs
    have pre : ∀ ρ : Option (Int32 × Wd), mX2_soonest_l21 (mX2_soonest_l12 g) FU (E μ z) (some 537) i l2 l3 0 = ρ → mX2_soonest_l12 (g + 1) (E μ z) (some 537) i l2 l3 = ρ := by
      intro ρ hρ
      show mX2_soonest_b12 _ _ _ _ _ _ = _
      unfold mX2_soonest_b12
      exact (if_neg (by rw [Int32.le_iff_toInt_le, h3]; show ¬ (8 : Int) ≤ _; omega)).trans hρ
    unfold soF
    cases hf1 : fcd (hsQ μ0 n) (3 ^ n) 0 with
    | none =>
      rw [hf1] at e1
      have h2' : (l2 * 3).toInt = ((3 ^ (n + 1) : Nat) : Int) := by
        rw [Nat.pow_succ]
        exact mulN h2 (b := 3) (y := 3) rfl (by omega)
      obtain ⟨μ', z', e, s2⟩ := ih (n + 1) g (l2 * 3) (l3 + 1) μ1 z1 (by omega) h2' (inc_I h3 (by omega)) (by omega) s1
      exact ⟨μ', z', pre _ (e1.trans e), s2⟩
    | some c =>
      rw [hf1] at e1
      exact ⟨μ1, z1, pre _ e1, s1⟩
theorem Inv_SM0 {L : Nat} {xs : Nat → Int32} {n t : Nat} {μ μ1 : Mu} {z : Zt} (hI : Inv (TX TT) L xs n μ z) (ht : (μ 403 8).toInt = (t : Int)) (hq : CQ μ μ1) : SM0 μ1 z t (μ 538) := by
  obtain ⟨t', ht', ht9, hgo, hTc, hn1, h4, h2, hc7, hf25⟩ := Inv_q hI
  have e : t' = t := by omega
  subst e
  have hT1 := Tc_CFr (CQ_CFr (z := z) hq) hI.2.2.2.1.2.1 hTc
  have e402 : μ1 402 = μ 402 := hq.1 402 (by omega)
  have e403 : μ1 403 = μ 403 := hq.1 403 (by omega)
  exact ⟨hT1.2.1, hT1.2.2, by rw [e403]; exact hgo, by rw [e402]; exact h4, by rw [e403]; exact h2, by rw [e402]; exact hn1, by omega, by rw [hq.1 537 (by omega)]; exact hf25⟩
theorem ow_soonest (L : Nat) (xs : Nat → Int32) : Ow_soonest (Inv (TX TT) L xs) := by
  intro n μ z i hI
  obtain ⟨t, ht, ht9, hgo, hTc, hn1, h4, h2, hc7, hf25⟩ := Inv_q hI
  have hz := hI.2.2.2.1.2.1
  have m1 : (-1 : Int32).toInt = -1 := rfl
  by_cases hi : (-1 : Int32) ≤ i
  · have hi' : -1 ≤ i.toInt := by rw [Int32.le_iff_toInt_le, m1] at hi; exact hi
    have ec := copy_E (p := 554) (μ := μ) (z := z) isI_403 (isI_521 0 (by omega)) (by omega) (by omega) (by omega)
    have c1 : CQ μ (setM μ 521 (va_cpy (μ 403) (μ 521) 0 0 413)) := CQ_set ⟨by omega, by omega⟩ (CQ.refl μ)
    obtain ⟨μ1, e1, hq⟩ := soonest_C (i := i) hTc hz (Go_Gc hgo) (by omega) hc7 hi' 8 0 FU 0 _ (by omega) rfl (by unfold FU; omega) c1 (fun j hj => by rw [setM_same, cpy413 hj])
    have f1 : mX0_soonest 400 i (E μ z) = some (soF (hsQ μ) i 8 0, E μ1 z) := by
      unfold mX0_soonest
      refine (if_pos hi).trans ?_
      refine bind_step (gR_400_0 554 (by omega) _ _) ?_
      refine bind_step (gR_401_1 554 (by omega) _ _) ?_
      refine bind_step (gR_400_11 554 (by omega) _ _) ?_
      refine bind_step (aa_E (n := 0) isA_520 rfl (by omega)) ?_
      refine bind_step (cal_E ec) ?_
      exact e1
    obtain ⟨μ2, z2, e2, s2⟩ := soonest_M (i := i) (Inv_SM0 hI ht hq) hi' 8 0 FU 1 0 μ1 z (by omega) rfl rfl (by unfold FU; omega) ⟨MFr.refl _ _, by rw [hq.1 538 (by omega)]; exact RgOk.refl _ _⟩
    rw [hsQ_CQ hq] at e2
    refine Agr_q hI ht _ f1 hq ?_ s2.1 s2.2
    show mX2_soonest 537 i (E μ1 z) = _
    unfold mX2_soonest
    exact (if_pos hi).trans e2
  · refine Agr_ro hI (-2) ?_ ?_
    · show mX0_soonest 400 i (E μ z) = _
      unfold mX0_soonest
      exact if_neg hi
    · show mX2_soonest 537 i (E μ z) = _
      unfold mX2_soonest
      exact if_neg hi
