/-! ===== steps kept and taken back ===== -/
def orB (v : Int32) : Nat → Int32
  | 0 => 0
  | o + 1 => orB v o ||| (bitAt v o <<< Int32.ofNat o)
theorem orB_256 : ∀ k : Fin 256, orB (Int32.ofNat k.val) 8 = Int32.ofNat k.val := by decide +kernel
theorem shl_0 : ∀ o : Fin 8, (0 : Int32) <<< Int32.ofNat o.val = 0 := by decide +kernel
theorem and_31 : ∀ o : Fin 8, (Int32.ofNat o.val) &&& 31 = Int32.ofNat o.val := by decide +kernel
theorem orB_n {v : Int32} {n : Nat} (hz : ∀ o, o < 8 → n ≤ o → bitAt v o = 0) : ∀ d, n + d ≤ 8 → orB v (n + d) = orB v n := by
  intro d
  induction d with
  | zero => intro _; rfl
  | succ d ih =>
    intro h
    show orB v (n + d) ||| (bitAt v (n + d) <<< Int32.ofNat (n + d)) = _
    rw [hz (n + d) (by omega) (by omega), shl_0 ⟨n + d, by omega⟩, ih (by omega), Int32.or_zero]
theorem orB_all {v : Int32} {n : Nat} (hv : bd v 0 255) (hn : n ≤ 8) (hz : ∀ o, o < 8 → n ≤ o → bitAt v o = 0) : orB v n = v := by
  have h8 := orB_n hz (8 - n) (by omega)
  rw [show n + (8 - n) = 8 by omega] at h8
  have e : v = Int32.ofNat v.toInt.toNat := I32_eq (by rw [tI (by have := hv.2; have := hv.1; omega)]; have := hv.1; omega)
  rw [← h8, e]
  exact orB_256 ⟨v.toInt.toNat, by have := hv.2; have := hv.1; omega⟩
theorem I_nat {i : Int32} {n : Nat} (h : i.toInt = (n : Int)) : i = Int32.ofNat n := I32_eq (by rw [h, tI (by have := Int32.toInt_lt i; omega)])
/-! the component's side -/
theorem keeps_p52 {μ : Mu} {z : Zt} {k : Nat} (hk : (μ 402 4).toInt = (k : Int)) (h30 : k < 30) : mX1_keeps_p52 (E μ z) (some 401) = some ((), E (setM (setM μ (428 + k) (va_cpy (μ 403) (μ (428 + k)) 0 0 413)) 402 (upd (μ 402) 4 (μ 402 4 + 1))) z) := by
  have e4 : setM μ (428 + k) (va_cpy (μ 403) (μ (428 + k)) 0 0 413) 402 = μ 402 := setM_ne (by omega)
  unfold mX1_keeps_p52
  refine bind_step (gR_401_1 554 (by omega) _ _) ?_
  refine bind_step (gR_401_5 554 (by omega) _ _) ?_
  refine bind_step (gR_401_0 554 (by omega) _ _) ?_
  refine bind_step (ia_E (n := 4) isI_402 rfl (by omega)) ?_
  refine bind_step (aa_E (n := k) isA_427 hk (by omega)) ?_
  refine bind_step (cal_E (copy_E isI_403 (isI_428 k h30) (by omega) (by omega) (by omega))) ?_
  refine bind_step (gR_401_0 554 (by omega) _ _) ?_
  refine bind_step (ia_E (n := 4) isI_402 rfl (by omega)) ?_
  refine bind_step (ias_E (n := 4) isI_402 rfl (by omega)) ?_
  unfold up
  rw [e4]
/-- what keeping a step does to the component's State -/
def Kp (μ μ' : Mu) (k : Nat) : Prop := (∀ q, q ≠ 402 → (q < 428 ∨ 458 ≤ q) → μ' q = μ q) ∧ (∀ j, j ≠ 4 → μ' 402 j = μ 402 j) ∧
  (k < 30 → (μ' 402 4).toInt = ((k + 1 : Nat) : Int) ∧ (∀ i, i < 30 → i ≠ k → ∀ j, j < 413 → μ' (428 + i) j = μ (428 + i) j) ∧ ∀ j, j < 413 → μ' (428 + k) j = μ 403 j) ∧
  (k = 30 → (μ' 402 4).toInt = 30 ∧ (∀ i, i < 29 → ∀ j, j < 413 → μ' (428 + i) j = μ (429 + i) j) ∧ ∀ j, j < 413 → μ' 457 j = μ 403 j)
theorem cpy413 {f g : Nat → Int32} {j : Nat} (h : j < 413) : va_cpy f g 0 0 413 j = f j := by
  unfold va_cpy
  rw [if_pos ⟨by omega, by omega⟩]
  congr 1
  omega
theorem keeps_loop {μ0 : Mu} {z : Zt} (hk : (μ0 402 4).toInt = 30) : ∀ (d i fu : Nat) (l1 : Int32) (μ : Mu), 30 = i + d → 1 ≤ i → l1.toInt = (i : Int) → d < fu → (∀ q, (q < 428 ∨ 458 ≤ q) → μ q = μ0 q) → (∀ q, q + 1 < i → ∀ j, j < 413 → μ (428 + q) j = μ0 (429 + q) j) → (∀ q, i ≤ q + 1 → q < 30 → μ (428 + q) = μ0 (428 + q)) →
    ∃ μ', mX1_keeps_l13 fu (E μ z) (some 401) l1 = some ((), E μ' z) ∧ Kp μ0 μ' 30 := by
  intro d
  induction d with
  | zero =>
    intro i fu l1 μ hi h1 hl hf hA hB hC
    obtain ⟨g, rfl⟩ : ∃ g, fu = g + 1 := ⟨fu - 1, by omega⟩
    have e402 := hA 402 (by omega)
    have e29 : (μ 402 4 - 1).toInt = ((29 : Nat) : Int) := by
      rw [e402]
      exact subN (x := 30) (y := 1) hk rfl (by omega) (by omega)
    have e402b : up μ 402 4 (μ 402 4 - 1) 402 = upd (μ 402) 4 (μ 402 4 - 1) := setM_same _ _ _
    have e402c : up μ 402 4 (μ 402 4 - 1) 402 4 = μ 402 4 - 1 := by rw [e402b, upd_eq]
    have eo : ∀ q, q ≠ 402 → up μ 402 4 (μ 402 4 - 1) q = μ q := fun q hq => setM_ne hq
    have hp := keeps_p52 (μ := up μ 402 4 (μ 402 4 - 1)) (z := z) (k := 29) (by rw [e402c]; exact e29) (by omega)
    refine ⟨setM (setM (up μ 402 4 (μ 402 4 - 1)) 457 (va_cpy (μ 403) (μ 457) 0 0 413)) 402 (upd (upd (μ 402) 4 (μ 402 4 - 1)) 4 (μ 402 4 - 1 + 1)), ?_, ?_⟩
    · show mX1_keeps_b13 _ _ _ _ = _
      unfold mX1_keeps_b13
      refine (if_pos (by rw [Int32.le_iff_toInt_le, hl]; show (30 : Int) ≤ _; omega)).trans ?_
      refine bind_step (gR_401_0 554 (by omega) _ _) ?_
      refine bind_step (ia_E (n := 4) isI_402 rfl (by omega)) ?_
      refine bind_step (ias_E (n := 4) isI_402 rfl (by omega)) ?_
      rw [hp, e402c, e402b, eo 403 (by omega), eo (428 + 29) (by omega)]
    · refine ⟨fun q q1 q2 => ?_, fun j hj => ?_, fun h => absurd h (by omega), fun _ => ⟨?_, fun i' hi' j hj => ?_, fun j hj => ?_⟩⟩
      · rw [setM_ne q1, setM_ne (by omega), eo q q1]
        exact hA q q2
      · rw [setM_same, upd_ne hj, upd_ne hj, e402]
      · rw [setM_same, upd_eq, inc_I e29 (by omega)]
        rfl
      · rw [setM_ne (by omega), setM_ne (by omega), eo _ (by omega)]
        exact hB i' (by omega) j hj
      · rw [setM_ne (by omega), setM_same, cpy413 hj, hA 403 (by omega)]
  | succ d ih =>
    intro i fu l1 μ hi h1 hl hf hA hB hC
    obtain ⟨g, rfl⟩ : ∃ g, fu = g + 1 := ⟨fu - 1, by omega⟩
    have es : ∀ Y, setM μ (428 + (i - 1)) Y (428 + (i - 1)) = Y := fun Y => setM_same _ _ _
    obtain ⟨μ', e, hK⟩ := ih (i + 1) g (l1 + 1) (setM μ (428 + (i - 1)) (va_cpy (μ (428 + i)) (μ (428 + (i - 1))) 0 0 413)) (by omega) (by omega) (inc_I hl (by omega)) (by omega)
      (fun q hq => by rw [setM_ne (by omega)]; exact hA q hq)
      (fun q hq j hj => by
        by_cases hqi : q = i - 1
        · subst hqi
          rw [es, cpy413 hj, hC i (by omega) (by omega), show 429 + (i - 1) = 428 + i by omega]
        · rw [setM_ne (by omega)]
          exact hB q (by omega) j hj)
      (fun q q1 q2 => by rw [setM_ne (by omega)]; exact hC q (by omega) q2)
    refine ⟨μ', ?_, hK⟩
    show mX1_keeps_b13 _ _ _ _ = _
    unfold mX1_keeps_b13
    refine (if_neg (by rw [Int32.le_iff_toInt_le, hl]; show ¬ (30 : Int) ≤ _; omega)).trans ?_
    refine bind_step (gR_401_5 554 (by omega) _ _) ?_
    refine bind_step (aa_E (n := i) isA_427 hl (by omega)) ?_
    refine bind_step (gR_401_5 554 (by omega) _ _) ?_
    refine bind_step (aa_E (n := i - 1) isA_427 (subN (y := 1) hl rfl (by omega) (by omega)) (by omega)) ?_
    refine bind_step (cal_E (copy_E (isI_428 i (by omega)) (isI_428 (i - 1) (by omega)) (by omega) (by omega) (by omega))) ?_
    exact e
theorem keeps_E {μ : Mu} {z : Zt} {k : Nat} (hk : (μ 402 4).toInt = (k : Int)) (h30 : k ≤ 30) : ∃ μ', mX1_keeps 401 (E μ z) = some ((), E μ' z) ∧ Kp μ μ' k := by
  by_cases h : k = 30
  · subst h
    obtain ⟨μ', e, hK⟩ := keeps_loop (z := z) hk 29 1 FU 1 μ (by omega) (by omega) rfl (by unfold FU; omega) (fun _ _ => rfl) (fun q hq => absurd hq (by omega)) (fun _ _ _ => rfl)
    refine ⟨μ', ?_, hK⟩
    unfold mX1_keeps
    refine bind_step (gR_401_0 554 (by omega) _ _) ?_
    refine bind_step (ia_E (n := 4) isI_402 rfl (by omega)) ?_
    refine (if_neg (fun q => q (I32_eq hk))).trans ?_
    exact e
  · refine ⟨setM (setM μ (428 + k) (va_cpy (μ 403) (μ (428 + k)) 0 0 413)) 402 (upd (μ 402) 4 (μ 402 4 + 1)), ?_, ?_⟩
    · unfold mX1_keeps
      refine bind_step (gR_401_0 554 (by omega) _ _) ?_
      refine bind_step (ia_E (n := 4) isI_402 rfl (by omega)) ?_
      refine (if_pos (fun q => by rw [q] at hk; have : (30 : Int32).toInt = 30 := rfl; omega)).trans ?_
      exact keeps_p52 hk (by omega)
    · refine ⟨fun q q1 q2 => ?_, fun j hj => ?_, fun _ => ⟨?_, fun i hi hik j hj => ?_, fun j hj => ?_⟩, fun q => absurd q h⟩
      · rw [setM_ne q1, setM_ne (by omega)]
      · rw [setM_same, upd_ne hj]
      · rw [setM_same, upd_eq]
        exact inc_I hk (by omega)
      · rw [setM_ne (by omega), setM_ne (by omega)]
      · rw [setM_ne (by omega), setM_same, cpy413 hj]
/-! the model's side -/
section WM70
variable {μ : Mu} {z : Zt} {F A N T : Nat → Int32} {V : Nat → Int64}
theorem get_E {i j : Int32} {o w : Nat} (hi : i.toInt = (o : Int)) (hj : j.toInt = (w : Int)) (ho : o < 8) (hw : w < 6) : mX2_get 537 i j (WM μ z F A N T V) = some (A (20 + 6 * o + w), WM μ z F A N T V) := by
  unfold mX2_get
  refine bind_step (gR_537_0 554 (by omega) _ _) ?_
  refine bind_step (iaA (n := 20 + 6 * o + w) (addN (addN (x := 20) rfl (mulN (x := 6) rfl hi (by omega)) (by omega)) hj (by omega)) (by omega)) ?_
  rfl
/-- bits of orders, as the model gathers them -/
def orA (A : Nat → Int32) : Nat → Int32
  | 0 => 0
  | o + 1 => orA A o ||| (A (25 + 6 * o) <<< Int32.ofNat o)
theorem keep_l141 {x n0 : Nat} {l1 : Int32} {A0 : Nat → Int32} (h1 : l1.toInt = (x : Int)) (hx : 84 ≤ x) (hx2 : x + 13 ≤ 474) (h0 : (A0 0).toInt = (n0 : Int)) (h8 : n0 ≤ 8) : ∀ (d o fu : Nat) (l2 : Int32), n0 = o + d → l2.toInt = (o : Int) → d < fu →
    mX2_keep_l141 fu (WM μ z F (upd A0 (x + 12) (orA A0 o)) N T V) (some 537) l1 l2 = some ((), WM μ z F (upd (upd A0 (x + 12) (orA A0 n0)) 5 (A0 5 + 1)) N T V) := by
  have e12 : (l1 + 12).toInt = ((x + 12 : Nat) : Int) := addN h1 (y := 12) rfl (by omega)
  intro d
  induction d with
  | zero =>
    intro o fu l2 hd hl hf
    obtain ⟨g, rfl⟩ : ∃ g, fu = g + 1 := ⟨fu - 1, by omega⟩
    show mX2_keep_b141 _ _ _ _ _ = _
    unfold mX2_keep_b141
    refine bind_step (gR_537_0 554 (by omega) _ _) ?_
    refine bind_step (iaA (n := 0) rfl (by omega)) ?_
    rw [upN (show (0 : Nat) ≠ x + 12 by omega)]
    refine (if_pos (by rw [Int32.le_iff_toInt_le, h0, hl]; omega)).trans ?_
    refine bind_step (gR_537_0 554 (by omega) _ _) ?_
    refine bind_step (iaA (n := 5) rfl (by omega)) ?_
    rw [upN (show (5 : Nat) ≠ x + 12 by omega)]
    refine bind_step (iasA (n := 5) rfl (by omega)) ?_
    rw [show o = n0 by omega]
  | succ d ih =>
    intro o fu l2 hd hl hf
    obtain ⟨g, rfl⟩ : ∃ g, fu = g + 1 := ⟨fu - 1, by omega⟩
    show mX2_keep_b141 _ _ _ _ _ = _
    unfold mX2_keep_b141
    refine bind_step (gR_537_0 554 (by omega) _ _) ?_
    refine bind_step (iaA (n := 0) rfl (by omega)) ?_
    rw [upN (show (0 : Nat) ≠ x + 12 by omega)]
    refine (if_neg (by rw [Int32.le_iff_toInt_le, h0, hl]; omega)).trans ?_
    refine bind_step (gR_537_0 554 (by omega) _ _) ?_
    refine bind_step (iaA (n := x + 12) e12 (by omega)) ?_
    refine bind_step (recv_537 554 (by omega) _ _) ?_
    refine bind_step (cal_w (get_E (o := o) (w := 5) hl rfl (by omega) (by omega))) ?_
    refine bind_step (iasA (n := x + 12) e12 (by omega)) ?_
    rw [upd_eq, upN (show 20 + 6 * o + 5 ≠ x + 12 by omega), show 20 + 6 * o + 5 = 25 + 6 * o by omega, I_nat hl, and_31 ⟨o, by omega⟩]
    have eu : ∀ v, upd (upd A0 (x + 12) (orA A0 o)) (x + 12) v = upd A0 (x + 12) v := fun v => by
      funext j
      unfold upd
      by_cases hj : j = x + 12
      · rw [if_pos hj, if_pos hj]
      · rw [if_neg hj, if_neg hj, if_neg hj]
    rw [eu]
    exact ih (o + 1) g _ (by omega) (by rw [← I_nat hl]; exact inc_I hl (by omega)) (by omega)
/-- ten numbers copied to x -/
def cpB (x k : Nat) (A : Nat → Int32) : Nat → Int32 := fun i => if x ≤ i ∧ i < x + k then A (8 + (i - x)) else A i
theorem cpB_step {x k : Nat} (hx : 84 ≤ x) (hk : k < 10) : upd (cpB x k A) (x + k) (cpB x k A (8 + k)) = cpB x (k + 1) A := by
  funext i
  unfold upd cpB
  by_cases h : i = x + k
  · rw [if_pos h, if_neg (by omega), if_pos (by omega)]
    congr 1
    omega
  · rw [if_neg h]
    by_cases h2 : x ≤ i ∧ i < x + k
    · rw [if_pos h2, if_pos (by omega)]
    · rw [if_neg h2, if_neg (by omega)]
/-- the step at x as it is kept -/
def kpM (x n0 : Nat) (A : Nat → Int32) : Nat → Int32 :=
  let B := upd (upd (cpB x 10 A) (x + 10) (cpB x 10 A 2)) (x + 11) (upd (cpB x 10 A) (x + 10) (cpB x 10 A 2) 7)
  upd (upd B (x + 12) (orA B n0)) 5 (B 5 + 1)
theorem keep_l69 {x n0 : Nat} {l1 : Int32} (h1 : l1.toInt = (x : Int)) (hx : 84 ≤ x) (hx2 : x + 13 ≤ 474) (h0 : (A 0).toInt = (n0 : Int)) (h8 : n0 ≤ 8) : ∀ (d k fu : Nat) (l2 : Int32), 10 = k + d → l2.toInt = (k : Int) → d < fu →
    mX2_keep_l69 fu (WM μ z F (cpB x k A) N T V) (some 537) l1 l2 = some ((), WM μ z F (kpM x n0 A) N T V) := by
  intro d
  induction d with
  | zero =>
    intro k fu l2 hd hl hf
    obtain ⟨g, rfl⟩ : ∃ g, fu = g + 1 := ⟨fu - 1, by omega⟩
    show mX2_keep_b69 _ _ _ _ _ = _
    unfold mX2_keep_b69
    rw [show k = 10 by omega]
    refine (if_pos (by rw [Int32.le_iff_toInt_le, hl]; show (10 : Int) ≤ _; omega)).trans ?_
    refine bind_step (gR_537_0 554 (by omega) _ _) ?_
    refine bind_step (gR_537_0 554 (by omega) _ _) ?_
    refine bind_step (iaA (n := 2) rfl (by omega)) ?_
    refine bind_step (iasA (n := x + 10) (addN h1 (y := 10) rfl (by omega)) (by omega)) ?_
    refine bind_step (gR_537_0 554 (by omega) _ _) ?_
    refine bind_step (gR_537_0 554 (by omega) _ _) ?_
    refine bind_step (iaA (n := 7) rfl (by omega)) ?_
    refine bind_step (iasA (n := x + 11) (addN h1 (y := 11) rfl (by omega)) (by omega)) ?_
    refine bind_step (gR_537_0 554 (by omega) _ _) ?_
    refine bind_step (iasA (n := x + 12) (addN h1 (y := 12) rfl (by omega)) (by omega)) ?_
    unfold kpM
    have hB0 : (upd (upd (cpB x 10 A) (x + 10) (cpB x 10 A 2)) (x + 11) (upd (cpB x 10 A) (x + 10) (cpB x 10 A 2) 7) 0).toInt = (n0 : Int) := by
      rw [upN (by omega), upN (by omega)]
      unfold cpB
      rw [if_neg (by omega)]
      exact h0
    generalize upd (upd (cpB x 10 A) (x + 10) (cpB x 10 A 2)) (x + 11) (upd (cpB x 10 A) (x + 10) (cpB x 10 A 2) 7) = B at hB0
    exact keep_l141 (o := 0) h1 hx hx2 hB0 h8 n0 FU 0 (by omega) rfl (by unfold FU; omega)
  | succ d ih =>
    intro k fu l2 hd hl hf
    obtain ⟨g, rfl⟩ : ∃ g, fu = g + 1 := ⟨fu - 1, by omega⟩
    show mX2_keep_b69 _ _ _ _ _ = _
    unfold mX2_keep_b69
    refine (if_neg (by rw [Int32.le_iff_toInt_le, hl]; show ¬ (10 : Int) ≤ _; omega)).trans ?_
    refine bind_step (gR_537_0 554 (by omega) _ _) ?_
    refine bind_step (gR_537_0 554 (by omega) _ _) ?_
    refine bind_step (iaA (n := 8 + k) (addN (x := 8) rfl hl (by omega)) (by omega)) ?_
    refine bind_step (iasA (n := x + k) (addN h1 hl (by omega)) (by omega)) ?_
    rw [cpB_step hx (by omega)]
    exact ih (k + 1) g (l2 + 1) (by omega) (inc_I hl (by omega)) (by omega)
theorem keep_p54 {k n0 : Nat} (h5 : (A 5).toInt = (k : Int)) (hk : k < 30) (h0 : (A 0).toInt = (n0 : Int)) (h8 : n0 ≤ 8) : mX2_keep_p54 (WM μ z F A N T V) (some 537) = some ((), WM μ z F (kpM (84 + 13 * k) n0 A) N T V) := by
  have e : cpB (84 + 13 * k) 0 A = A := by
    funext i
    unfold cpB
    rw [if_neg (by omega)]
  have h := keep_l69 (μ := μ) (z := z) (F := F) (N := N) (T := T) (V := V) (A := A) (x := 84 + 13 * k) (l1 := 84 + 13 * A 5) (addN (x := 84) rfl (mulN (x := 13) rfl h5 (by omega)) (by omega)) (by omega) (by omega) h0 h8 10 0 FU 0 (by omega) rfl (by unfold FU; omega)
  rw [e] at h
  unfold mX2_keep_p54
  refine bind_step (gR_537_0 554 (by omega) _ _) ?_
  refine bind_step (iaA (n := 5) rfl (by omega)) ?_
  exact h
/-- the steps shifted by one, k numbers of them -/
def shB (k : Nat) (A : Nat → Int32) : Nat → Int32 := fun i => if 84 ≤ i ∧ i < 84 + k then A (i + 13) else A i
theorem keep_l13 {n0 : Nat} (h5 : (A 5).toInt = 30) (h0 : (A 0).toInt = (n0 : Int)) (h8 : n0 ≤ 8) : ∀ (d k fu : Nat) (l1 : Int32), 377 = k + d → l1.toInt = (k : Int) → d < fu →
    mX2_keep_l13 fu (WM μ z F (shB k A) N T V) (some 537) l1 = some ((), WM μ z F (kpM 461 n0 (upd (shB 377 A) 5 (A 5 - 1))) N T V) := by
  intro d
  induction d with
  | zero =>
    intro k fu l1 hd hl hf
    obtain ⟨g, rfl⟩ : ∃ g, fu = g + 1 := ⟨fu - 1, by omega⟩
    show mX2_keep_b13 _ _ _ _ = _
    unfold mX2_keep_b13
    rw [show k = 377 by omega]
    refine (if_pos (by rw [Int32.le_iff_toInt_le, hl]; show (377 : Int) ≤ _; omega)).trans ?_
    refine bind_step (gR_537_0 554 (by omega) _ _) ?_
    refine bind_step (iaA (n := 5) rfl (by omega)) ?_
    refine bind_step (iasA (n := 5) rfl (by omega)) ?_
    have e5 : shB 377 A 5 = A 5 := if_neg (by omega)
    have e0 : upd (shB 377 A) 5 (A 5 - 1) 0 = A 0 := (upN (by omega)).trans (if_neg (by omega))
    rw [e5]
    exact keep_p54 (k := 29) (by rw [upd_eq]; exact subN (x := 30) (y := 1) h5 rfl (by omega) (by omega)) (by omega) (by rw [e0]; exact h0) h8
  | succ d ih =>
    intro k fu l1 hd hl hf
    obtain ⟨g, rfl⟩ : ∃ g, fu = g + 1 := ⟨fu - 1, by omega⟩
    show mX2_keep_b13 _ _ _ _ = _
    unfold mX2_keep_b13
    refine (if_neg (by rw [Int32.le_iff_toInt_le, hl]; show ¬ (377 : Int) ≤ _; omega)).trans ?_
    refine bind_step (gR_537_0 554 (by omega) _ _) ?_
    refine bind_step (gR_537_0 554 (by omega) _ _) ?_
    refine bind_step (iaA (n := 97 + k) (addN (x := 97) rfl hl (by omega)) (by omega)) ?_
    refine bind_step (iasA (n := 84 + k) (addN (x := 84) rfl hl (by omega)) (by omega)) ?_
    have es : upd (shB k A) (84 + k) (shB k A (97 + k)) = shB (k + 1) A := by
      funext i
      unfold upd shB
      by_cases h : i = 84 + k
      · rw [if_pos h, if_neg (by omega), if_pos (by omega)]
        congr 1
        omega
      · rw [if_neg h]
        by_cases h2 : 84 ≤ i ∧ i < 84 + k
        · rw [if_pos h2, if_pos (by omega)]
        · rw [if_neg h2, if_neg (by omega)]
    rw [es]
    exact ih (k + 1) g (l1 + 1) (by omega) (inc_I hl (by omega)) (by omega)
/-- the model's row behind a step kept -/
def keM (k n0 : Nat) (A : Nat → Int32) : Nat → Int32 := if k < 30 then kpM (84 + 13 * k) n0 A else kpM 461 n0 (upd (shB 377 A) 5 (A 5 - 1))
theorem keep_E {k n0 : Nat} (h5 : (A 5).toInt = (k : Int)) (hk : k ≤ 30) (h0 : (A 0).toInt = (n0 : Int)) (h8 : n0 ≤ 8) : mX2_keep 537 (WM μ z F A N T V) = some ((), WM μ z F (keM k n0 A) N T V) := by
  unfold mX2_keep keM
  refine bind_step (gR_537_0 554 (by omega) _ _) ?_
  refine bind_step (iaA (n := 5) rfl (by omega)) ?_
  by_cases h : k < 30
  · rw [if_pos h]
    refine (if_pos (fun q => by rw [q] at h5; have : (30 : Int32).toInt = 30 := rfl; omega)).trans ?_
    exact keep_p54 h5 h h0 h8
  · rw [if_neg h]
    have h530 : (A 5).toInt = 30 := by omega
    refine (if_neg (fun q => q (I32_eq h530))).trans ?_
    have e : shB 0 A = A := by
      funext i
      unfold shB
      rw [if_neg (by omega)]
    have := keep_l13 (μ := μ) (z := z) (F := F) (N := N) (T := T) (V := V) h530 h0 h8 377 0 FU 0 (by omega) rfl (by unfold FU; omega)
    rw [e] at this
    exact this
end WM70
