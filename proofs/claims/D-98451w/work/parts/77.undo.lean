/-! ===== undo ===== -/
theorem undo_C {μ : Mu} {z : Zt} {k : Nat} (hk : (μ 402 4).toInt = ((k + 1 : Nat) : Int)) (h30 : k < 30) : mX0_undo 400 (E μ z) = some (μ 402 4 - 1, E (setM (up μ 402 4 (μ 402 4 - 1)) 403 (va_cpy (μ (428 + k)) (μ 403) 0 0 413)) z) := by
  have e4 : up μ 402 4 (μ 402 4 - 1) 402 4 = μ 402 4 - 1 := by
    show setM μ 402 _ 402 4 = _
    rw [setM_same, upd_eq]
  have eo : ∀ q, q ≠ 402 → up μ 402 4 (μ 402 4 - 1) q = μ q := fun q hq => setM_ne hq
  have hk1 : (μ 402 4 - 1).toInt = (k : Int) := decN hk (by omega)
  unfold mX0_undo
  refine bind_step (gR_400_0 554 (by omega) _ _) ?_
  refine bind_step (gR_401_0 554 (by omega) _ _) ?_
  refine bind_step (ia_E (n := 4) isI_402 rfl (by omega)) ?_
  refine (if_pos (fun q => by rw [q] at hk; have : (0 : Int32).toInt = 0 := rfl; omega)).trans ?_
  refine bind_step (gR_400_0 554 (by omega) _ _) ?_
  refine bind_step (gR_401_0 554 (by omega) _ _) ?_
  refine bind_step (ia_E (n := 4) isI_402 rfl (by omega)) ?_
  refine bind_step (ias_E (n := 4) isI_402 rfl (by omega)) ?_
  refine bind_step (gR_400_0 554 (by omega) _ _) ?_
  refine bind_step (gR_401_5 554 (by omega) _ _) ?_
  refine bind_step (gR_400_0 554 (by omega) _ _) ?_
  refine bind_step (gR_401_0 554 (by omega) _ _) ?_
  refine bind_step (ia_E (n := 4) isI_402 rfl (by omega)) ?_
  rw [e4]
  refine bind_step (aa_E (n := k) isA_427 hk1 (by omega)) ?_
  refine bind_step (gR_400_0 554 (by omega) _ _) ?_
  refine bind_step (gR_401_1 554 (by omega) _ _) ?_
  refine bind_step (cal_E (copy_E (isI_428 k h30) isI_403 (by omega) (by omega) (by omega))) ?_
  refine bind_step (gR_400_0 554 (by omega) _ _) ?_
  refine bind_step (gR_401_0 554 (by omega) _ _) ?_
  refine bind_step (ia_E (n := 4) isI_402 rfl (by omega)) ?_
  rw [setM_ne (show (402 : Nat) ≠ 403 by omega), e4, eo (428 + k) (by omega), eo 403 (by omega)]
section WM77
variable {μ : Mu} {z : Zt} {F A N T : Nat → Int32} {V : Nat → Int64}
def cpU (x k : Nat) (A : Nat → Int32) : Nat → Int32 := fun i => if 8 ≤ i ∧ i < 8 + k then A (x + (i - 8)) else A i
def bsU (v : Int32) (o : Nat) (A : Nat → Int32) : Nat → Int32 := fun i => if 25 ≤ i ∧ (i - 25) % 6 = 0 ∧ (i - 25) / 6 < o then bitAt v ((i - 25) / 6) else A i
theorem undo_l98 {x n0 : Nat} {l1 : Int32} {B : Nat → Int32} (h1 : l1.toInt = (x : Int)) (hx : 84 ≤ x) (hx2 : x + 13 ≤ 474) (h0 : (B 0).toInt = (n0 : Int)) (h8 : n0 ≤ 8) : ∀ (d o fu : Nat) (l2 : Int32), n0 = o + d → l2.toInt = (o : Int) → d < fu →
    mX2_undo_l98 fu (WM μ z F (bsU (B (x + 12)) o B) N T V) (some 537) l1 l2 = some (B 5, WM μ z F (bsU (B (x + 12)) n0 B) N T V) := by
  have e12 : (l1 + 12).toInt = ((x + 12 : Nat) : Int) := addN h1 (y := 12) rfl (by omega)
  have lo : ∀ o i, o ≤ 8 → (i < 25 ∨ 68 ≤ i) → bsU (B (x + 12)) o B i = B i := fun o i ho hi => by
    unfold bsU
    rw [if_neg (by omega)]
  intro d
  induction d with
  | zero =>
    intro o fu l2 hd hl hf
    obtain ⟨g, rfl⟩ : ∃ g, fu = g + 1 := ⟨fu - 1, by omega⟩
    show mX2_undo_b98 _ _ _ _ _ = _
    unfold mX2_undo_b98
    refine bind_step (gR_537_0 554 (by omega) _ _) ?_
    refine bind_step (iaA (n := 0) rfl (by omega)) ?_
    rw [lo o 0 (by omega) (by omega)]
    refine (if_pos (by rw [Int32.le_iff_toInt_le, h0, hl]; omega)).trans ?_
    refine bind_step (gR_537_0 554 (by omega) _ _) ?_
    refine bind_step (iaA (n := 5) rfl (by omega)) ?_
    rw [lo o 5 (by omega) (by omega), show o = n0 by omega]
  | succ d ih =>
    intro o fu l2 hd hl hf
    obtain ⟨g, rfl⟩ : ∃ g, fu = g + 1 := ⟨fu - 1, by omega⟩
    show mX2_undo_b98 _ _ _ _ _ = _
    unfold mX2_undo_b98
    refine bind_step (gR_537_0 554 (by omega) _ _) ?_
    refine bind_step (iaA (n := 0) rfl (by omega)) ?_
    rw [lo o 0 (by omega) (by omega)]
    refine (if_neg (by rw [Int32.le_iff_toInt_le, h0, hl]; omega)).trans ?_
    refine bind_step (gR_537_0 554 (by omega) _ _) ?_
    refine bind_step (gR_537_0 554 (by omega) _ _) ?_
    refine bind_step (iaA (n := x + 12) e12 (by omega)) ?_
    rw [lo o (x + 12) (by omega) (by omega)]
    refine bind_step (iasA (n := 25 + 6 * o) (by rw [addN (addN (x := 20) rfl (mulN (x := 6) rfl hl (by omega)) (by omega)) (y := 5) rfl (by omega)]; omega) (by omega)) ?_
    have es : upd (bsU (B (x + 12)) o B) (25 + 6 * o) ((B (x + 12) >>> (l2 &&& 31)) &&& 1) = bsU (B (x + 12)) (o + 1) B := by
      funext i
      rw [I_nat hl, and_31 ⟨o, by omega⟩]
      unfold upd bsU
      by_cases hi : i = 25 + 6 * o
      · rw [if_pos hi, if_pos (by omega), show (i - 25) / 6 = o by omega]
        rfl
      · rw [if_neg hi]
        by_cases h2 : 25 ≤ i ∧ (i - 25) % 6 = 0 ∧ (i - 25) / 6 < o
        · rw [if_pos h2, if_pos (by omega)]
        · rw [if_neg h2, if_neg (by omega)]
    rw [es]
    exact ih (o + 1) g (l2 + 1) (by omega) (inc_I hl (by omega)) (by omega)
/-- the model's row behind a step taken back, the step at x -/
def unM (x n0 : Nat) (A : Nat → Int32) : Nat → Int32 :=
  let B := upd (upd (cpU x 10 A) 2 (cpU x 10 A (x + 10))) 7 (upd (cpU x 10 A) 2 (cpU x 10 A (x + 10)) (x + 11))
  bsU (B (x + 12)) n0 B
theorem undo_l36 {x n0 : Nat} {l1 : Int32} (h1 : l1.toInt = (x : Int)) (hx : 84 ≤ x) (hx2 : x + 13 ≤ 474) (h0 : (A 0).toInt = (n0 : Int)) (h8 : n0 ≤ 8) : ∀ (d k fu : Nat) (l2 : Int32), 10 = k + d → l2.toInt = (k : Int) → d < fu →
    mX2_undo_l36 fu (WM μ z F (cpU x k A) N T V) (some 537) l1 l2 = some (A 5, WM μ z F (unM x n0 A) N T V) := by
  intro d
  induction d with
  | zero =>
    intro k fu l2 hd hl hf
    obtain ⟨g, rfl⟩ : ∃ g, fu = g + 1 := ⟨fu - 1, by omega⟩
    show mX2_undo_b36 _ _ _ _ _ = _
    unfold mX2_undo_b36
    rw [show k = 10 by omega]
    refine (if_pos (by rw [Int32.le_iff_toInt_le, hl]; show (10 : Int) ≤ _; omega)).trans ?_
    refine bind_step (gR_537_0 554 (by omega) _ _) ?_
    refine bind_step (gR_537_0 554 (by omega) _ _) ?_
    refine bind_step (iaA (n := x + 10) (addN h1 (y := 10) rfl (by omega)) (by omega)) ?_
    refine bind_step (iasA (n := 2) rfl (by omega)) ?_
    refine bind_step (gR_537_0 554 (by omega) _ _) ?_
    refine bind_step (gR_537_0 554 (by omega) _ _) ?_
    refine bind_step (iaA (n := x + 11) (addN h1 (y := 11) rfl (by omega)) (by omega)) ?_
    refine bind_step (iasA (n := 7) rfl (by omega)) ?_
    unfold unM
    have c : ∀ i, (i < 8 ∨ 18 ≤ i) → cpU x 10 A i = A i := fun i hi => by
      unfold cpU
      rw [if_neg (by omega)]
    have hB0 : (upd (upd (cpU x 10 A) 2 (cpU x 10 A (x + 10))) 7 (upd (cpU x 10 A) 2 (cpU x 10 A (x + 10)) (x + 11)) 0).toInt = (n0 : Int) := by
      rw [upN (by omega), upN (by omega), c 0 (by omega)]
      exact h0
    have hB5 : upd (upd (cpU x 10 A) 2 (cpU x 10 A (x + 10))) 7 (upd (cpU x 10 A) 2 (cpU x 10 A (x + 10)) (x + 11)) 5 = A 5 := by
      rw [upN (by omega), upN (by omega), c 5 (by omega)]
    generalize upd (upd (cpU x 10 A) 2 (cpU x 10 A (x + 10))) 7 (upd (cpU x 10 A) 2 (cpU x 10 A (x + 10)) (x + 11)) = B at hB0 hB5
    rw [← hB5]
    have e0 : bsU (B (x + 12)) 0 B = B := by
      funext i
      unfold bsU
      rw [if_neg (by omega)]
    have h := undo_l98 (μ := μ) (z := z) (F := F) (N := N) (T := T) (V := V) h1 hx hx2 hB0 h8 n0 0 FU 0 (by omega) rfl (by unfold FU; omega)
    rw [e0] at h
    exact h
  | succ d ih =>
    intro k fu l2 hd hl hf
    obtain ⟨g, rfl⟩ : ∃ g, fu = g + 1 := ⟨fu - 1, by omega⟩
    show mX2_undo_b36 _ _ _ _ _ = _
    unfold mX2_undo_b36
    refine (if_neg (by rw [Int32.le_iff_toInt_le, hl]; show ¬ (10 : Int) ≤ _; omega)).trans ?_
    refine bind_step (gR_537_0 554 (by omega) _ _) ?_
    refine bind_step (gR_537_0 554 (by omega) _ _) ?_
    refine bind_step (iaA (n := x + k) (addN h1 hl (by omega)) (by omega)) ?_
    refine bind_step (iasA (n := 8 + k) (addN (x := 8) rfl hl (by omega)) (by omega)) ?_
    have es : upd (cpU x k A) (8 + k) (cpU x k A (x + k)) = cpU x (k + 1) A := by
      funext i
      unfold upd cpU
      by_cases hi : i = 8 + k
      · rw [if_pos hi, if_neg (by omega), if_pos (by omega)]
        congr 1
        omega
      · rw [if_neg hi]
        by_cases h2 : 8 ≤ i ∧ i < 8 + k
        · rw [if_pos h2, if_pos (by omega)]
        · rw [if_neg h2, if_neg (by omega)]
    rw [es]
    exact ih (k + 1) g (l2 + 1) (by omega) (inc_I hl (by omega)) (by omega)
theorem undo_M {k n0 : Nat} (h5 : (A 5).toInt = ((k + 1 : Nat) : Int)) (hk : k < 30) (h0 : (A 0).toInt = (n0 : Int)) (h8 : n0 ≤ 8) : mX2_undo 537 (WM μ z F A N T V) = some (A 5 - 1, WM μ z F (unM (84 + 13 * k) n0 (upd A 5 (A 5 - 1))) N T V) := by
  have hk1 : (A 5 - 1).toInt = (k : Int) := decN h5 (by omega)
  have e0 : cpU (84 + 13 * k) 0 (upd A 5 (A 5 - 1)) = upd A 5 (A 5 - 1) := by
    funext i
    unfold cpU
    rw [if_neg (by omega)]
  have h := undo_l36 (μ := μ) (z := z) (F := F) (N := N) (T := T) (V := V) (A := upd A 5 (A 5 - 1)) (x := 84 + 13 * k) (l1 := 84 + 13 * (A 5 - 1)) (addN (x := 84) rfl (mulN (x := 13) rfl hk1 (by omega)) (by omega)) (by omega) (by omega) (by rw [upN (by omega)]; exact h0) h8 10 0 FU 0 (by omega) rfl (by unfold FU; omega)
  rw [e0, upd_eq] at h
  unfold mX2_undo
  refine bind_step (gR_537_0 554 (by omega) _ _) ?_
  refine bind_step (iaA (n := 5) rfl (by omega)) ?_
  refine (if_pos (fun q => by rw [q] at h5; have : (0 : Int32).toInt = 0 := rfl; omega)).trans ?_
  refine bind_step (gR_537_0 554 (by omega) _ _) ?_
  refine bind_step (iaA (n := 5) rfl (by omega)) ?_
  refine bind_step (iasA (n := 5) rfl (by omega)) ?_
  refine bind_step (gR_537_0 554 (by omega) _ _) ?_
  refine bind_step (iaA (n := 5) rfl (by omega)) ?_
  rw [upd_eq]
  exact h
end WM77
theorem unM_at {x n0 : Nat} {A : Nat → Int32} (hx : 84 ≤ x) (h8 : n0 ≤ 8) : (∀ j, j < 10 → unM x n0 A (8 + j) = A (x + j)) ∧ unM x n0 A 2 = A (x + 10) ∧ unM x n0 A 7 = A (x + 11) ∧ (∀ o, o < n0 → unM x n0 A (25 + 6 * o) = bitAt (A (x + 12)) o) ∧ ∀ i, i ≠ 2 → i ≠ 7 → (i < 8 ∨ 18 ≤ i) → (∀ o, o < n0 → i ≠ 25 + 6 * o) → unM x n0 A i = A i := by
  have c : ∀ i, (i < 8 ∨ 18 ≤ i) → cpU x 10 A i = A i := fun i hi => by
    unfold cpU
    rw [if_neg (by omega)]
  have ci : ∀ j, j < 10 → cpU x 10 A (8 + j) = A (x + j) := fun j hj => by
    unfold cpU
    rw [if_pos (by omega)]
    congr 1
    omega
  have b12 : upd (upd (cpU x 10 A) 2 (cpU x 10 A (x + 10))) 7 (upd (cpU x 10 A) 2 (cpU x 10 A (x + 10)) (x + 11)) (x + 12) = A (x + 12) := by
    rw [upN (by omega), upN (by omega), c _ (by omega)]
  unfold unM
  rw [b12]
  unfold bsU
  refine ⟨fun j hj => ?_, ?_, ?_, fun o ho => ?_, fun i i2 i7 hi hn => ?_⟩
  · rw [if_neg (by omega), upN (by omega), upN (by omega), ci j hj]
  · rw [if_neg (by omega), upN (by omega), upd_eq, c _ (by omega)]
  · rw [if_neg (by omega), upd_eq, upN (by omega), c _ (by omega)]
  · rw [if_pos (by omega), show (25 + 6 * o - 25) / 6 = o by omega]
  · rw [if_neg (fun q => hn ((i - 25) / 6) q.2.2 (by omega)), upN i7, upN i2, c i hi]
theorem undo_op : Op Int32 0 0 (fun w => mX0_undo 400 w) (fun w => mX2_undo 537 w) := by
  intro μ z ⟨μm0, zm0, hB0⟩
  obtain ⟨k, n0, hk, hn0, hk30, hn8, -⟩ := PSw_nums hB0.1
  have p5 : ∀ μm zm, Both μ z μm zm → μm 538 5 = μ 402 4 := fun μm zm h => h.1.1.1.2.2.2.2.1
  match k, hk, hk30 with
  | 0, hk, _ =>
    have h0 : μ 402 4 = 0 := I32_eq hk
    refine Op_same (-1) ?_ (fun μm zm h => ?_)
    · show mX0_undo 400 (E μ z) = _
      unfold mX0_undo
      refine bind_step (gR_400_0 554 (by omega) _ _) ?_
      refine bind_step (gR_401_0 554 (by omega) _ _) ?_
      refine bind_step (ia_E (n := 4) isI_402 rfl (by omega)) ?_
      exact if_neg (fun q => q h0)
    · show mX2_undo 537 (E μm zm) = _
      rw [WM_0]
      unfold mX2_undo
      refine bind_step (gR_537_0 554 (by omega) _ _) ?_
      refine bind_step (iaA (n := 5) rfl (by omega)) ?_
      rw [p5 μm zm h]
      exact if_neg (fun q => q h0)
  | k + 1, hk, hk30 =>
    have e := undo_C (z := z) hk (by omega)
    have hk1 : (μ 402 4 - 1).toInt = (k : Int) := decN hk (by omega)
    generalize hv : μ 402 4 - 1 = v at e hk1
    have e402 : setM (up μ 402 4 v) 403 (va_cpy (μ (428 + k)) (μ 403) 0 0 413) 402 = upd (μ 402) 4 v := (setM_ne (by omega)).trans (setM_same _ _ _)
    have eo : ∀ q, q ≠ 402 → q ≠ 403 → setM (up μ 402 4 v) 403 (va_cpy (μ (428 + k)) (μ 403) 0 0 413) q = μ q := fun q q1 q2 => (setM_ne q2).trans (setM_ne q1)
    have hc : CFr 0 0 μ z (setM (up μ 402 4 v) 403 (va_cpy (μ (428 + k)) (μ 403) 0 0 413)) z := by
      refine ⟨fun q q1 q2 => eo q (by omega) (by omega), by rw [eo 400 (by omega) (by omega)]; exact ⟨rfl, rfl, rfl, rfl⟩, fun j hj => by rw [e402]; exact upN (by omega), fun q q1 q2 => eo q (by omega) (by omega), rfl, fun _ _ => rfl, by omega, by omega⟩
    refine ⟨v, _, z, e, hc, fun μm zm hB => ?_⟩
    have hA5 : (μm 538 5).toInt = ((k + 1 : Nat) : Int) := by rw [p5 μm zm hB]; exact hk
    have hA0 : (μm 538 0).toInt = (n0 : Int) := by rw [show μm 538 0 = μ 402 0 from hB.1.1.1.1]; exact hn0
    have em := undo_M (μ := μm) (z := zm) (F := μm 537) (N := μm 543) (T := μm 545) (V := zm.1 544) hA5 (by omega) hA0 hn8
    rw [p5 μm zm hB, hv] at em
    have hmf : MFr μm zm (fM μm (μm 537) (unM (84 + 13 * k) n0 (upd (μm 538) 5 v)) (μm 543) (μm 545)) (zM zm (zm.1 544)) := MFr_M (fun _ _ => rfl)
    refine ⟨_, _, ?_, Both_next hB hc hmf ?_, hmf⟩
    · show mX2_undo 537 (E μm zm) = _
      rw [WM_0]
      exact em
    · rw [setM_same]
      show PSw _ _ (unM (84 + 13 * k) n0 (upd (μm 538) 5 v))
      obtain ⟨m1, m2, m3, m4, m5⟩ := unM_at (x := 84 + 13 * k) (n0 := n0) (A := upd (μm 538) 5 v) (by omega) hn8
      have hps := PS_undo (n' := upd (μ 402) 4 v) (A' := unM (84 + 13 * k) n0 (upd (μm 538) 5 v)) hk (fun j hj => upN hj) (by rw [upd_eq]; exact hk1) (by rw [m5 5 (by omega) (by omega) (by omega) (fun o ho => by omega), upd_eq, upd_eq]) (fun j hj => by rw [m1 j hj, upN (by omega)]) (by rw [m2, upN (by omega)]; congr 1; omega) (by rw [m3, upN (by omega)]; congr 1; omega)
        (fun o ho => by rw [m4 o (by omega), upN (by omega)]; congr 2; omega) (fun i i2 i5 i7 hi hn => by rw [m5 i i2 i7 hi (fun o ho => hn o (by omega)), upN i5]) hB.1
      unfold PSw
      rw [e402, fam_congr (μ := μ) (fun q hq => eo _ (by omega) (by omega)), fam_congr (μ := μ) (b := 414) (fun q hq => eo _ (by omega) (by omega)), fam_congr (μ := μ) (b := 423) (fun q hq => eo _ (by omega) (by omega)), fam_congr (μ := μ) (b := 428) (fun q hq => eo _ (by omega) (by omega))]
      refine PS_ext (fun _ _ => rfl) (fun j hj => ?_) (fun _ _ _ _ => rfl) (fun _ _ _ _ => rfl) (fun _ _ _ _ => rfl) (fun _ _ _ _ => rfl) (fun _ _ => rfl) hps
      rw [cpy413 hj, fam_at (by omega)]
theorem ow_undo (L : Nat) (xs : Nat → Int32) : Ow_undo (Inv (TX TT) L xs) := fun n μ z hI => Agr_op (by omega) hI undo_op
