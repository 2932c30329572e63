/-! ===== saves: the model's tenths from rest ===== -/
section WM89o
variable {μ : Mu} {z : Zt} {F N T : Nat → Int32} {V : Nat → Int64}
/-- from 8 on to k: nothing -/
def z8 (k : Nat) (A : Nat → Int32) : Nat → Int32 := fun i => if 8 ≤ i ∧ i < k then 0 else A i
/-- the model's numbers at rest -/
def rsA (A : Nat → Int32) (wt yd : Int32) : Nat → Int32 := upd (upd (upd (upd (z8 12 A) 14 0) 16 0) 13 wt) 15 (10 * yd)
theorem Go_rest {A : Nat → Int32} {r wt yd : Int32} (hA : A 12 = r) (hr : bd r 1 24) (hw : bd wt 0 99) (hy : bd yd 0 60) : Go 0 (rsF r wt yd) (rsA A wt yd) := by
  obtain ⟨g1, g2, g3⟩ := Gc_rest hr hw hy
  refine ⟨g1, fun j hj => ?_, g2, fun q j q1 q2 q3 hj => absurd q3 (by omega), g3⟩
  unfold rsA rsF z8
  match j, hj with
  | 0, _ => rfl
  | 1, _ => rfl
  | 2, _ => rfl
  | 3, _ => rfl
  | 4, _ => exact hA
  | 5, _ => rfl
  | 6, _ => rfl
  | 7, _ => exact Int32.mul_comm _ _
  | 8, _ => rfl
theorem fr_loop {A : Nat → Int32} {l1 l2 : Int32} {ρ : Option (Int32 × Wd)} (h : ∀ g, mX2_fromRest_b7 (mX2_fromRest_l7 g) (WM μ z F (z8 12 A) N T V) (some 537) l1 l2 12 = ρ) : ∀ (d k fu : Nat) (l3 : Int32), 12 = k + d → 8 ≤ k → l3.toInt = (k : Int) → d < fu → mX2_fromRest_l7 fu (WM μ z F (z8 k A) N T V) (some 537) l1 l2 l3 = ρ := by
  intro d
  induction d with
  | zero =>
    intro k fu l3 hd h8 hl hf
    obtain ⟨g, rfl⟩ : ∃ g, fu = g + 1 := ⟨fu - 1, by omega⟩
    have hk : k = 12 := by omega
    subst hk
    rw [show l3 = 12 from I32_eq (hl.trans rfl)]
    exact h g
  | succ d ih =>
    intro k fu l3 hd h8 hl hf
    obtain ⟨g, rfl⟩ : ∃ g, fu = g + 1 := ⟨fu - 1, by omega⟩
    show mX2_fromRest_b7 _ _ _ _ _ _ = _
    unfold mX2_fromRest_b7
    refine (if_neg (by rw [Int32.lt_iff_toInt_lt, hl]; show ¬ (11 : Int) < _; omega)).trans ?_
    refine bind_step (gR_537_0 554 (by omega) _ _) ?_
    refine bind_step (iasA (n := k) hl (by omega)) ?_
    have e : upd (z8 k A) k 0 = z8 (k + 1) A := by
      funext i
      unfold upd z8
      by_cases hi : i = k
      · rw [if_pos hi, if_pos (by omega)]
      · rw [if_neg hi]
        by_cases h2 : 8 ≤ i ∧ i < k
        · rw [if_pos h2, if_pos (by omega)]
        · rw [if_neg h2, if_neg (by omega)]
    rw [e]
    exact ih (k + 1) g (l3 + 1) (by omega) (by omega) (inc_I hl (by omega)) (by omega)
theorem fromRest_E {A : Nat → Int32} {t4 t9 near l2 : Int32} {t o : Nat} {G : Option Nat} (hT : TX TT μ z) (h4 : A 4 = t4) (ha : -1 ≤ t4.toInt ∧ t4.toInt < (μ 402 2).toInt) (ha9 : -1 ≤ t9.toInt ∧ t9.toInt < (μ 402 2).toInt) (hnear : A 1 = near) (h2 : l2.toInt = (o : Int)) (ho : o < 8) (hr : bd (A 12) 1 24) (hw : bd (A (20 + 6 * o)) 0 99) (hy : bd (A (20 + 6 * o + 1)) 0 60)
    (hG : fsW near 0 (itH (μ 540) t4 1 (some t9) (rsF (A 12) (A (20 + 6 * o)) (A (20 + 6 * o + 1)))) 200 0 = G) : ∃ S P F' N' T' V', mX2_fromRest 537 t9 l2 (WM μ z F A N T V) = some (stM G, WM (setM (setM μ 546 S) 547 P) z F' A N' T' V') ∧ (∀ i, i ≠ 21 → i ≠ 22 → i ≠ 25 → F' i = F i) ∧ F' 25 = 0 := by
  have e540 : ∀ S P, setM (setM μ 546 S) 547 P 540 = μ 540 := fun S P => (setM_ne (by omega)).trans (setM_ne (by omega))
  have e402 : ∀ S P, setM (setM μ 546 S) 547 P 402 = μ 402 := fun S P => (setM_ne (by omega)).trans (setM_ne (by omega))
  have hT2 : ∀ S P, TX TT (setM (setM μ 546 S) 547 P) z := fun S P => TX_ext (e540 S P) (by rw [e402]) (by rw [setM_ne (show (460 : Nat) ≠ 547 by omega), setM_ne (show (460 : Nat) ≠ 546 by omega)]) rfl (fun _ _ => rfl) (Nat.le_refl _) hT
  have hgo := Go_rest (A := A) rfl hr hw hy
  have r4 : rsA A (A (20 + 6 * o)) (A (20 + 6 * o + 1)) 4 = t4 := by
    unfold rsA z8
    rw [upN (by omega), upN (by omega), upN (by omega), upN (by omega), if_neg (by omega)]
    exact h4
  have r1 : rsA A (A (20 + 6 * o)) (A (20 + 6 * o + 1)) 1 = near := by
    unfold rsA z8
    rw [upN (by omega), upN (by omega), upN (by omega), upN (by omega), if_neg (by omega)]
    exact hnear
  have rhi : ∀ i, 18 ≤ i → rsA A (A (20 + 6 * o)) (A (20 + 6 * o + 1)) i = A i := fun i hi => by
    unfold rsA z8
    rw [upN (by omega), upN (by omega), upN (by omega), upN (by omega), if_neg (by omega)]
  obtain ⟨F', A', N', T', V', k', em, w1, w2, w3, -, -⟩ := stillBy_loop (μ := setM (setM μ 546 (cpK 18 A (μ 546))) 547 (kpP 1200 (rsA A (A (20 + 6 * o)) (A (20 + 6 * o + 1))) (setM μ 546 (cpK 18 A (μ 546)) 547))) (z := z) (t4 := t4) (l1 := t9) (l2 := 0) (near := near) (calm := 1) (Xs := itH (μ 540) t4 1 (some t9) (rsF (A 12) (A (20 + 6 * o)) (A (20 + 6 * o + 1)))) (A0 := rsA A (A (20 + 6 * o)) (A (20 + 6 * o + 1))) (t := 0) (w := 0) (fun k => by
    rw [e540, if_neg (show ¬ k + 1 ≤ 0 by omega)]
    rfl) (hT2 _ _) (by rw [e402]; exact ha) (by rw [e402]; exact ha9) r1 (by omega) (by omega) rfl 200 0 FU 1 (upd F 25 1) (rsA A (A (20 + 6 * o)) (A (20 + 6 * o + 1))) N T V (by omega) rfl (by unfold FU; omega) upd_eq ⟨hgo, fun _ _ _ _ => rfl, r4, fun q => absurd q (by decide)⟩
  rw [hG] at em
  refine ⟨cpK 18 A (μ 546), kpP 1200 (rsA A (A (20 + 6 * o)) (A (20 + 6 * o + 1))) (setM μ 546 (cpK 18 A (μ 546)) 547), upd F' 25 0, N', T', V', ?_, fun i i1 i2 i3 => by rw [upN i3, w1 i i1 i2, upN i3], upd_eq⟩
  unfold mX2_fromRest
  refine bind_step (recv_537 554 (by omega) _ _) ?_
  refine bind_step (cal_E begin_E) ?_
  have z80 : z8 8 A = A := by
    funext i
    unfold z8
    rw [if_neg (by omega)]
  have hl := fr_loop (μ := setM μ 546 (cpK 18 A (μ 546))) (z := z) (F := F) (N := N) (T := T) (V := V) (A := A) (l1 := t9) (l2 := l2) (ρ := some (stM G, WM (setM (setM μ 546 (cpK 18 A (μ 546))) 547 (kpP 1200 (rsA A (A (20 + 6 * o)) (A (20 + 6 * o + 1))) (setM μ 546 (cpK 18 A (μ 546)) 547))) z (upd F' 25 0) A N' T' V')) (fun g => ?_) 4 8 FU 8 (by omega) (by omega) rfl (by unfold FU; omega)
  · rw [z80] at hl
    exact hl
  · unfold mX2_fromRest_b7
    refine (if_pos (by decide)).trans ?_
    refine bind_step (gR_537_0 554 (by omega) _ _) ?_
    refine bind_step (iasA (n := 14) rfl (by omega)) ?_
    refine bind_step (gR_537_0 554 (by omega) _ _) ?_
    refine bind_step (iasA (n := 16) rfl (by omega)) ?_
    refine bind_step (gR_537_0 554 (by omega) _ _) ?_
    refine bind_step (recv_537 554 (by omega) _ _) ?_
    refine bind_step (cal_w (get_E (o := o) (w := 0) h2 rfl ho (by omega))) ?_
    have g0 : upd (upd (z8 12 A) 14 0) 16 0 (20 + 6 * o + 0) = A (20 + 6 * o) := by
      rw [upN (by omega), upN (by omega)]
      unfold z8
      exact if_neg (by omega)
    rw [g0]
    refine bind_step (iasA (n := 13) rfl (by omega)) ?_
    refine bind_step (gR_537_0 554 (by omega) _ _) ?_
    refine bind_step (recv_537 554 (by omega) _ _) ?_
    refine bind_step (cal_w (get_E (o := o) (w := 1) h2 rfl ho (by omega))) ?_
    have g1 : upd (upd (upd (z8 12 A) 14 0) 16 0) 13 (A (20 + 6 * o)) (20 + 6 * o + 1) = A (20 + 6 * o + 1) := by
      rw [upN (by omega), upN (by omega), upN (by omega)]
      unfold z8
      exact if_neg (by omega)
    rw [g1]
    refine bind_step (iasA (n := 15) rfl (by omega)) ?_
    refine bind_step (if_pos (Or.inr rfl)) ?_
    refine bind_step pfM_25 ?_
    refine bind_step (recv_537 554 (by omega) _ _) ?_
    refine bind_step (cal_E keepPast_E) ?_
    refine bind_step (recv_537 554 (by omega) _ _) ?_
    unfold mX2_stillBy
    refine bind_step (calM em) ?_
    refine bind_step (recv_537 554 (by omega) _ _) ?_
    refine bind_step (cal_E putBackPast_E) ?_
    refine bind_step (recv_537 554 (by omega) _ _) ?_
    refine bind_step (cal_E putBack_E) ?_
    have ef : cpK 18 (setM (setM μ 546 (cpK 18 A (μ 546))) 547 (kpP 1200 (rsA A (A (20 + 6 * o)) (A (20 + 6 * o + 1))) (setM μ 546 (cpK 18 A (μ 546)) 547)) 546) (pbP 1200 (setM (setM μ 546 (cpK 18 A (μ 546))) 547 (kpP 1200 (rsA A (A (20 + 6 * o)) (A (20 + 6 * o + 1))) (setM μ 546 (cpK 18 A (μ 546)) 547)) 547) A') = A := by
      rw [setM_same, setM_ne (show (546 : Nat) ≠ 547 by omega), setM_same]
      funext i
      unfold cpK
      by_cases h18 : i < 18
      · rw [if_pos h18, if_pos h18]
      · rw [if_neg h18]
        unfold pbP kpP
        by_cases hp : 602 ≤ i ∧ i < 602 + 1200
        · rw [if_pos hp, if_pos (by omega), show 602 + (i - 602) = i by omega]
          exact rhi i (by omega)
        · rw [if_neg hp, w3.2.1 i (by omega) (by omega) (fun u u1 u2 => by omega)]
          exact rhi i (by omega)
    rw [ef]
end WM89o
