/-! ===== feed ===== -/
def shl4 : Nat → Int32
  | 0 => 24
  | k + 1 => shl4 k + -8
theorem shl4_lo : ∀ k, k < 4 → ¬ shl4 k < 0 := by
  intro k hk
  match k, hk with
  | 0, _ => decide
  | 1, _ => decide
  | 2, _ => decide
  | 3, _ => decide
theorem shl4_hi : shl4 4 < 0 := by decide
def byC (v : Int32) (k : Nat) : Int32 := ((v >>> (shl4 k &&& 31)) : Int32).toInt8.toInt32
def byM (v : Int32) (k : Nat) : Int32 := (v >>> (shl4 k &&& 31)) &&& 255
theorem and_255 (x : Int32) : x &&& 255 = x.toInt8.toInt32 &&& 255 := by
  apply Int32.toBitVec_inj.mp
  apply BitVec.eq_of_getLsbD_eq
  intro i hi
  have e : (255 : Int32).toBitVec.getLsbD i = decide (i < 8) := by
    show (BitVec.ofNat 32 (2 ^ 8 - 1)).getLsbD i = _
    rw [BitVec.getLsbD_ofNat, Nat.testBit_two_pow_sub_one]
    simp only [hi, decide_true, Bool.true_and]
  simp only [Int32.toBitVec_and, BitVec.getLsbD_and, e]
  by_cases h8 : i < 8
  · have e2 : (x.toInt8.toInt32).toBitVec.getLsbD i = x.toBitVec.getLsbD i := by
      rw [Int8.toBitVec_toInt32, Int32.toBitVec_toInt8, BitVec.getLsbD_signExtend, if_pos h8, BitVec.getLsbD_signExtend, if_pos hi]
      simp [hi, h8]
    rw [e2]
  · simp [h8]
theorem by_bd (x : Int32) : bd x.toInt8.toInt32 (-128) 127 := by
  unfold bd
  rw [Int8.toInt_toInt32]
  have h1 := Int8.le_toInt x.toInt8
  have h2 := Int8.toInt_lt x.toInt8
  omega
theorem nar8 (x : Int32) : vp_nar .byte x.toInt8.toInt32 = x.toInt8.toInt32 := by
  show (x.toInt8.toInt32).toInt8.toInt32 = _
  rw [Int8.toInt8_toInt32]
theorem bas_E {μ : Mu} {z : Zt} {n : Nat} {i v : Int32} (hi : i.toInt = (n : Int)) (hn : n < 300) : bas (E μ z) (some 517) i v.toInt8.toInt32 = some (E (up μ 517 n v.toInt8.toInt32) z) := by
  obtain ⟨h1, h2⟩ := cl_of hi
  have e : (E μ z).1 517 = some (.inl (.byte, 300, .inl (μ 517))) := (E_at (by omega) (by omega)).trans rfl
  unfold bas arr
  simp only [Option.bind_some, e]
  rw [if_pos ⟨Or.inl trivial, by show 400 ≤ 517; omega, by rw [h2]; exact fun q => q.elim h1 (by omega)⟩, h2, nar8]
  show some (wst (E μ z) 517 (.inl (.byte, 300, .inl (upd (μ 517) n v.toInt8.toInt32)))) = _
  rw [E_wst (by omega) (by omega) (f := upd (μ 517) n v.toInt8.toInt32) rfl]
/-- what d bytes fed into array l, counted at number j of c, leave -/
def Fed (c j l : Nat) (b : Int32 → Nat → Int32) (v : Int32) (k d n : Nat) (μ μ' : Mu) : Prop := (μ' c j).toInt = ((n + d : Nat) : Int) ∧ (∀ q, q ≠ c → q ≠ l → μ' q = μ q) ∧ (∀ i, i ≠ j → μ' c i = μ c i) ∧ (∀ i, i < n → μ' l i = μ l i) ∧ ∀ i, i < d → μ' l (n + i) = b v (k + i)
theorem Fed.step {c j l : Nat} {b : Int32 → Nat → Int32} {v x : Int32} {k d n : Nat} {μ μ' : Mu} (hcl : c ≠ l) (hx : x = b v k) (h : Fed c j l b v (k + 1) d (n + 1) (up (up μ l n x) c j (up μ l n x c j + 1)) μ') : Fed c j l b v k (d + 1) n μ μ' := by
  obtain ⟨h1, h2, h3, h4, h5⟩ := h
  refine ⟨by rw [h1]; omega, fun q q1 q2 => ?_, fun i hi => ?_, fun i hi => ?_, fun i hi => ?_⟩
  · rw [h2 q q1 q2]
    exact (setM_ne q1).trans (setM_ne q2)
  · rw [h3 i hi]
    refine (congrFun (setM_same _ _ _) i).trans ?_
    rw [upN hi]
    exact congrFun (setM_ne hcl) i
  · rw [h4 i (by omega)]
    refine (congrFun (setM_ne (Ne.symm hcl)) i).trans ?_
    refine (congrFun (setM_same _ _ _) i).trans ?_
    exact upN (by omega)
  · match i with
    | 0 =>
      rw [Nat.add_zero, h4 n (by omega), Nat.add_zero, ← hx]
      refine (congrFun (setM_ne (Ne.symm hcl)) n).trans ?_
      refine (congrFun (setM_same _ _ _) n).trans ?_
      exact upd_eq
    | i + 1 =>
      have := h5 i (by omega)
      rw [show n + 1 + i = n + (i + 1) by omega, show k + 1 + i = k + (i + 1) by omega] at this
      exact this
theorem put_loop {z : Zt} {v : Int32} : ∀ (d k fu n : Nat) (μ : Mu), 4 = k + d → d < fu → (μ 400 3).toInt = (n : Int) → n + d ≤ 300 → ∃ μ', mX0_put_l3 fu (E μ z) (some 400) v (shl4 k) = some ((), E μ' z) ∧ Fed 400 3 517 byC v k d n μ μ' := by
  intro d
  induction d with
  | zero =>
    intro k fu n μ hk hf hn h3
    obtain ⟨g, rfl⟩ : ∃ g, fu = g + 1 := ⟨fu - 1, by omega⟩
    have hk4 : k = 4 := by omega
    subst hk4
    refine ⟨μ, ?_, hn, fun _ _ _ => rfl, fun _ _ => rfl, fun _ _ => rfl, fun i hi => absurd hi (by omega)⟩
    show mX0_put_b3 _ _ _ _ _ = _
    unfold mX0_put_b3
    exact if_pos shl4_hi
  | succ d ih =>
    intro k fu n μ hk hf hn h3
    obtain ⟨g, rfl⟩ : ∃ g, fu = g + 1 := ⟨fu - 1, by omega⟩
    obtain ⟨μ', e, hF⟩ := ih (k + 1) g (n + 1) (up (up μ 517 n (byC v k)) 400 3 (up μ 517 n (byC v k) 400 3 + 1)) (by omega) (by omega) (by
      show (setM (up μ 517 n (byC v k)) 400 (upd (up μ 517 n (byC v k) 400) 3 (up μ 517 n (byC v k) 400 3 + 1)) 400 3).toInt = _
      rw [setM_same, upd_eq, show up μ 517 n (byC v k) 400 = μ 400 from setM_ne (by decide)]
      exact inc_I hn (by omega)) (by omega)
    refine ⟨μ', ?_, hF.step (by decide) rfl⟩
    show mX0_put_b3 _ _ _ _ _ = _
    unfold mX0_put_b3
    refine (if_neg (shl4_lo k (by omega))).trans ?_
    refine bind_step (gR_400_2 554 (by omega) _ _) ?_
    refine bind_step (gI_400_3 554 (by omega) _ _) ?_
    refine bind_step (bas_E hn (by omega)) ?_
    refine bind_step (gI_400_3 554 (by omega) _ _) ?_
    refine bind_step (pf_E isF_400_3) ?_
    exact e
theorem four_loop {z : Zt} {v : Int32} : ∀ (d k fu n : Nat) (μ : Mu), 4 = k + d → d < fu → (μ 537 4).toInt = (n : Int) → n + d ≤ 300 → ∃ μ', mX2_four_l3 fu (E μ z) (some 537) v (shl4 k) = some ((), E μ' z) ∧ Fed 537 4 541 byM v k d n μ μ' := by
  intro d
  induction d with
  | zero =>
    intro k fu n μ hk hf hn h3
    obtain ⟨g, rfl⟩ : ∃ g, fu = g + 1 := ⟨fu - 1, by omega⟩
    have hk4 : k = 4 := by omega
    subst hk4
    refine ⟨μ, ?_, hn, fun _ _ _ => rfl, fun _ _ => rfl, fun _ _ => rfl, fun i hi => absurd hi (by omega)⟩
    show mX2_four_b3 _ _ _ _ _ = _
    unfold mX2_four_b3
    exact if_pos shl4_hi
  | succ d ih =>
    intro k fu n μ hk hf hn h3
    obtain ⟨g, rfl⟩ : ∃ g, fu = g + 1 := ⟨fu - 1, by omega⟩
    obtain ⟨μ', e, hF⟩ := ih (k + 1) g (n + 1) (up (up μ 541 n (byM v k)) 537 4 (up μ 541 n (byM v k) 537 4 + 1)) (by omega) (by omega) (by
      show (setM (up μ 541 n (byM v k)) 537 (upd (up μ 541 n (byM v k) 537) 4 (up μ 541 n (byM v k) 537 4 + 1)) 537 4).toInt = _
      rw [setM_same, upd_eq, show up μ 541 n (byM v k) 537 = μ 537 from setM_ne (by decide)]
      exact inc_I hn (by omega)) (by omega)
    refine ⟨μ', ?_, hF.step (by decide) rfl⟩
    show mX2_four_b3 _ _ _ _ _ = _
    unfold mX2_four_b3
    refine (if_neg (shl4_lo k (by omega))).trans ?_
    refine bind_step (gR_537_3 554 (by omega) _ _) ?_
    refine bind_step (gI_537_4 554 (by omega) _ _) ?_
    refine bind_step (ias_E isI_541 hn (by omega)) ?_
    refine bind_step (gI_537_4 554 (by omega) _ _) ?_
    refine bind_step (pf_E isF_537_4) ?_
    exact e
/-- p of the five ints fed -/
def Fed5 (c j l : Nat) (b : Int32 → Nat → Int32) (a : Nat → Int32) (p n : Nat) (μ μ' : Mu) : Prop := (μ' c j).toInt = ((n + 4 * p : Nat) : Int) ∧ (∀ q, q ≠ c → q ≠ l → μ' q = μ q) ∧ (∀ i, i ≠ j → μ' c i = μ c i) ∧ (∀ i, i < n → μ' l i = μ l i) ∧ ∀ i, i < 4 * p → μ' l (n + i) = b (a (i / 4)) (i % 4)
theorem Fed5.refl {c j l : Nat} {b : Int32 → Nat → Int32} {a : Nat → Int32} {n : Nat} {μ : Mu} (h : (μ c j).toInt = (n : Int)) : Fed5 c j l b a 0 n μ μ := ⟨h, fun _ _ _ => rfl, fun _ _ => rfl, fun _ _ => rfl, fun i hi => absurd hi (by omega)⟩
theorem Fed5.step {c j l : Nat} {b : Int32 → Nat → Int32} {a : Nat → Int32} {p n : Nat} {μ μ1 μ2 : Mu} (h : Fed5 c j l b a p n μ μ1) (h2 : Fed c j l b (a p) 0 4 (n + 4 * p) μ1 μ2) : Fed5 c j l b a (p + 1) n μ μ2 := by
  obtain ⟨a1, a2, a3, a4, a5⟩ := h
  obtain ⟨b1, b2, b3, b4, b5⟩ := h2
  refine ⟨by rw [b1]; omega, fun q q1 q2 => (b2 q q1 q2).trans (a2 q q1 q2), fun i hi => (b3 i hi).trans (a3 i hi), fun i hi => (b4 i (by omega)).trans (a4 i hi), fun i hi => ?_⟩
  by_cases h9 : i < 4 * p
  · rw [b4 _ (by omega)]
    exact a5 i h9
  · have := b5 (i - 4 * p) (by omega)
    rw [show n + 4 * p + (i - 4 * p) = n + i by omega] at this
    rw [this, show i / 4 = p by omega, show 0 + (i - 4 * p) = i % 4 by omega]
theorem put_5 {z : Zt} {a : Nat → Int32} {p n : Nat} {μ μ1 : Mu} (hn : n + 4 * p + 4 ≤ 300) (h : Fed5 400 3 517 byC a p n μ μ1) : ∃ μ2, mX0_put 400 (a p) (E μ1 z) = some ((), E μ2 z) ∧ Fed5 400 3 517 byC a (p + 1) n μ μ2 := by
  obtain ⟨μ2, e, hF⟩ := put_loop (z := z) (v := a p) 4 0 FU (n + 4 * p) μ1 (by omega) (by unfold FU; omega) h.1 (by omega)
  exact ⟨μ2, e, h.step hF⟩
theorem four_5 {z : Zt} {a : Nat → Int32} {p n : Nat} {μ μ1 : Mu} (hn : n + 4 * p + 4 ≤ 300) (h : Fed5 537 4 541 byM a p n μ μ1) : ∃ μ2, mX2_four 537 (a p) (E μ1 z) = some ((), E μ2 z) ∧ Fed5 537 4 541 byM a (p + 1) n μ μ2 := by
  obtain ⟨μ2, e, hF⟩ := four_loop (z := z) (v := a p) 4 0 FU (n + 4 * p) μ1 (by omega) (by unfold FU; omega) h.1 (by omega)
  exact ⟨μ2, e, h.step hF⟩
theorem ow_feed (L : Nat) (xs : Nat → Int32) : Ow_feed (Inv (TX TT) L xs) := by
  intro n μ z a0 a1 a2 a3 a4 hI
  have hI' := hI
  obtain ⟨h1, h2, ⟨t1, t2, t3, t4, t5, t6, t7⟩, h4, h5⟩ := hI'
  obtain ⟨m, hm⟩ : ∃ m : Nat, (μ 400 3).toInt = (m : Int) := ⟨(μ 400 3).toInt.toNat, by have := t2.1; omega⟩
  have hm3 : m ≤ 300 := by have := t2.2; omega
  have e20 : (μ 400 3 + 20).toInt = ((m + 20 : Nat) : Int) := addN hm (y := 20) rfl (by omega)
  have c300 : (300 : Int32).toInt = 300 := rfl
  by_cases hc : μ 400 3 + 20 ≤ 300
  · have hm2 : m + 20 ≤ 300 := by
      rw [Int32.le_iff_toInt_le, e20, c300] at hc
      omega
    have hv : ∀ f : Nat → Int32, f 0 = a0 → f 1 = a1 → f 2 = a2 → f 3 = a3 → f 4 = a4 → Agr Int32 (Inv (TX TT) L xs) n μ z (fun w => mX0_feed 400 a0 a1 a2 a3 a4 w) (fun w => mX2_feed 537 a0 a1 a2 a3 a4 w) := by
      intro f f0 f1 f2 f3 f4
      obtain ⟨m1, e1, g1⟩ := put_5 (z := z) (by omega) (Fed5.refl (c := 400) (j := 3) (l := 517) (b := byC) (a := f) (μ := μ) hm)
      obtain ⟨m2, e2, g2⟩ := put_5 (z := z) (by omega) g1
      obtain ⟨m3, e3, g3⟩ := put_5 (z := z) (by omega) g2
      obtain ⟨m4, e4, g4⟩ := put_5 (z := z) (by omega) g3
      obtain ⟨m5, e5, g5⟩ := put_5 (z := z) (by omega) g4
      have hk : (m5 537 4).toInt = (m : Int) := by rw [g5.2.1 537 (by decide) (by decide), t1]; exact hm
      obtain ⟨q1, i1, j1⟩ := four_5 (z := z) (by omega) (Fed5.refl (c := 537) (j := 4) (l := 541) (b := byM) (a := f) (μ := m5) hk)
      obtain ⟨q2, i2, j2⟩ := four_5 (z := z) (by omega) j1
      obtain ⟨q3, i3, j3⟩ := four_5 (z := z) (by omega) j2
      obtain ⟨q4, i4, j4⟩ := four_5 (z := z) (by omega) j3
      obtain ⟨q5, i5, j5⟩ := four_5 (z := z) (by omega) j4
      rw [show f 0 = a0 from f0] at e1 i1
      rw [show f (0 + 1) = a1 from f1] at e2 i2
      rw [show f (0 + 1 + 1) = a2 from f2] at e3 i3
      rw [show f (0 + 1 + 1 + 1) = a3 from f3] at e4 i4
      rw [show f (0 + 1 + 1 + 1 + 1) = a4 from f4] at e5 i5
      have er : q5 537 4 = m5 400 3 := I32_eq (by rw [j5.1, g5.1])
      have oe : ∀ q, q ≠ 400 → q ≠ 517 → q ≠ 537 → q ≠ 541 → q5 q = μ q := fun q k1 k2 k3 k4 => (j5.2.1 q k3 k4).trans (g5.2.1 q k1 k2)
      have e400 : q5 400 = m5 400 := j5.2.1 400 (by decide) (by decide)
      have e517 : q5 517 = m5 517 := j5.2.1 517 (by decide) (by decide)
      obtain ⟨h1, h2, -, h4, h5⟩ := hI.next
      refine ⟨m5 400 3, m5, z, q5, z, ?_, ?_, ⟨Nat.le_refl _, Nat.le_refl _⟩, ⟨Nat.le_refl _, Nat.le_refl _⟩, rfl, RelS_congr (fun k k1 k2 => oe k (by omega) (by omega) (by omega) (by omega)) (oe 538 (by decide) (by decide) (by decide) (by decide)) h1, RelS_congr (fun k k1 k2 => oe k (by omega) (by omega) (by omega) (by omega)) (oe 539 (by decide) (by decide) (by decide) (by decide)) h2, ?_, h4, TX_ext (oe 540 (by decide) (by decide) (by decide) (by decide)) (by rw [oe 402 (by decide) (by decide) (by decide) (by decide)]) (by rw [oe 460 (by decide) (by decide) (by decide) (by decide)]) rfl (fun _ _ => rfl) (Nat.le_refl _) h5⟩
      · show mX0_feed 400 a0 a1 a2 a3 a4 (E μ z) = _
        unfold mX0_feed
        refine bind_step (gI_400_3 554 (by omega) _ _) ?_
        refine (if_pos hc).trans ?_
        refine bind_step (recv_400 554 (by omega) _ _) ?_
        refine bind_step (cal_E e1) ?_
        refine bind_step (recv_400 554 (by omega) _ _) ?_
        refine bind_step (cal_E e2) ?_
        refine bind_step (recv_400 554 (by omega) _ _) ?_
        refine bind_step (cal_E e3) ?_
        refine bind_step (recv_400 554 (by omega) _ _) ?_
        refine bind_step (cal_E e4) ?_
        refine bind_step (recv_400 554 (by omega) _ _) ?_
        refine bind_step (cal_E e5) ?_
        refine bind_step (gI_400_3 554 (by omega) _ _) ?_
        rfl
      · show mX2_feed 537 a0 a1 a2 a3 a4 (E m5 z) = _
        unfold mX2_feed
        refine bind_step (gI_537_4 554 (by omega) _ _) ?_
        refine (if_pos (by rw [show m5 537 4 = μ 400 3 by rw [g5.2.1 537 (by decide) (by decide)]; exact t1]; exact hc)).trans ?_
        refine bind_step (recv_537 554 (by omega) _ _) ?_
        refine bind_step (cal_E i1) ?_
        refine bind_step (recv_537 554 (by omega) _ _) ?_
        refine bind_step (cal_E i2) ?_
        refine bind_step (recv_537 554 (by omega) _ _) ?_
        refine bind_step (cal_E i3) ?_
        refine bind_step (recv_537 554 (by omega) _ _) ?_
        refine bind_step (cal_E i4) ?_
        refine bind_step (recv_537 554 (by omega) _ _) ?_
        refine bind_step (cal_E i5) ?_
        refine bind_step (gI_537_4 554 (by omega) _ _) ?_
        rw [er]
      · unfold RelT
        rw [e400, e517]
        refine ⟨er, ⟨by rw [g5.1]; omega, by rw [g5.1]; omega⟩, fun j hj => ?_, ?_, ?_, ?_, ?_⟩
        · rw [g5.1] at hj
          by_cases hjm : j < m
          · rw [j5.2.2.2.1 j hjm, g5.2.1 541 (by decide) (by decide), g5.2.2.2.1 j hjm]
            exact t3 j (by omega)
          · have c1 := g5.2.2.2.2 (j - m) (by omega)
            have c2 := j5.2.2.2.2 (j - m) (by omega)
            rw [show m + (j - m) = j by omega] at c1 c2
            rw [c1, c2]
            exact ⟨and_255 _, by_bd _⟩
        · rw [j5.2.2.1 5 (by decide), g5.2.2.1 4 (by decide), g5.2.1 537 (by decide) (by decide)]; exact t4
        · rw [j5.2.2.1 6 (by decide), g5.2.2.1 5 (by decide), g5.2.1 537 (by decide) (by decide)]; exact t5
        · rw [g5.2.2.1 7 (by decide)]; exact t6
        · rw [j5.2.2.1 25 (by decide), g5.2.1 537 (by decide) (by decide)]; exact t7
    exact hv (fun i => match i with | 0 => a0 | 1 => a1 | 2 => a2 | 3 => a3 | _ => a4) rfl rfl rfl rfl rfl
  · refine Agr_ro hI (-1) ?_ ?_
    · show mX0_feed 400 a0 a1 a2 a3 a4 (E μ z) = _
      unfold mX0_feed
      refine bind_step (gI_400_3 554 (by omega) _ _) ?_
      exact if_neg hc
    · show mX2_feed 537 a0 a1 a2 a3 a4 (E μ z) = _
      unfold mX2_feed
      refine bind_step (gI_537_4 554 (by omega) _ _) ?_
      rw [t1]
      exact if_neg hc
