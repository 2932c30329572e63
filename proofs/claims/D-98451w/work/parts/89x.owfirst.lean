/-! ===== first: the model ===== -/
section FM89
variable {μ : Mu} {z : Zt} {m : Nat}
theorem get_E0 {i j : Int32} {o w : Nat} (hi : i.toInt = (o : Int)) (hj : j.toInt = (w : Int)) (ho : o < 8) (hw : w < 6) : mX2_get 537 i j (E μ z) = some (μ 538 (20 + 6 * o + w), E μ z) := by
  have h := get_E (μ := μ) (z := z) (F := μ 537) (A := μ 538) (N := μ 543) (T := μ 545) (V := z.1 544) hi hj ho hw
  rw [← WM_0] at h
  exact h
/-- the row at hand -/
def RwM (g : Nat → Int32) (r : Nat → Nat) (m : Nat) : Prop := ∀ j, j < m → g j = Int32.ofNat (r j) ∧ r j < m
theorem piv_loop {g : Nat → Int32} {r : Nat → Nat} (hm8 : m ≤ 8) (hg : RwM g r m) : ∀ (p fu : Nat) (l1 : Int32), p + 1 ≤ m → l1.toInt = (p : Int) - 1 → p < fu → ∃ l1' : Int32, l1'.toInt = (pvN r p : Int) - 1 ∧ mX2_nextRow_l7 fu (E (setM μ 550 g) z) (some 537) l1 = mX2_nextRow_p34 (E (setM μ 550 g) z) (some 537) l1' := by
  intro p
  induction p with
  | zero =>
    intro fu l1 hp h1 hf
    obtain ⟨q, rfl⟩ : ∃ q, fu = q + 1 := ⟨fu - 1, by omega⟩
    refine ⟨l1, h1, ?_⟩
    show mX2_nextRow_b7 _ _ _ _ = _
    unfold mX2_nextRow_b7
    exact if_pos (by rw [Int32.lt_iff_toInt_lt, h1]; show ((0 : Nat) : Int) - 1 < 0; omega)
  | succ p ih =>
    intro fu l1 hp h1 hf
    obtain ⟨q, rfl⟩ : ∃ q, fu = q + 1 := ⟨fu - 1, by omega⟩
    have h1' : l1.toInt = (p : Int) := by omega
    have e550 : setM μ 550 g 550 = g := setM_same _ _ _
    obtain ⟨g1, g2⟩ := hg p (by omega)
    obtain ⟨g3, g4⟩ := hg (p + 1) (by omega)
    have pre : ∀ ρ : Option (Int32 × Wd), (if g p ≤ g (p + 1) then mX2_nextRow_p34 (E (setM μ 550 g) z) (some 537) l1 else mX2_nextRow_l7 q (E (setM μ 550 g) z) (some 537) (l1 + (-1))) = ρ → mX2_nextRow_l7 (q + 1) (E (setM μ 550 g) z) (some 537) l1 = ρ := by
      intro ρ hρ
      show mX2_nextRow_b7 _ _ _ _ = _
      unfold mX2_nextRow_b7
      refine (if_neg (by rw [Int32.lt_iff_toInt_lt, h1']; show ¬ (p : Int) < 0; omega)).trans ?_
      refine bind_step (gR_537_32 554 (by omega) _ _) ?_
      refine bind_step (ia_E (n := p) isI_550 h1' (by omega)) ?_
      refine bind_step (gR_537_32 554 (by omega) _ _) ?_
      refine bind_step (ia_E (n := p + 1) isI_550 (inc_I h1' (by omega)) (by omega)) ?_
      rw [e550]
      exact hρ
    have hle : g p ≤ g (p + 1) ↔ r p ≤ r (p + 1) := by
      rw [Int32.le_iff_toInt_le, g1, g3, tI (by omega), tI (by omega)]
      omega
    unfold pvN
    by_cases c : r (p + 1) < r p
    · rw [if_pos c]
      obtain ⟨l1', a1, a2⟩ := ih q (l1 + (-1)) (by omega) (by rw [I32_small h1' (show (-1 : Int32).toInt = -1 from rfl) (by omega)]; omega) (by omega)
      refine ⟨l1', a1, pre _ ?_⟩
      rw [if_neg (fun w => by have := hle.mp w; omega)]
      exact a2
    · rw [if_neg c]
      refine ⟨l1, h1, pre _ ?_⟩
      exact if_pos (hle.mpr (by omega))
theorem fd_loop {g : Nat → Int32} {r : Nat → Nat} {i : Nat} {l1 : Int32} (hm8 : m ≤ 8) (hg : RwM g r m) (h1 : l1.toInt = (i : Int)) (hi : i + 1 < m) (hri : r i ≤ r (i + 1)) : ∀ (k fu : Nat) (l2 : Int32), i + 1 ≤ k → k < m → l2.toInt = (k : Int) → k < fu → ∃ (l2' : Int32) (g' : Nat), l2'.toInt = (fdN r (r i) k : Int) ∧ i + 1 ≤ fdN r (r i) k ∧ fdN r (r i) k ≤ k ∧ r i ≤ r (fdN r (r i) k) ∧ mX2_nextRow_l47 fu (E (setM μ 550 g) z) (some 537) l1 l2 = mX2_nextRow_b47 (mX2_nextRow_l47 g') (E (setM μ 550 g) z) (some 537) l1 l2' := by
  intro k
  induction k with
  | zero => intro fu l2 h; omega
  | succ k ih =>
    intro fu l2 hk hkm h2 hf
    obtain ⟨q, rfl⟩ : ∃ q, fu = q + 1 := ⟨fu - 1, by omega⟩
    have e550 : setM μ 550 g 550 = g := setM_same _ _ _
    unfold fdN
    by_cases c : r (k + 1) < r i
    · rw [if_pos c]
      have hk2 : i + 1 ≤ k := by
        by_cases e : i + 1 = k + 1
        · have : i = k := by omega
          subst this
          omega
        · omega
      obtain ⟨l2', g', a1, a2, a3, a4, a5⟩ := ih q (l2 + (-1)) hk2 (by omega) (by rw [I32_small h2 (show (-1 : Int32).toInt = -1 from rfl) (by omega)]; omega) (by omega)
      refine ⟨l2', g', a1, a2, by omega, a4, ?_⟩
      rw [← a5]
      obtain ⟨g1, g2⟩ := hg i (by omega)
      obtain ⟨g3, g4⟩ := hg (k + 1) (by omega)
      show mX2_nextRow_b47 _ _ _ _ _ = _
      unfold mX2_nextRow_b47
      refine bind_step (gR_537_32 554 (by omega) _ _) ?_
      refine bind_step (ia_E (n := k + 1) isI_550 h2 (by omega)) ?_
      refine bind_step (gR_537_32 554 (by omega) _ _) ?_
      refine bind_step (ia_E (n := i) isI_550 h1 (by omega)) ?_
      rw [e550]
      exact if_neg (by rw [Int32.le_iff_toInt_le, g1, g3, tI (by omega), tI (by omega)]; omega)
    · rw [if_neg c]
      exact ⟨l2, q, h2, hk, Nat.le_refl _, by omega, rfl⟩
theorem swp_E {g : Nat → Int32} {r : Nat → Nat} {a b : Nat} (hg : RwM g r m) (ha : a < m) (hb : b < m) : RwM (upd (upd g a (g b)) b (g a)) (swp r a b) m := by
  intro j hj
  unfold swp
  by_cases e : j = b
  · rw [if_pos e, e, upd_eq]
    exact hg a ha
  · rw [if_neg e, upN e]
    by_cases e2 : j = a
    · rw [if_pos e2, e2, upd_eq]
      exact hg b hb
    · rw [if_neg e2, upN e2]
      exact hg j hj
theorem rv_loop (hm8 : m ≤ 8) : ∀ (f x y fu : Nat) (l4 l5 : Int32) (g : Nat → Int32) (r : Nat → Nat), y ≤ x + f → y < m → l4.toInt = (x : Int) → l5.toInt = (y : Int) → f < fu → RwM g r m → ∃ g', mX2_nextRow_l107 fu (E (setM μ 550 g) z) (some 537) l4 l5 = some (1, E (setM μ 550 g') z) ∧ RwM g' (rvN f x y r) m := by
  intro f
  induction f with
  | zero =>
    intro x y fu l4 l5 g r hy hym h4 h5 hf hg
    obtain ⟨q, rfl⟩ : ∃ q, fu = q + 1 := ⟨fu - 1, by omega⟩
    refine ⟨g, ?_, hg⟩
    show mX2_nextRow_b107 _ _ _ _ _ = _
    unfold mX2_nextRow_b107
    refine (if_pos (by rw [Int32.le_iff_toInt_le, h4, h5]; omega)).trans ?_
    exact bind_step nok1 rfl
  | succ f ih =>
    intro x y fu l4 l5 g r hy hym h4 h5 hf hg
    obtain ⟨q, rfl⟩ : ∃ q, fu = q + 1 := ⟨fu - 1, by omega⟩
    unfold rvN
    by_cases c : x < y
    · rw [if_pos c]
      have e550 : ∀ g : Nat → Int32, setM μ 550 g 550 = g := fun g => setM_same _ _ _
      obtain ⟨g', e, w⟩ := ih (x + 1) (y - 1) q (l4 + 1) (l5 + (-1)) _ _ (by omega) (by omega) (inc_I h4 (by omega)) (by rw [I32_small h5 (show (-1 : Int32).toInt = -1 from rfl) (by omega)]; omega) (by omega) (swp_E hg (show x < m by omega) hym)
      refine ⟨g', ?_, w⟩
      show mX2_nextRow_b107 _ _ _ _ _ = _
      unfold mX2_nextRow_b107
      refine (if_neg (by rw [Int32.le_iff_toInt_le, h4, h5]; omega)).trans ?_
      refine bind_step (gR_537_32 554 (by omega) _ _) ?_
      refine bind_step (ia_E (n := x) isI_550 h4 (by omega)) ?_
      refine bind_step (gR_537_32 554 (by omega) _ _) ?_
      refine bind_step (gR_537_32 554 (by omega) _ _) ?_
      refine bind_step (ia_E (n := y) isI_550 h5 (by omega)) ?_
      refine bind_step (ias_E (n := x) isI_550 h4 (by omega)) ?_
      rw [up_up, e550]
      refine bind_step (gR_537_32 554 (by omega) _ _) ?_
      refine bind_step (ias_E (n := y) isI_550 h5 (by omega)) ?_
      rw [up_up]
      exact e
    · rw [if_neg c]
      refine ⟨g, ?_, hg⟩
      show mX2_nextRow_b107 _ _ _ _ _ = _
      unfold mX2_nextRow_b107
      refine (if_pos (by rw [Int32.le_iff_toInt_le, h4, h5]; omega)).trans ?_
      exact bind_step nok1 rfl
theorem pv_le (r : Nat → Nat) : ∀ p, pvN r p ≤ p := by
  intro p
  induction p with
  | zero => exact Nat.le_refl _
  | succ p ih =>
    unfold pvN
    split
    · omega
    · omega
theorem pv_at (r : Nat → Nat) : ∀ p, pvN r p ≠ 0 → r (pvN r p - 1) ≤ r (pvN r p) := by
  intro p
  induction p with
  | zero => intro h; exact absurd rfl h
  | succ p ih =>
    unfold pvN
    by_cases c : r (p + 1) < r p
    · rw [if_pos c]
      exact ih
    · rw [if_neg c]
      intro _
      show r p ≤ r (p + 1)
      omega
theorem nextRow_E {g : Nat → Int32} {r : Nat → Nat} (hm1 : 1 ≤ m) (hm8 : m ≤ 8) (h34 : μ 537 34 = Int32.ofNat m) (hg : RwM g r m) : match nxN m r with
    | none => mX2_nextRow 537 (E (setM μ 550 g) z) = some (0, E (setM μ 550 g) z)
    | some f => ∃ g', mX2_nextRow 537 (E (setM μ 550 g) z) = some (1, E (setM μ 550 g') z) ∧ RwM g' f m := by
  have k34 : ∀ g, setM μ 550 g 537 34 = Int32.ofNat m := fun g => by rw [setM_ne (by omega)]; exact h34
  have hmI : (Int32.ofNat m).toInt = (m : Int) := tI (by omega)
  obtain ⟨l1', a1, a2⟩ := piv_loop (μ := μ) (z := z) hm8 hg (m - 1) FU (Int32.ofNat m - 2) (by omega) (by rw [I32_sub hmI (show (2 : Int32).toInt = 2 from rfl) (by omega)]; omega) (by unfold FU; omega)
  have hpl := pv_le r (m - 1)
  have pre : ∀ ρ : Option (Int32 × Wd), mX2_nextRow_p34 (E (setM μ 550 g) z) (some 537) l1' = ρ → mX2_nextRow 537 (E (setM μ 550 g) z) = ρ := by
    intro ρ hρ
    unfold mX2_nextRow
    refine bind_step ((gI_537_34 554 (by omega) _ _).trans (congrArg some (k34 _))) ?_
    exact a2.trans hρ
  unfold nxN
  by_cases c : pvN r (m - 1) = 0
  · rw [if_pos c]
    refine pre _ ?_
    unfold mX2_nextRow_p34
    refine (if_neg (by rw [Int32.le_iff_toInt_le, a1, c]; show ¬ (0 : Int) ≤ ((0 : Nat) : Int) - 1; omega)).trans ?_
    exact bind_step nok0 rfl
  · rw [if_neg c]
    generalize hp : pvN r (m - 1) = p at *
    have hat := pv_at r (m - 1) (by rw [hp]; exact c)
    rw [hp] at hat
    have h1 : l1'.toInt = ((p - 1 : Nat) : Int) := by rw [a1]; omega
    have hm1' : (Int32.ofNat m - 1).toInt = ((m - 1 : Nat) : Int) := by rw [I32_sub hmI (show (1 : Int32).toInt = 1 from rfl) (by omega)]; omega
    obtain ⟨l2', g', b1, b2, b3, b4, b5⟩ := fd_loop (μ := μ) (z := z) (i := p - 1) (l1 := l1') hm8 hg h1 (by omega) (by rw [show p - 1 + 1 = p by omega]; exact hat) (m - 1) FU (Int32.ofNat m - 1) (by omega) (by omega) hm1' (by unfold FU; omega)
    generalize hk : fdN r (r (p - 1)) (m - 1) = k at *
    obtain ⟨g1, g2⟩ := hg (p - 1) (by omega)
    obtain ⟨g3, g4⟩ := hg k (by omega)
    have e550 : ∀ g : Nat → Int32, setM μ 550 g 550 = g := fun g => setM_same _ _ _
    obtain ⟨g'', e, w⟩ := rv_loop (μ := μ) (z := z) hm8 8 p (m - 1) FU (l1' + 1) (Int32.ofNat m - 1) _ _ (by omega) (by omega) (by rw [inc_I h1 (by omega)]; omega) hm1' (by unfold FU; omega) (swp_E hg (show p - 1 < m by omega) (show k < m by omega))
    refine ⟨g'', pre _ ?_, w⟩
    unfold mX2_nextRow_p34
    refine (if_pos (by rw [Int32.le_iff_toInt_le, h1]; show (0 : Int) ≤ _; omega)).trans ?_
    refine bind_step ((gI_537_34 554 (by omega) _ _).trans (congrArg some (k34 _))) ?_
    rw [b5]
    unfold mX2_nextRow_b47
    refine bind_step (gR_537_32 554 (by omega) _ _) ?_
    refine bind_step (ia_E (n := k) isI_550 b1 (by omega)) ?_
    refine bind_step (gR_537_32 554 (by omega) _ _) ?_
    refine bind_step (ia_E (n := p - 1) isI_550 h1 (by omega)) ?_
    rw [e550]
    refine (if_pos (by rw [Int32.le_iff_toInt_le, g1, g3, tI (by omega), tI (by omega)]; omega)).trans ?_
    refine bind_step (gR_537_32 554 (by omega) _ _) ?_
    refine bind_step (ia_E (n := p - 1) isI_550 h1 (by omega)) ?_
    rw [e550]
    refine bind_step (gR_537_32 554 (by omega) _ _) ?_
    refine bind_step (gR_537_32 554 (by omega) _ _) ?_
    refine bind_step (ia_E (n := k) isI_550 b1 (by omega)) ?_
    rw [e550]
    refine bind_step (ias_E (n := p - 1) isI_550 h1 (by omega)) ?_
    rw [up_up, e550]
    refine bind_step (gR_537_32 554 (by omega) _ _) ?_
    refine bind_step (ias_E (n := k) isI_550 b1 (by omega)) ?_
    rw [up_up]
    refine bind_step ((gI_537_34 554 (by omega) _ _).trans (congrArg some (k34 _))) ?_
    exact e
/-- what the model answers of a row's waiting -/
def encV : Option Nat → Int32
  | none => -1
  | some v => Int32.ofNat v
/-- the model's lists, in plain numbers -/
def FmR (μ : Mu) (ms : List Nat) (L D W : Nat → Nat) : Prop := μ 537 34 = Int32.ofNat ms.length ∧ (∀ i, i < ms.length → μ 548 i = Int32.ofNat (gA ms i) ∧ gA ms i < 8 ∧ (μ 549 i).toInt = (L i : Int) ∧ L i ≤ 99 ∧ (μ 538 (20 + 6 * gA ms i + 2)).toInt = (D i : Int) ∧ (μ 538 (20 + 6 * gA ms i + 3)).toInt = (W i : Int) ∧ W i ≤ 9)
theorem waited_loop {ms : List Nat} {L D W : Nat → Nat} {r : Nat → Nat} (hm8 : ms.length ≤ 8) (hF : FmR μ ms L D W) (hg : RwM (μ 550) r ms.length) : ∀ (rest : List Nat) (k t s fu : Nat) (l1 l2 l3 : Int32), ms.length = k + rest.length → (∀ j, j < rest.length → gA rest j = r (k + j)) → t ≤ 99 * k → s ≤ 9000 * k → l1.toInt = (t : Int) → l2.toInt = (s : Int) → l3.toInt = (k : Int) → rest.length < fu →
    mX2_waited_l6 fu (E μ z) (some 537) l1 l2 l3 = some (encV (vlN L D W rest t s), E μ z) := by
  intro rest
  induction rest with
  | nil =>
    intro k t s fu l1 l2 l3 hk hr ht hs h1 h2 h3 hf
    obtain ⟨q, rfl⟩ : ∃ q, fu = q + 1 := ⟨fu - 1, by omega⟩
    show mX2_waited_b6 _ _ _ _ _ _ = _
    unfold mX2_waited_b6
    refine bind_step ((gI_537_34 554 (by omega) _ _).trans (congrArg some hF.1)) ?_
    refine (if_pos (by rw [Int32.le_iff_toInt_le, tI (by omega), h3]; have : ms.length = k + 0 := hk; omega)).trans ?_
    show some (l2, E μ z) = some (Int32.ofNat s, E μ z)
    rw [I_nat h2]
  | cons i rest ih =>
    intro k t s fu l1 l2 l3 hk hr ht hs h1 h2 h3 hf
    obtain ⟨q, rfl⟩ : ∃ q, fu = q + 1 := ⟨fu - 1, by omega⟩
    have hk2 : ms.length = k + (rest.length + 1) := hk
    have hi : i = r k := hr 0 (by rw [List.length_cons]; omega)
    obtain ⟨g1, g2⟩ := hg k (by omega)
    rw [← hi] at g1 g2
    obtain ⟨w1, w2, w3, w4, w5, w6, w7⟩ := hF.2 i g2
    have hi8 : (Int32.ofNat i).toInt = (i : Int) := tI (by omega)
    have ho8 : (Int32.ofNat (gA ms i)).toInt = ((gA ms i : Nat) : Int) := tI (by omega)
    have hend : (l1 + μ 549 i).toInt = ((t + L i : Nat) : Int) := addN h1 w3 (by omega)
    have hle : W i * (t + L i) ≤ 9 * (t + L i) := Nat.mul_le_mul_right _ w7
    show mX2_waited_b6 _ _ _ _ _ _ = _
    unfold mX2_waited_b6
    refine bind_step ((gI_537_34 554 (by omega) _ _).trans (congrArg some hF.1)) ?_
    refine (if_neg (by rw [Int32.le_iff_toInt_le, tI (by omega), h3]; omega)).trans ?_
    refine bind_step (gR_537_30 554 (by omega) _ _) ?_
    refine bind_step (gR_537_32 554 (by omega) _ _) ?_
    refine bind_step (ia_E (n := k) isI_550 h3 (by omega)) ?_
    rw [g1]
    refine bind_step (ia_E (n := i) isI_548 hi8 (by omega)) ?_
    rw [w1]
    refine bind_step (gR_537_31 554 (by omega) _ _) ?_
    refine bind_step (gR_537_32 554 (by omega) _ _) ?_
    refine bind_step (ia_E (n := k) isI_550 h3 (by omega)) ?_
    rw [g1]
    refine bind_step (ia_E (n := i) isI_549 hi8 (by omega)) ?_
    refine bind_step (recv_537 554 (by omega) _ _) ?_
    refine bind_step (cal_w (get_E0 (w := 2) ho8 rfl (by omega) (by omega))) ?_
    unfold vlN
    by_cases c : D i < t + L i
    · rw [if_pos c]
      exact if_neg (by rw [Int32.le_iff_toInt_le, hend, w5]; omega)
    · rw [if_neg c]
      refine (if_pos (by rw [Int32.le_iff_toInt_le, hend, w5]; omega)).trans ?_
      refine bind_step (recv_537 554 (by omega) _ _) ?_
      refine bind_step (cal_w (get_E0 (w := 3) ho8 rfl (by omega) (by omega))) ?_
      refine bind_step rfl ?_
      exact ih (k + 1) (t + L i) (s + W i * (t + L i)) q _ _ (l3 + 1) (by omega) (fun j hj => by
        have := hr (j + 1) (by rw [List.length_cons]; omega)
        rw [show k + 1 + j = k + (j + 1) by omega]
        exact this) (by omega) (by omega) hend (addN h2 (mulN w6 hend (by omega)) (by omega)) (inc_I h3 (by omega)) (by rw [List.length_cons] at hf; omega)
theorem vl_le {L D W : Nat → Nat} (hL : ∀ i, L i ≤ 99) (hW : ∀ i, W i ≤ 9) : ∀ (row : List Nat) (k t s v : Nat), k + row.length ≤ 8 → t ≤ 99 * k → s ≤ 9000 * k → vlN L D W row t s = some v → v ≤ 72000 := by
  intro row
  induction row with
  | nil => intro k t s v h1 h2 h3 h4; cases h4; have : k + 0 ≤ 8 := h1; omega
  | cons i row ih =>
    intro k t s v h1 h2 h3 h4
    have h1' : k + (row.length + 1) ≤ 8 := h1
    unfold vlN at h4
    split at h4
    · cases h4
    · have := hL i
      have hle : W i * (t + L i) ≤ 9 * (t + L i) := Nat.mul_le_mul_right _ (hW i)
      exact ih (k + 1) _ _ _ (by omega) (by omega) (by omega) h4
end FM89
section FO89
variable {μ0 : Mu} {z0 z : Zt} {A0 : Nat → Int32} {ms : List Nat} {L D W : Nat → Nat} {i : Int32}
def BeM (ms : List Nat) (l3 : Int32) (ν : Mu) : Bst → Prop
  | none => l3 = -1
  | some x => l3.toInt = (x.1 : Int) ∧ x.1 ≤ 72000 ∧ ∀ j, j < ms.length → ν 551 j = Int32.ofNat (gA ms (gA x.2 j))
def ansR (ms : List Nat) (i : Int32) : Bst → Int32
  | none => -1
  | some x => if i = -1 then Int32.ofNat x.1 else if 0 ≤ i.toInt ∧ i.toInt < (ms.length : Int) then Int32.ofNat (gA ms (gA x.2 i.toInt.toNat)) else -1
def FiM (μ0 : Mu) (z0 z : Zt) (A0 : Nat → Int32) (ms : List Nat) (L D W : Nat → Nat) (a : List Nat) (l3 : Int32) (b : Bst) (ν : Mu) : Prop := MFr μ0 z0 ν z ∧ ν 538 = A0 ∧ FmR ν ms L D W ∧ RwM (ν 550) (gA a) ms.length ∧ BeM ms l3 ν b
theorem FmR_ne {ν ν' : Mu} (h1 : ν' 537 34 = ν 537 34) (h2 : ν' 538 = ν 538) (h3 : ν' 548 = ν 548) (h4 : ν' 549 = ν 549) (h : FmR ν ms L D W) : FmR ν' ms L D W := by
  unfold FmR at h ⊢
  rw [h1, h2, h3, h4]
  exact h
theorem setM_self (μ : Mu) (k : Nat) : setM μ k (μ k) = μ := by
  funext q
  unfold setM
  by_cases h : q = k
  · rw [if_pos h, h]
  · rw [if_neg h]
theorem copyB_loop {k22 : Wd → Option Nat → Int32 → Int32 → Int32 → Option (Int32 × Wd)} {a : List Nat} {l3 : Int32} (hm8 : ms.length ≤ 8) : ∀ (d k fu : Nat) (l6 : Int32) (ν : Mu), ms.length = k + d → l6.toInt = (k : Int) → d < fu → FmR ν ms L D W → RwM (ν 550) (gA a) ms.length → (∀ j, j < k → ν 551 j = Int32.ofNat (gA ms (gA a j))) →
    ∃ g, mX2_first_l54 k22 fu (E ν z) (some 537) i l3 l6 = mX2_first_p88 k22 (E (setM ν 551 g) z) (some 537) i l3 ∧ ∀ j, j < ms.length → g j = Int32.ofNat (gA ms (gA a j)) := by
  intro d
  induction d with
  | zero =>
    intro k fu l6 ν hk h6 hf hF hR hB
    obtain ⟨q, rfl⟩ : ∃ q, fu = q + 1 := ⟨fu - 1, by omega⟩
    refine ⟨ν 551, ?_, fun j hj => hB j (by omega)⟩
    rw [setM_self]
    show mX2_first_b54 _ _ _ _ _ _ _ = _
    unfold mX2_first_b54
    refine bind_step ((gI_537_34 554 (by omega) _ _).trans (congrArg some hF.1)) ?_
    exact if_pos (by rw [Int32.le_iff_toInt_le, tI (by omega), h6]; omega)
  | succ d ih =>
    intro k fu l6 ν hk h6 hf hF hR hB
    obtain ⟨q, rfl⟩ : ∃ q, fu = q + 1 := ⟨fu - 1, by omega⟩
    obtain ⟨r1, r2⟩ := hR k (by omega)
    have w1 := (hF.2 (gA a k) r2).1
    have hri : (Int32.ofNat (gA a k)).toInt = ((gA a k : Nat) : Int) := tI (by omega)
    obtain ⟨g, e, hg⟩ := ih (k + 1) q (l6 + 1) (up ν 551 k (Int32.ofNat (gA ms (gA a k)))) (by omega) (inc_I h6 (by omega)) (by omega) (FmR_ne (by rw [show up ν 551 k (Int32.ofNat (gA ms (gA a k))) 537 = ν 537 from setM_ne (by omega)]) (setM_ne (by omega)) (setM_ne (by omega)) (setM_ne (by omega)) hF) (by rw [show up ν 551 k (Int32.ofNat (gA ms (gA a k))) 550 = ν 550 from setM_ne (by omega)]; exact hR) (fun j hj => by
      show setM ν 551 _ 551 j = _
      rw [setM_same]
      by_cases ej : j = k
      · rw [ej, upd_eq]
      · rw [upN ej]
        exact hB j (by omega))
    rw [setM_setM'] at e
    refine ⟨g, ?_, hg⟩
    show mX2_first_b54 _ _ _ _ _ _ _ = _
    unfold mX2_first_b54
    refine bind_step ((gI_537_34 554 (by omega) _ _).trans (congrArg some hF.1)) ?_
    refine (if_neg (by rw [Int32.le_iff_toInt_le, tI (by omega), h6]; omega)).trans ?_
    refine bind_step (gR_537_33 554 (by omega) _ _) ?_
    refine bind_step (gR_537_30 554 (by omega) _ _) ?_
    refine bind_step (gR_537_32 554 (by omega) _ _) ?_
    refine bind_step (ia_E (n := k) isI_550 h6 (by omega)) ?_
    rw [r1]
    refine bind_step (ia_E (n := gA a k) isI_548 hri (by omega)) ?_
    rw [w1]
    refine bind_step (ias_E (n := k) isI_551 h6 (by omega)) ?_
    exact e
theorem first_end (hm8 : ms.length ≤ 8) (hi : -1 ≤ i.toInt) {l3 : Int32} {b : Bst} {ν : Mu} {g : Nat} (h34 : ν 537 34 = Int32.ofNat ms.length) (hb : BeM ms l3 ν b) : mX2_first_l22 (g + 1) (E ν z) (some 537) i l3 0 = some (ansR ms i b, E ν z) := by
  show mX2_first_b22 _ _ _ _ _ _ = _
  unfold mX2_first_b22
  refine (if_pos rfl).trans ?_
  match b, hb with
  | none, hb =>
    have hb' : l3 = -1 := hb
    exact if_neg (by rw [hb']; decide)
  | some x, hb =>
    obtain ⟨b1, b2, b3⟩ := hb
    refine (if_pos (by rw [Int32.le_iff_toInt_le, b1]; show (0 : Int) ≤ _; omega)).trans ?_
    show _ = some (if i = -1 then Int32.ofNat x.1 else if 0 ≤ i.toInt ∧ i.toInt < (ms.length : Int) then Int32.ofNat (gA ms (gA x.2 i.toInt.toNat)) else -1, E ν z)
    by_cases c1 : i = -1
    · rw [if_pos c1, I_nat b1]
      exact if_neg (fun q => q c1)
    · rw [if_neg c1]
      refine (if_pos c1).trans ?_
      have hne : i.toInt ≠ -1 := fun q => c1 (I32_eq (by rw [q]; rfl))
      refine bind_step ((gI_537_34 554 (by omega) _ _).trans (congrArg some h34)) ?_
      by_cases c2 : i.toInt < (ms.length : Int)
      · rw [if_pos ⟨by omega, c2⟩]
        refine (if_neg (by rw [Int32.le_iff_toInt_le, tI (by omega)]; omega)).trans ?_
        refine bind_step (gR_537_33 554 (by omega) _ _) ?_
        refine bind_step (ia_E (n := i.toInt.toNat) isI_551 (by omega) (by omega)) ?_
        rw [b3 _ (by omega)]
      · rw [if_neg (fun q => c2 q.2)]
        exact if_pos (by rw [Int32.le_iff_toInt_le, tI (by omega)]; omega)
theorem first_loop (hm1 : 1 ≤ ms.length) (hm8 : ms.length ≤ 8) (hi : -1 ≤ i.toInt) (hL : ∀ i, L i ≤ 99) (hW : ∀ i, W i ≤ 9) : ∀ (l : List (List Nat)) (a : List Nat) (fu : Nat) (l3 : Int32) (ν : Mu) (b : Bst), l.length + 2 ≤ fu → chkL ms.length (a :: l) = true → (∀ r, r ∈ a :: l → r.length = ms.length ∧ ∀ j, j < ms.length → gA r j < ms.length) → FiM μ0 z0 z A0 ms L D W a l3 b ν →
    ∃ ν', mX2_first_l22 fu (E ν z) (some 537) i l3 1 = some (ansR ms i ((a :: l).foldl (bsS L D W [] 0 0) b), E ν' z) ∧ MFr μ0 z0 ν' z ∧ ν' 538 = A0 := by
  have body : ∀ (a : List Nat) (g : Nat) (l3 : Int32) (ν : Mu) (b : Bst) (ρ : Bst → Int32), a.length = ms.length → FiM μ0 z0 z A0 ms L D W a l3 b ν → (∀ (l3' : Int32) (ν1 : Mu) (b1 : Bst), FiM μ0 z0 z A0 ms L D W a l3' b1 ν1 → ∃ ν', mX2_first_p88 (mX2_first_l22 g) (E ν1 z) (some 537) i l3' = some (ρ b1, E ν' z) ∧ MFr μ0 z0 ν' z ∧ ν' 538 = A0) →
      ∃ ν', mX2_first_l22 (g + 1) (E ν z) (some 537) i l3 1 = some (ρ (bsS L D W [] 0 0 b a), E ν' z) ∧ MFr μ0 z0 ν' z ∧ ν' 538 = A0 := by
    intro a g l3 ν b ρ al hI tail
    obtain ⟨j1, j2, j3, j4, j5⟩ := hI
    have ew := waited_loop (z := z) hm8 j3 j4 a 0 0 0 FU 0 0 0 (by omega) (fun j hj => by rw [Nat.zero_add]) (by omega) (by omega) rfl rfl rfl (by unfold FU; omega)
    have pre : ∀ ρ9 : Option (Int32 × Wd), (if encV (vlN L D W a 0 0) < 0 then mX2_first_p88 (mX2_first_l22 g) (E ν z) (some 537) i l3 else (if l3 < 0 then mX2_first_l54 (mX2_first_l22 g) FU (E ν z) (some 537) i (encV (vlN L D W a 0 0)) 0 else (if l3 ≤ encV (vlN L D W a 0 0) then mX2_first_p88 (mX2_first_l22 g) (E ν z) (some 537) i l3 else mX2_first_l54 (mX2_first_l22 g) FU (E ν z) (some 537) i (encV (vlN L D W a 0 0)) 0))) = ρ9 → mX2_first_l22 (g + 1) (E ν z) (some 537) i l3 1 = ρ9 := by
      intro ρ9 hρ
      show mX2_first_b22 _ _ _ _ _ _ = _
      unfold mX2_first_b22
      refine (if_neg one_ne).trans ?_
      refine bind_step (recv_537 554 (by omega) _ _) ?_
      refine bind_step (cal_w (v := encV (vlN L D W a 0 0)) ?_) ?_
      · unfold mX2_waited
        exact ew
      · exact hρ
    have cpy : ∀ v, v ≤ 72000 → ∃ ν', mX2_first_l54 (mX2_first_l22 g) FU (E ν z) (some 537) i (Int32.ofNat v) 0 = some (ρ (some (v, a)), E ν' z) ∧ MFr μ0 z0 ν' z ∧ ν' 538 = A0 := by
      intro v hv
      obtain ⟨gg, e, hg⟩ := copyB_loop (z := z) (i := i) (k22 := mX2_first_l22 g) (a := a) (l3 := Int32.ofNat v) hm8 ms.length 0 FU 0 ν (by omega) rfl (by unfold FU; omega) j3 j4 (fun j hj => absurd hj (Nat.not_lt_zero _))
      obtain ⟨ν', e2, w⟩ := tail (Int32.ofNat v) (setM ν 551 gg) (some (v, a)) ⟨MFr.trans j1 ⟨fun q hq => setM_ne (by omega), fun q hq => by rw [setM_ne (show (537 : Nat) ≠ 551 by omega)], rfl⟩, (setM_ne (by omega)).trans j2, FmR_ne (by rw [setM_ne (show (537 : Nat) ≠ 551 by omega)]) (setM_ne (by omega)) (setM_ne (by omega)) (setM_ne (by omega)) j3, by rw [setM_ne (show (550 : Nat) ≠ 551 by omega)]; exact j4, tI (by omega), hv, fun j hj => by rw [setM_same]; exact hg j hj⟩
      exact ⟨ν', e.trans e2, w⟩
    unfold bsS
    cases hv : vlN L D W a 0 0 with
    | none =>
      rw [hv] at pre
      obtain ⟨ν', e, w⟩ := tail l3 ν b ⟨j1, j2, j3, j4, j5⟩
      exact ⟨ν', pre _ ((if_pos (by decide)).trans e), w⟩
    | some v =>
      rw [hv] at pre
      have hv7 := vl_le hL hW a 0 0 0 v (by omega) (by omega) (by omega) hv
      have hvI : (Int32.ofNat v).toInt = (v : Int) := tI (by omega)
      have nv : ¬ encV (some v) < 0 := by
        show ¬ Int32.ofNat v < 0
        rw [Int32.lt_iff_toInt_lt, hvI]
        show ¬ (v : Int) < 0
        omega
      match b, j5 with
      | none, j5 =>
        have hb' : l3 = -1 := j5
        obtain ⟨ν', e, w⟩ := cpy v hv7
        refine ⟨ν', pre _ ((if_neg nv).trans ((if_pos (by rw [hb']; decide)).trans e)), w⟩
      | some x, j5 =>
        have hx : l3.toInt = (x.1 : Int) := j5.1
        have nl : ¬ l3 < 0 := by
          rw [Int32.lt_iff_toInt_lt, hx]
          show ¬ (x.1 : Int) < 0
          omega
        by_cases c : x.1 ≤ v
        · obtain ⟨ν', e, w⟩ := tail l3 ν (some x) ⟨j1, j2, j3, j4, j5⟩
          refine ⟨ν', pre _ ((if_neg nv).trans ((if_neg nl).trans ((if_pos (by show l3 ≤ Int32.ofNat v; rw [Int32.le_iff_toInt_le, hx, hvI]; omega)).trans ?_))), w⟩
          show _ = some (ρ (if x.1 ≤ v then some x else some (v, [] ++ a)), E ν' z)
          rw [if_pos c]
          exact e
        · obtain ⟨ν', e, w⟩ := cpy v hv7
          refine ⟨ν', pre _ ((if_neg nv).trans ((if_neg nl).trans ((if_neg (by show ¬ l3 ≤ Int32.ofNat v; rw [Int32.le_iff_toInt_le, hx, hvI]; omega)).trans ?_))), w⟩
          show _ = some (ρ (if x.1 ≤ v then some x else some (v, [] ++ a)), E ν' z)
          rw [if_neg c]
          exact e
  intro l
  induction l with
  | nil =>
    intro a fu l3 ν b hf hc hrow hI
    obtain ⟨g, rfl⟩ : ∃ g, fu = g + 2 := ⟨fu - 2, by have : 0 + 2 ≤ fu := hf; omega⟩
    refine body a (g + 1) l3 ν b (ansR ms i) (hrow a List.mem_cons_self).1 hI (fun l3' ν1 b1 hI1 => ?_)
    obtain ⟨j1, j2, j3, j4, j5⟩ := hI1
    have hn := nextRow_E (z := z) hm1 hm8 j3.1 j4
    rw [setM_self] at hn
    have hnone : nxN ms.length (gA a) = none := by
      unfold chkL at hc
      rw [Bool.and_eq_true] at hc
      exact Option.isNone_iff_eq_none.mp hc.1
    rw [hnone] at hn
    refine ⟨ν1, ?_, j1, j2⟩
    unfold mX2_first_p88
    refine bind_step (recv_537 554 (by omega) _ _) ?_
    refine bind_step (cal_w hn) ?_
    exact first_end hm8 hi j3.1 j5
  | cons a' l ih =>
    intro a fu l3 ν b hf hc hrow hI
    obtain ⟨g, rfl⟩ : ∃ g, fu = g + 1 := ⟨fu - 1, by omega⟩
    refine body a g l3 ν b (fun b => ansR ms i ((a' :: l).foldl (bsS L D W [] 0 0) b)) (hrow a List.mem_cons_self).1 hI (fun l3' ν1 b1 hI1 => ?_)
    obtain ⟨j1, j2, j3, j4, j5⟩ := hI1
    have hn := nextRow_E (z := z) hm1 hm8 j3.1 j4
    rw [setM_self] at hn
    have hc' := hc
    unfold chkL at hc'
    rw [Bool.and_eq_true] at hc'
    obtain ⟨hc1, hc2⟩ := hc'
    cases hnx : nxN ms.length (gA a) with
    | none =>
      rw [show (match a' :: l with
        | [] => (nxN ms.length (gA a)).isNone
        | b :: _ => match nxN ms.length (gA a) with
          | none => false
          | some f => (List.range' 0 ms.length).all (fun k => Nat.beq (f k) (gA b k))) = false by rw [hnx]] at hc1
      cases hc1
    | some f =>
      rw [hnx] at hn
      have hall : (List.range' 0 ms.length).all (fun k => Nat.beq (f k) (gA a' k)) = true := by
        have := hc1
        rw [hnx] at this
        exact this
      have hfe : ∀ j, j < ms.length → f j = gA a' j := fun j hj => by
        have := List.all_eq_true.mp hall j (List.mem_range'.mpr ⟨j, hj, by omega⟩)
        exact Nat.eq_of_beq_eq_true this
      obtain ⟨g', e, hg⟩ := hn
      have hg' : RwM g' (gA a') ms.length := fun j hj => by
        rw [← hfe j hj]
        exact hg j hj
      obtain ⟨ν', e2, w⟩ := ih a' g l3' (setM ν1 550 g') b1 (by rw [List.length_cons] at hf; omega) hc2 (fun r hr => hrow r (List.mem_cons_of_mem _ hr)) ⟨MFr.trans j1 ⟨fun q hq => setM_ne (by omega), fun q hq => by rw [setM_ne (show (537 : Nat) ≠ 550 by omega)], rfl⟩, (setM_ne (by omega)).trans j2, FmR_ne (by rw [setM_ne (show (537 : Nat) ≠ 550 by omega)]) (setM_ne (by omega)) (setM_ne (by omega)) (setM_ne (by omega)) j3, by rw [setM_same]; exact hg', (match b1, j5 with
          | none, j5 => j5
          | some x, j5 => ⟨j5.1, j5.2.1, fun j hj => by rw [setM_ne (show (551 : Nat) ≠ 550 by omega)]; exact j5.2.2 j hj⟩)⟩
      refine ⟨ν', ?_, w⟩
      unfold mX2_first_p88
      refine bind_step (recv_537 554 (by omega) _ _) ?_
      refine bind_step (cal_E e) ?_
      exact e2
end FO89
/-- the orders of a State, both sides -/
theorem Inv_ord {L : Nat} {xs : Nat → Int32} {n : Nat} {μ : Mu} {z : Zt} (hI : Inv (TX TT) L xs n μ z) : ∃ n0 : Nat, (μ 402 0).toInt = (n0 : Int) ∧ n0 ≤ 8 ∧ μ 538 0 = μ 402 0 ∧ μ 538 12 = μ 403 4 ∧ bd (μ 403 4) 1 24 ∧ OrB μ n0 ∧ ∀ o j, o < n0 → j < 5 → μ 538 (20 + 6 * o + j) = μ (405 + o) j := by
  have hps := hI.1
  obtain ⟨⟨⟨a0, -⟩, b0, -⟩, p2, -, -, p5, rw5, -⟩ := hps
  have a0' : μ 538 0 = μ 402 0 := a0
  have b0' : bd (μ 402 0) 0 8 := b0
  have hn0 : (μ 402 0).toInt = (((μ 402 0).toInt.toNat : Nat) : Int) := by have := b0'.1; omega
  have h8 : (μ 402 0).toInt.toNat ≤ 8 := by have := b0'.2; omega
  have hord : ∀ o, o < (μ 402 0).toInt.toNat → (∀ j, j < 5 → μ 538 (20 + 6 * o + j) = μ (405 + o) j) ∧ bd (μ (405 + o) 0) 1 99 ∧ bd (μ (405 + o) 1) 0 60 ∧ bd (μ (405 + o) 2) 0 999 ∧ bd (μ (405 + o) 3) 0 9 ∧ bd (μ (405 + o) 4) 0 1 := fun o ho => by
    have w := p2 o (by show (o : Int) < (μ 402 0).toInt; omega)
    have f9 : fam μ (401 + 4) 8 o = μ (405 + o) := fam_at (by omega)
    rw [f9] at w
    exact w
  exact ⟨_, hn0, h8, a0', p5.1 4 (by omega), rw5.1.2.2.2.2.1, fun o ho => (hord o ho).2, fun o j ho hj => (hord o ho).1 j hj⟩
theorem ow_first (L : Nat) (xs : Nat → Int32) : Ow_first (Inv (TX TT) L xs) := by
  intro n μ z set i hI
  obtain ⟨t, ht, ht9, hgo, hTc, hn1, h4, h2, hc7, hf25⟩ := Inv_q hI
  have hz := hI.2.2.2.1.2.1
  have m1 : (-1 : Int32).toInt = -1 := rfl
  obtain ⟨n0, hn0, h8, a0, a12, b4, hob, hoA⟩ := Inv_ord hI
  have hw : ∀ o, o < n0 → bd (μ (405 + o) 0) (-1000000) 1000000 ∧ bd (μ (405 + o) 1) (-1000000) 1000000 := fun o ho => ⟨bd_w (hob o ho).1 (by omega) (by omega), bd_w (hob o ho).2.1 (by omega) (by omega)⟩
  obtain ⟨μ1, e1, q1, l1⟩ := lays_E (set := set) (most := 7) hTc hz hn0 h8 (bd_w b4 (by omega) (by omega)) hw
  have d402 : μ1 402 = μ 402 := q1.1 402 (by omega)
  have d538 : μ1 538 = μ 538 := q1.1 538 (by omega)
  have d537 : μ1 537 = μ 537 := q1.1 537 (by omega)
  have model : ∀ μc : Mu, CQ μ μc → ∃ μ' z', mX2_layMembers 537 set 7 (E μc z) = some (lysB (μ 402 0) set 7, E μ' z') ∧ MFr μc z μ' z' ∧ μ' 538 = μ 538 ∧ (lysB (μ 402 0) set 7 = 1 → LyM μc z (μ 538) (LV μ) μ' z' (msL set n0) ∨ ∃ lv, LyM μc z (μ 538) lv μ' z' (msL set n0) ∧ ∀ o, o < n0 → lv o = LV μ o) := by
    intro μc hqc
    have hTm := Tc_CFr (CQ_CFr (z := z) hqc) hz hTc
    have c402 : μc 402 = μ 402 := hqc.1 402 (by omega)
    have c540 : μc 540 = μ 540 := hqc.1 540 (by omega)
    obtain ⟨μ', z', e, w1, w2, w3⟩ := layM_E (μ0 := μc) (z := z) (set := set) (n0 := n0) (A0 := μ 538) (most := 7) (hqc.1 538 (by omega)) hTm.2.1 (by rw [h4, c402]; exact hTc.2.2) (by rw [a0]; exact hn0) h8 (by rw [a12]; exact bd_w b4 (by omega) (by omega)) (fun o ho => by
      have x0 := hoA o 0 ho (by omega)
      have x1 := hoA o 1 ho (by omega)
      rw [Nat.add_zero] at x0
      rw [x0, x1]
      exact hw o ho)
    rw [a0] at e w3
    refine ⟨μ', z', e, w1, w2, fun hl => Or.inr ⟨_, w3 hl, fun o ho => ?_⟩⟩
    have x0 := hoA o 0 ho (by omega)
    have x1 := hoA o 1 ho (by omega)
    rw [Nat.add_zero] at x0
    show laF (μc 540) (μ 538 4) (μ 538 12) (μ 538 (20 + 6 * o)) (μ 538 (20 + 6 * o + 1)) = LV μ o
    unfold LV
    rw [x0, x1, c540, h4, a12]
  rcases lysB_01 (μ 402 0) set 7 with hl | hl
  · obtain ⟨μ2, z2, e2, w1, w2, -⟩ := model μ1 q1
    refine Agr_q hI ht (-1) ?_ q1 ?_ w1 (by rw [w2]; exact RgOk.refl _ _)
    · show mX0_first 400 set i (E μ z) = _
      unfold mX0_first
      refine bind_step (recv_400 554 (by omega) _ _) ?_
      refine bind_step (cal_E e1) ?_
      exact if_pos hl
    · show mX2_first 537 set i (E μ1 z) = _
      unfold mX2_first
      refine bind_step (recv_537 554 (by omega) _ _) ?_
      refine bind_step (cal_Z e2 (by rw [w1.2.2]; exact Nat.le_refl _) (by rw [w1.2.2]; exact Nat.le_refl _)) ?_
      exact if_pos hl
  have hnl : ¬ lysB (μ 402 0) set 7 = 0 := by rw [hl]; exact one_ne
  have hin : ¬ inB set 1 ((1 <<< (μ 402 0 &&& 31)) - 1) = 0 := fun q => by
    unfold lysB at hl
    rw [if_pos q] at hl
    cases hl
  obtain ⟨⟨lyl, ms1, ms8, mslt⟩, hbc, -⟩ := Ly_of hn0 h8 hin
  have ms7 : (msL set n0).length ≤ 7 := by
    unfold lysB at hl
    rw [if_neg hin] at hl
    by_cases q : bcF set ≤ 7
    · rw [hbc, Int32.le_iff_toInt_le, tI (by omega)] at q
      have : (7 : Int32).toInt = 7 := rfl
      omega
    · rw [if_neg q] at hl
      cases hl
  obtain ⟨ly1, ly21⟩ := l1 hl
  have hmI : (Int32.ofNat (msL set n0).length).toInt = ((msL set n0).length : Int) := tI (by omega)
  have hin1 : ∀ x : Int32, inB i (-1) (x - 1) = 1 ↔ (-1 ≤ i.toInt ∧ i.toInt ≤ (x - 1).toInt) := fun x => inB_bd
  have e20 : (μ1 400 20 - 1).toInt = ((msL set n0).length : Int) - 1 := by rw [ly1.2.1]; exact I32_sub hmI (show (1 : Int32).toInt = 1 from rfl) (by omega)
  have hn0p : 1 ≤ n0 := by
    have := msL_len set n0
    omega
  have hgAn : ∀ i, gA (msL set n0) i < n0 := fun i => by
    by_cases q : i < (msL set n0).length
    · exact mslt i q
    · have : gA (msL set n0) i = 0 := by
        unfold gA
        rw [List.getD_eq_getElem?_getD, List.getElem?_eq_none (by omega)]
        rfl
      omega
  have hL99 : ∀ i, fL μ (msL set n0) i ≤ 99 := fun i => by
    have := (LV_bd μ (gA (msL set n0) i) (hob _ (hgAn i)).2.1).2
    unfold fL
    omega
  have hW9 : ∀ i, fW μ (msL set n0) i ≤ 9 := fun i => by
    have := (hob _ (hgAn i)).2.2.2.1.2
    unfold fW
    omega
  -- the model's search, from any world that a search of the component leaves
  have mod2 : ∀ μc : Mu, CQ μ μc → -1 ≤ i.toInt → ∃ μ' z', mX2_first 537 set i (E μc z) = some (ansR (msL set n0) i ((lexU (msL set n0).length (msL set n0).length 0).foldl (bsS (fL μ (msL set n0)) (fD μ (msL set n0)) (fW μ (msL set n0)) [] 0 0) none), E μ' z') ∧ MFr μc z μ' z' ∧ μ' 538 = μ 538 := by
    intro μc hqc hi
    obtain ⟨μ2, z2, e2, w1, w2, w3⟩ := model μc hqc
    have hLM : ∃ lv, LyM μc z (μ 538) lv μ2 z2 (msL set n0) ∧ ∀ o, o < n0 → lv o = LV μ o := by
      rcases w3 hl with q | q
      · exact ⟨_, q, fun _ _ => rfl⟩
      · exact q
    obtain ⟨lv, ⟨y1, y2, y3, y4⟩, hlv⟩ := hLM
    have hF : FmR μ2 (msL set n0) (fL μ (msL set n0)) (fD μ (msL set n0)) (fW μ (msL set n0)) := by
      refine ⟨y3, fun j hj => ?_⟩
      obtain ⟨v1, v2, v3⟩ := y4 j hj
      have hjn := mslt j hj
      obtain ⟨o1, o2, o3, o4, o5⟩ := hob _ hjn
      refine ⟨v1, by omega, ?_, hL99 j, ?_, ?_, hW9 j⟩
      · rw [v2, hlv _ hjn]
        unfold fL
        have := (LV_bd μ (gA (msL set n0) j) o2).1
        omega
      · rw [w2, hoA _ 2 hjn (by omega)]
        unfold fD
        have := o3.1
        omega
      · rw [w2, hoA _ 3 hjn (by omega)]
        unfold fW
        have := o4.1
        omega
    have hhead := lex_head ⟨(msL set n0).length, by omega⟩
    have hchk := chk_all ⟨(msL set n0).length, by omega⟩
    have hlen := lex_len ⟨(msL set n0).length, by omega⟩
    cases hlex : lexU (msL set n0).length (msL set n0).length 0 with
    | nil =>
      rw [show lexU (⟨(msL set n0).length, by omega⟩ : Fin 8).val (⟨(msL set n0).length, by omega⟩ : Fin 8).val 0 = [] from hlex] at hhead
      cases hhead
    | cons a l =>
      rw [show lexU (⟨(msL set n0).length, by omega⟩ : Fin 8).val (⟨(msL set n0).length, by omega⟩ : Fin 8).val 0 = a :: l from hlex] at hhead hchk hlen
      have ha : a = List.range' 0 (msL set n0).length := Option.some.inj hhead
      have hrows : ∀ r, r ∈ a :: l → r.length = (msL set n0).length ∧ ∀ j, j < (msL set n0).length → gA r j < (msL set n0).length := fun r hr => lexU_in _ _ r (by rw [hlex]; exact hr)
      have hga : ∀ j, j < (msL set n0).length → gA a j = j := fun j hj => by
        rw [ha]
        unfold gA
        rw [List.getD_eq_getElem?_getD, List.getElem?_range' hj]
        simp
      have hR : RwM (μ2 550) (gA a) (msL set n0).length := fun j hj => by
        rw [hga j hj]
        exact ⟨(y4 j hj).2.2, hj⟩
      obtain ⟨μ3, e3, w4, w5⟩ := first_loop (μ0 := μc) (z0 := z) (z := z2) (A0 := μ 538) (i := i) ms1 ms8 hi hL99 hW9 l a FU (-1) μ2 none (by
        have : (a :: l).length ≤ 5040 := hlen
        rw [List.length_cons] at this
        unfold FU
        omega) hchk hrows ⟨y1, y2, hF, hR, rfl⟩
      refine ⟨μ3, z2, ?_, w4, w5⟩
      unfold mX2_first
      refine bind_step (recv_537 554 (by omega) _ _) ?_
      refine bind_step (cal_Z e2 (by rw [w1.2.2]; exact Nat.le_refl _) (by rw [w1.2.2]; exact Nat.le_refl _)) ?_
      refine (if_neg hnl).trans ?_
      refine (if_pos (by rw [Int32.le_iff_toInt_le, m1]; exact hi)).trans ?_
      exact e3
  by_cases hi : -1 ≤ i.toInt
  · by_cases hi2 : i.toInt < ((msL set n0).length : Int)
    · -- both search
      have hr0 : FcR μ μ1 (msL set n0) [] none := ⟨ly1, fun j hj => absurd hj (Nat.not_lt_zero _), ly21⟩
      obtain ⟨μ2, e2, f1, -, f3⟩ := firsts_E (z := z) hz h8 ms8 mslt hob (msL set n0).length 0 10 0 0 0 0 0 0 0 μ1 none [] (by omega) rfl (by omega) (by omega) (by omega) (by omega) rfl rfl rfl rfl hr0
      obtain ⟨μ3, z3, e3, w1, w2⟩ := mod2 μ2 f1.1 hi
      refine Agr_q hI ht _ (?_ : mX0_first 400 set i (E μ z) = some (_, E μ2 z)) f1.1 e3 w1 (by rw [w2]; exact RgOk.refl _ _)
      unfold mX0_first
      refine bind_step (recv_400 554 (by omega) _ _) ?_
      refine bind_step (cal_E e1) ?_
      refine (if_neg hnl).trans ?_
      refine bind_step (gI_400_20 554 (by omega) _ _) ?_
      refine bind_step (cal_w (in_E _ _ _ _)) ?_
      refine (if_pos (by rw [(hin1 _).mpr ⟨hi, by rw [e20]; omega⟩]; exact one_ne)).trans ?_
      refine bind_step (recv_400 554 (by omega) _ _) ?_
      refine bind_step (cal_E e2) ?_
      refine bind_step (gI_400_21 554 (by omega) _ _) ?_
      generalize (lexU (msL set n0).length (msL set n0).length 0).foldl (bsS (fL μ (msL set n0)) (fD μ (msL set n0)) (fW μ (msL set n0)) [] 0 0) none = b at f3
      match b, f3 with
      | none, f3 =>
        have f3' : μ2 400 21 = -1 := f3
        refine (if_pos f3').trans ?_
        refine bind_step (gI_400_21 554 (by omega) _ _) ?_
        rw [f3']
        rfl
      | some x, f3 =>
        obtain ⟨x1, x2, x3⟩ := f3
        have nm : ¬ μ2 400 21 = -1 := fun q => by
          have e9 : (Int32.ofNat x.1).toInt = (x.1 : Int) := tI (by omega)
          rw [← x1, q, m1] at e9
          omega
        refine (if_neg nm).trans ?_
        show _ = some ((if i = -1 then Int32.ofNat x.1 else if 0 ≤ i.toInt ∧ i.toInt < ((msL set n0).length : Int) then Int32.ofNat (gA (msL set n0) (gA x.2 i.toInt.toNat)) else -1), E μ2 z)
        by_cases c1 : i = -1
        · rw [if_pos c1]
          refine (if_neg (fun q => q c1)).trans ?_
          refine bind_step (gI_400_21 554 (by omega) _ _) ?_
          rw [x1]
        · rw [if_neg c1]
          have hne : i.toInt ≠ -1 := fun q => c1 (I32_eq (by rw [q]; rfl))
          rw [if_pos ⟨by omega, hi2⟩]
          refine (if_pos c1).trans ?_
          refine bind_step (gR_400_17 554 (by omega) _ _) ?_
          refine bind_step (ia_E (n := i.toInt.toNat) isI_534 (by omega) (by omega)) ?_
          rw [x3 _ (by omega)]
    · -- too far: the component doesn't search
      obtain ⟨μ3, z3, e3, w1, w2⟩ := mod2 μ1 q1 hi
      have ha : ∀ b, ansR (msL set n0) i b = -1 := fun b => by
        have hne : ¬ i = -1 := fun q => by rw [q, m1] at hi2; omega
        cases b with
        | none => rfl
        | some x =>
          show (if i = -1 then Int32.ofNat x.1 else if 0 ≤ i.toInt ∧ i.toInt < ((msL set n0).length : Int) then Int32.ofNat (gA (msL set n0) (gA x.2 i.toInt.toNat)) else -1) = -1
          rw [if_neg hne, if_neg (fun q => hi2 q.2)]
      rw [ha] at e3
      refine Agr_q hI ht (-1) ?_ q1 e3 w1 (by rw [w2]; exact RgOk.refl _ _)
      show mX0_first 400 set i (E μ z) = _
      unfold mX0_first
      refine bind_step (recv_400 554 (by omega) _ _) ?_
      refine bind_step (cal_E e1) ?_
      refine (if_neg hnl).trans ?_
      refine bind_step (gI_400_20 554 (by omega) _ _) ?_
      refine bind_step (cal_w (in_E _ _ _ _)) ?_
      exact if_neg (fun q => q ((inB_01 _ _ _).resolve_right (fun w => by have := (hin1 _).mp w; rw [e20] at this; omega)))
  · obtain ⟨μ2, z2, e2, w1, w2, -⟩ := model μ1 q1
    refine Agr_q hI ht (-1) ?_ q1 ?_ w1 (by rw [w2]; exact RgOk.refl _ _)
    · show mX0_first 400 set i (E μ z) = _
      unfold mX0_first
      refine bind_step (recv_400 554 (by omega) _ _) ?_
      refine bind_step (cal_E e1) ?_
      refine (if_neg hnl).trans ?_
      refine bind_step (gI_400_20 554 (by omega) _ _) ?_
      refine bind_step (cal_w (in_E _ _ _ _)) ?_
      exact if_neg (fun q => q ((inB_01 _ _ _).resolve_right (fun w => hi ((hin1 _).mp w).1)))
    · show mX2_first 537 set i (E μ1 z) = _
      unfold mX2_first
      refine bind_step (recv_537 554 (by omega) _ _) ?_
      refine bind_step (cal_Z e2 (by rw [w1.2.2]; exact Nat.le_refl _) (by rw [w1.2.2]; exact Nat.le_refl _)) ?_
      refine (if_neg hnl).trans ?_
      exact if_neg (by rw [Int32.le_iff_toInt_le, m1]; exact hi)
