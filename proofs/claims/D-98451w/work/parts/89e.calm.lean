/-! ===== left, calm: greatest common divisors ===== -/
theorem J64_eq {a b : Int64} (h : a.toInt = b.toInt) : a = b := Int64.toInt_inj.mp h
theorem cmp_0 {x : Int64} {a : Nat} (h : x.toInt = (a : Int)) : lg_cmp x 0 = 0 ↔ a = 0 := by
  have z0 : (0 : Int64).toInt = 0 := rfl
  constructor
  · intro q
    refine Decidable.byContradiction (fun h0 => ?_)
    unfold lg_cmp at q
    rw [if_pos (show x > 0 from Int64.lt_iff_toInt_lt.mpr (by rw [h, z0]; omega))] at q
    exact absurd q (by decide)
  · intro q
    have hx : x = 0 := J64_eq (by rw [h, q, z0]; rfl)
    rw [hx]
    decide
theorem lrm_N {x y : Int64} {a b : Nat} (hx : x.toInt = (a : Int)) (hy : y.toInt = (b : Int)) (ha : a < 1000000000000) (hb : b ≠ 0) : ∃ r, lrm x y = some r ∧ r.toInt = ((a % b : Nat) : Int) := by
  refine ⟨x - x / y * y, ?_, J64_rem hx hy ha⟩
  unfold lrm
  exact if_neg (fun q => by
    rw [q] at hy
    have : (0 : Int64).toInt = 0 := rfl
    omega)
theorem mod_half {y r : Nat} (hr : r ≠ 0) (h : r < y) : 2 * (y % r) < y := by
  have h1 := Nat.mod_lt y (Nat.pos_of_ne_zero hr)
  have h2 := Nat.div_add_mod y r
  have h3 : 1 ≤ y / r := (Nat.one_le_div_iff (Nat.pos_of_ne_zero hr)).mpr (by omega)
  have h4 : r * 1 ≤ r * (y / r) := Nat.mul_le_mul_left r h3
  omega
theorem gcd_C {w : Wd} : ∀ (k d : Nat) (x y : Int64) (a b : Nat), x.toInt = (a : Int) → y.toInt = (b : Int) → a < 1000000000000 → b < 1000000000000 → b < 2 ^ k → 2 * k + 1 ≤ d → ∃ g, rX0_common d x y w = some (g, w) ∧ g.toInt = ((Nat.gcd a b : Nat) : Int) := by
  have z : ∀ (d : Nat) (x y : Int64) (a b : Nat), x.toInt = (a : Int) → y.toInt = (b : Int) → b = 0 → 1 ≤ d → ∃ g, rX0_common d x y w = some (g, w) ∧ g.toInt = ((Nat.gcd a b : Nat) : Int) := by
    intro d x y a b hx hy hb hd
    obtain ⟨e, rfl⟩ : ∃ e, d = e + 1 := ⟨d - 1, by omega⟩
    refine ⟨x, ?_, by rw [hb, Nat.gcd_zero_right]; exact hx⟩
    show mX0_common _ _ _ _ = _
    unfold mX0_common
    exact if_neg (fun q => q ((cmp_0 hy).mpr hb))
  have s : ∀ (d : Nat) (x y : Int64) (a b : Nat), x.toInt = (a : Int) → y.toInt = (b : Int) → a < 1000000000000 → b ≠ 0 → (∀ r : Int64, r.toInt = ((a % b : Nat) : Int) → ∃ g, rX0_common d y r w = some (g, w) ∧ g.toInt = ((Nat.gcd b (a % b) : Nat) : Int)) → ∃ g, rX0_common (d + 1) x y w = some (g, w) ∧ g.toInt = ((Nat.gcd a b : Nat) : Int) := by
    intro d x y a b hx hy ha hb hn
    obtain ⟨r, r1, r2⟩ := lrm_N hx hy ha hb
    obtain ⟨g, g1, g2⟩ := hn r r2
    refine ⟨g, ?_, by rw [g2, Nat.gcd_comm b, ← Nat.gcd_rec, Nat.gcd_comm]⟩
    show mX0_common _ _ _ _ = _
    unfold mX0_common
    refine (if_pos (fun q => hb ((cmp_0 hy).mp q))).trans ?_
    refine bind_step r1 ?_
    refine bind_step (cal_w g1) ?_
    rfl
  intro k
  induction k with
  | zero =>
    intro d x y a b hx hy ha hb hk hd
    exact z d x y a b hx hy (by omega) (by omega)
  | succ k ih =>
    intro d x y a b hx hy ha hb hk hd
    by_cases b0 : b = 0
    · exact z d x y a b hx hy b0 (by omega)
    · obtain ⟨e, rfl⟩ : ∃ e, d = e + 1 + 1 := ⟨d - 2, by omega⟩
      have hm := Nat.mod_lt a (Nat.pos_of_ne_zero b0)
      refine s (e + 1) x y a b hx hy ha b0 (fun r hr => ?_)
      by_cases r0 : a % b = 0
      · exact z (e + 1) y r b (a % b) hy hr r0 (by omega)
      · refine s e y r b (a % b) hy hr hb r0 (fun q hq => ?_)
        have h2 := mod_half r0 hm
        exact ih e r q (a % b) (b % (a % b)) hr hq (by omega) (by omega) (by rw [Nat.pow_succ] at hk; omega) (by omega)
theorem gcd_M {w : Wd} : ∀ (k d : Nat) (x y : Int64) (a b : Nat), x.toInt = (a : Int) → y.toInt = (b : Int) → a < 1000000000000 → b < 1000000000000 → b < 2 ^ k → 2 * k + 1 ≤ d → ∃ g, mX2_common_l6 d w x y = some (g, w) ∧ g.toInt = ((Nat.gcd a b : Nat) : Int) := by
  have z : ∀ (d : Nat) (x y : Int64) (a b : Nat), x.toInt = (a : Int) → y.toInt = (b : Int) → b = 0 → 1 ≤ d → ∃ g, mX2_common_l6 d w x y = some (g, w) ∧ g.toInt = ((Nat.gcd a b : Nat) : Int) := by
    intro d x y a b hx hy hb hd
    obtain ⟨e, rfl⟩ : ∃ e, d = e + 1 := ⟨d - 1, by omega⟩
    refine ⟨x, ?_, by rw [hb, Nat.gcd_zero_right]; exact hx⟩
    show mX2_common_b6 _ _ _ _ = _
    unfold mX2_common_b6
    exact if_pos ((cmp_0 hy).mpr hb)
  have s : ∀ (d : Nat) (x y : Int64) (a b : Nat), x.toInt = (a : Int) → y.toInt = (b : Int) → a < 1000000000000 → b ≠ 0 → (∀ r : Int64, r.toInt = ((a % b : Nat) : Int) → ∃ g, mX2_common_l6 d w y r = some (g, w) ∧ g.toInt = ((Nat.gcd b (a % b) : Nat) : Int)) → ∃ g, mX2_common_l6 (d + 1) w x y = some (g, w) ∧ g.toInt = ((Nat.gcd a b : Nat) : Int) := by
    intro d x y a b hx hy ha hb hn
    obtain ⟨r, r1, r2⟩ := lrm_N hx hy ha hb
    obtain ⟨g, g1, g2⟩ := hn r r2
    refine ⟨g, ?_, by rw [g2, Nat.gcd_comm b, ← Nat.gcd_rec, Nat.gcd_comm]⟩
    show mX2_common_b6 _ _ _ _ = _
    unfold mX2_common_b6
    refine (if_neg (fun q => hb ((cmp_0 hy).mp q))).trans ?_
    refine bind_step r1 ?_
    exact g1
  intro k
  induction k with
  | zero =>
    intro d x y a b hx hy ha hb hk hd
    exact z d x y a b hx hy (by omega) (by omega)
  | succ k ih =>
    intro d x y a b hx hy ha hb hk hd
    by_cases b0 : b = 0
    · exact z d x y a b hx hy b0 (by omega)
    · obtain ⟨e, rfl⟩ : ∃ e, d = e + 1 + 1 := ⟨d - 2, by omega⟩
      have hm := Nat.mod_lt a (Nat.pos_of_ne_zero b0)
      refine s (e + 1) x y a b hx hy ha b0 (fun r hr => ?_)
      by_cases r0 : a % b = 0
      · exact z (e + 1) y r b (a % b) hy hr r0 (by omega)
      · refine s e y r b (a % b) hy hr hb r0 (fun q hq => ?_)
        have h2 := mod_half r0 hm
        exact ih e r q (a % b) (b % (a % b)) hr hq (by omega) (by omega) (by rw [Nat.pow_succ] at hk; omega) (by omega)
/-- both sides' greatest common divisor, and the quotient -/
theorem low_E {w w' : Wd} {x y : Int64} {a b : Nat} (hx : x.toInt = (a : Int)) (hy : y.toInt = (b : Int)) (ha : a < 1000000000000) (hb : b < 1000000000000) (h0 : b ≠ 0) :
    ∃ g, g ≠ 0 ∧ (∀ s : Int32, mX0_inLowest x y s w = some ((if s = 0 then x else y) / g, w)) ∧ mX2_common x y w' = some (g, w') := by
  obtain ⟨g, g1, g2⟩ := gcd_C (w := w) 40 200 y x b a hy hx hb ha (by omega) (by omega)
  obtain ⟨g', g1', g2'⟩ := gcd_M (w := w') 40 FU x y a b hx hy ha hb (by omega) (by unfold FU; omega)
  have hg : g' = g := J64_eq (by rw [g2, g2', Nat.gcd_comm])
  subst hg
  have hp := Nat.gcd_pos_of_pos_left a (Nat.pos_of_ne_zero h0)
  have hne : g' ≠ 0 := fun q => by
    rw [q] at g2
    have : (0 : Int64).toInt = 0 := rfl
    omega
  refine ⟨g', hne, fun s => ?_, g1'⟩
  unfold mX0_inLowest
  refine bind_step (cal_w g1) ?_
  have hd : ∀ q : Int64, ldv q g' = some (q / g') := fun q => if_neg hne
  by_cases hs : s = 0
  · refine (if_pos hs).trans ?_
    rw [if_pos hs]
    refine bind_step (hd x) ?_
    rfl
  · refine (if_neg hs).trans ?_
    rw [if_neg hs]
    refine bind_step (hd y) ?_
    rfl
theorem ldv_ne {q g : Int64} (h : g ≠ 0) : ldv q g = some (q / g) := if_neg h
theorem pow_C {w : Wd} {x : Int64} {a : Nat} (hx : x.toInt = (a : Int)) (ha : a ≤ 10) : ∀ (k d : Nat) (i : Int32), i.toInt = (k : Int) → k ≤ 9 → k < d → ∃ r, rX0_power d x i w = some (r, w) ∧ r.toInt = ((a ^ k : Nat) : Int) := by
  intro k
  induction k with
  | zero =>
    intro d i hi h9 hd
    obtain ⟨e, rfl⟩ : ∃ e, d = e + 1 := ⟨d - 1, by omega⟩
    have h0 : i = 0 := I32_eq (hi.trans rfl)
    refine ⟨1, ?_, rfl⟩
    show mX0_power _ _ _ _ = _
    unfold mX0_power
    exact if_neg (fun q => q h0)
  | succ k ih =>
    intro d i hi h9 hd
    obtain ⟨e, rfl⟩ : ∃ e, d = e + 1 := ⟨d - 1, by omega⟩
    have h0 : i ≠ 0 := fun q => by
      rw [q] at hi
      have : (0 : Int32).toInt = 0 := rfl
      omega
    obtain ⟨r, r1, r2⟩ := ih e (i - 1) (by rw [I32_sub hi (b := 1) (y := 1) rfl (by omega)]; omega) (by omega) (by omega)
    have hb : a ^ k ≤ 10 ^ 8 := Nat.le_trans (Nat.pow_le_pow_left ha k) (Nat.pow_le_pow_right (by omega) (by omega))
    have hm : a * a ^ k ≤ 10 * 10 ^ 8 := Nat.mul_le_mul ha hb
    refine ⟨x * r, ?_, by rw [J64_mul hx r2 (by omega), Nat.pow_succ, Nat.mul_comm]⟩
    show mX0_power _ _ _ _ = _
    unfold mX0_power
    refine (if_pos h0).trans ?_
    refine bind_step (cal_w r1) ?_
    rfl
theorem calm_loop {w : Wd} {s l1 l2 : Int32} {n a : Nat} {g x y : Int64} (hn : l1.toInt = (n : Int)) (h9 : n ≤ 9) (h2 : l2.toInt = (a : Int)) (ha : a ≤ 9) (hx : x.toInt = (((a + 1) ^ n : Nat) : Int)) (hy : y.toInt = ((10 ^ n : Nat) : Int)) (hg : g ≠ 0) (hc : mX2_common x y w = some (g, w)) :
    ∀ (d k fu : Nat) (l8 : Int32) (l4 l6 : Int64), n = k + d → l8.toInt = (k : Int) → d < fu → l4.toInt = (((a + 1) ^ k : Nat) : Int) → l6.toInt = ((10 ^ k : Nat) : Int) →
    mX2_calm_l33 fu w l1 l2 s l4 l6 l8 = some ((if s = 0 then x else y) / g, w) := by
  intro d
  induction d with
  | zero =>
    intro k fu l8 l4 l6 hk h8 hf h4 h6
    obtain ⟨e, rfl⟩ : ∃ e, fu = e + 1 := ⟨fu - 1, by omega⟩
    have hkn : k = n := by omega
    subst hkn
    have e4 : l4 = x := J64_eq (by rw [h4, hx])
    have e6 : l6 = y := J64_eq (by rw [h6, hy])
    subst e4
    subst e6
    show mX2_calm_b33 _ _ _ _ _ _ _ _ = _
    unfold mX2_calm_b33
    refine (if_pos (by rw [Int32.le_iff_toInt_le, hn, h8]; omega)).trans ?_
    by_cases hs : s = 0
    · refine (if_pos hs).trans ?_
      rw [if_pos hs]
      unfold mX2_calm_p73
      refine bind_step (cal_w hc) ?_
      refine bind_step (ldv_ne hg) ?_
      rfl
    · refine (if_neg hs).trans ?_
      rw [if_neg hs]
      unfold mX2_calm_p73
      refine bind_step (cal_w hc) ?_
      refine bind_step (ldv_ne hg) ?_
      rfl
  | succ d ih =>
    intro k fu l8 l4 l6 hk h8 hf h4 h6
    obtain ⟨e, rfl⟩ : ∃ e, fu = e + 1 := ⟨fu - 1, by omega⟩
    have b1 : (a + 1) ^ k ≤ 10 ^ 8 := Nat.le_trans (Nat.pow_le_pow_left (show a + 1 ≤ 10 by omega) k) (Nat.pow_le_pow_right (by omega) (by omega))
    have b2 : 10 ^ k ≤ 10 ^ 8 := Nat.pow_le_pow_right (by omega) (by omega)
    have m1 : (a + 1) ^ k * (a + 1) ≤ 10 ^ 8 * 10 := Nat.mul_le_mul b1 (by omega)
    show mX2_calm_b33 _ _ _ _ _ _ _ _ = _
    unfold mX2_calm_b33
    refine (if_neg (by rw [Int32.le_iff_toInt_le, hn, h8]; omega)).trans ?_
    refine bind_step rfl ?_
    refine ih (k + 1) e (l8 + 1) _ _ (by omega) (inc_I h8 (by omega)) (by omega) ?_ ?_
    · rw [J64_mul h4 (b := ((l2 + 1) : Int32).toInt64) (y := a + 1) (by rw [toI64]; exact addN h2 (y := 1) rfl (by omega)) (by omega), Nat.pow_succ]
    · rw [J64_mul h6 (b := 10) (y := 10) rfl (by omega), Nat.pow_succ]
theorem ow_calm {TX : Mu → Zt → Prop} (L : Nat) (xs : Nat → Int32) : Ow_calm (Inv TX L xs) := by
  intro n μ z a b s hs hI
  by_cases h1 : inB a 1 9 = 0
  · refine Agr_ro hI (-1) ?_ ?_
    · show mX0_calm 400 a b s (E μ z) = _
      unfold mX0_calm
      refine bind_step (cal_w (in_E _ _ _ _)) ?_
      exact if_pos h1
    · show mX2_calm 537 a b s (E μ z) = _
      unfold mX2_calm
      refine bind_step (cal_w (isIn_E _ _ _ _)) ?_
      exact if_pos h1
  by_cases h2 : inB b 0 9 = 0
  · refine Agr_ro hI (-1) ?_ ?_
    · show mX0_calm 400 a b s (E μ z) = _
      unfold mX0_calm
      refine bind_step (cal_w (in_E _ _ _ _)) ?_
      refine (if_neg h1).trans ?_
      refine bind_step (cal_w (in_E _ _ _ _)) ?_
      exact if_pos h2
    · show mX2_calm 537 a b s (E μ z) = _
      unfold mX2_calm
      refine bind_step (cal_w (isIn_E _ _ _ _)) ?_
      refine (if_neg h1).trans ?_
      refine bind_step (cal_w (isIn_E _ _ _ _)) ?_
      exact if_neg (fun q => q h2)
  have b1 := inB_ne.mp h1
  have b2 := inB_ne.mp h2
  have c1 : (1 : Int32).toInt = 1 := rfl
  have c0 : (0 : Int32).toInt = 0 := rfl
  have c9 : (9 : Int32).toInt = 9 := rfl
  obtain ⟨p, hp⟩ : ∃ p : Nat, a.toInt = (p : Int) := ⟨a.toInt.toNat, by have := b1.1; omega⟩
  obtain ⟨q, hq⟩ : ∃ q : Nat, b.toInt = (q : Int) := ⟨b.toInt.toNat, by have := b2.1; omega⟩
  have p9 : p ≤ 9 := by have := b1.2; omega
  have q9 : q ≤ 9 := by have := b2.2; omega
  have hq1 : ((b : Int32).toInt64 + 1).toInt = ((q + 1 : Nat) : Int) := J64_add (by rw [toI64]; exact hq) (b := 1) (y := 1) rfl (by omega)
  obtain ⟨x, x1, x2⟩ := pow_C (w := E μ z) hq1 (by omega) p 12 a hp p9 (by omega)
  obtain ⟨y, y1, y2⟩ := pow_C (w := E μ z) (x := 10) (a := 10) rfl (by omega) p 12 a hp p9 (by omega)
  have B1 : (q + 1) ^ p ≤ 10 ^ 9 := Nat.le_trans (Nat.pow_le_pow_left (show q + 1 ≤ 10 by omega) p) (Nat.pow_le_pow_right (by omega) p9)
  have B2 : 10 ^ p ≤ 10 ^ 9 := Nat.pow_le_pow_right (by omega) p9
  have B3 : 10 ^ p ≠ 0 := Nat.pos_iff_ne_zero.mp (Nat.pow_pos (by omega))
  obtain ⟨g, g1, g2, g3⟩ := low_E (w := E μ z) (w' := E μ z) x2 y2 (by omega) (by omega) B3
  refine Agr_ro hI ((if s = 0 then x else y) / g) ?_ ?_
  · show mX0_calm 400 a b s (E μ z) = _
    unfold mX0_calm
    refine bind_step (cal_w (in_E _ _ _ _)) ?_
    refine (if_neg h1).trans ?_
    refine bind_step (cal_w (in_E _ _ _ _)) ?_
    refine (if_neg h2).trans ?_
    refine bind_step (cal_w x1) ?_
    refine bind_step (cal_w y1) ?_
    refine bind_step (cal_w (g2 s)) ?_
    rfl
  · show mX2_calm 537 a b s (E μ z) = _
    unfold mX2_calm
    refine bind_step (cal_w (isIn_E _ _ _ _)) ?_
    refine (if_neg h1).trans ?_
    refine bind_step (cal_w (isIn_E _ _ _ _)) ?_
    refine (if_pos h2).trans ?_
    exact calm_loop hp p9 hq q9 x2 y2 g1 g3 p 0 FU 0 1 1 (by omega) rfl (by unfold FU; omega) rfl rfl
