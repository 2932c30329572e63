/-! ===== what holds between two calls ===== -/
def bd (x : Int32) (lo hi : Int) : Prop := lo ≤ x.toInt ∧ x.toInt ≤ hi
/-- the numbers: n a State's own, A the model's row -/
def P1 (n A : Nat → Int32) : Prop := (A 0 = n 0 ∧ A 1 = n 1 ∧ A 3 = n 2 ∧ A 4 = n 3 ∧ A 5 = n 4 ∧ A 6 = n 5 ∧ A 18 = n 6) ∧
  bd (n 0) 0 8 ∧ bd (n 1) 0 99 ∧ bd (n 2) 0 4 ∧ (-1 ≤ (n 3).toInt ∧ (n 3).toInt < (n 2).toInt) ∧ bd (n 4) 0 30 ∧ bd (n 5) 0 8 ∧ bd (n 6) 0 4
/-- the orders -/
def P2 (n : Nat → Int32) (ord : Nat → Nat → Int32) (A : Nat → Int32) : Prop := ∀ o : Nat, (o : Int) < (n 0).toInt → (∀ j, j < 5 → A (20 + 6 * o + j) = ord o j) ∧ bd (ord o 0) 1 99 ∧ bd (ord o 1) 0 60 ∧ bd (ord o 2) 0 999 ∧ bd (ord o 3) 0 9 ∧ bd (ord o 4) 0 1
/-- what was said -/
def P3 (n : Nat → Int32) (said : Nat → Nat → Int32) (A : Nat → Int32) : Prop := ∀ k : Nat, (k : Int) < (n 5).toInt → (∀ j, j < 2 → A (68 + 2 * k + j) = said k j) ∧ bd (said k 0) 0 10 ∧ bd (said k 1) 0 1
/-- the bars -/
def P4 (n : Nat → Int32) (bar : Nat → Nat → Int32) (A : Nat → Int32) : Prop := ∀ k : Nat, (k : Int) < (n 6).toInt → (∀ j, j < 4 → A (9818 + 4 * k + j) = bar k j)
/-- a row's numbers within their bounds -/
def RB (X : Nat → Int32) : Prop := bd (X 0) 0 600 ∧ bd (X 1) (-9) 9 ∧ bd (X 2) (-9999) 9999 ∧ bd (X 3) (-99) 99 ∧ bd (X 4) 1 24 ∧ bd (X 5) 0 99 ∧ bd (X 6) 0 9 ∧ bd (X 7) 0 600 ∧ bd (X 8) 0 9999 ∧ bd (X 9) 0 30252 ∧ bd (X 10) (-1) 7 ∧ bd (X 11) 0 255 ∧ bd (X 12) 0 8
/-- what is kept of tenths: of a row, in the model's ring -/
def HR (X A : Nat → Int32) : Prop := ∀ t : Nat, (t : Int) < (X 8).toInt → (X 8).toInt ≤ (t : Int) + 60 → (∀ j, j < 6 → A (602 + 6 * (t % 1536) + j) = X (53 + 6 * (t % 60) + j)) ∧
  bd (X (53 + 6 * (t % 60))) (-10599) 10599 ∧ bd (X (54 + 6 * (t % 60))) (-99) 99 ∧ bd (X (55 + 6 * (t % 60))) (-9) 9 ∧ bd (X (56 + 6 * (t % 60))) 0 9 ∧ bd (X (57 + 6 * (t % 60))) (-600) 600 ∧ bd (X (58 + 6 * (t % 60))) (-1) 1
def bitAt (v : Int32) (o : Nat) : Int32 := (v >>> Int32.ofNat o) &&& 1
/-- the row of now: its numbers in the model's row; what landed -/
def P5 (n X A : Nat → Int32) : Prop := (∀ j, j < 9 → A (8 + j) = X j) ∧ A 2 = X 9 ∧ A 17 = X 10 ∧ A 7 = X 12 ∧ (∀ i : Nat, (i : Int) < (X 12).toInt → ∀ j, j < 2 → A (474 + 2 * i + j) = X (13 + 2 * i + j)) ∧
  (∀ o : Nat, (o : Int) < (n 0).toInt → A (25 + 6 * o) = bitAt (X 11) o) ∧ (X 10).toInt < (n 0).toInt
/-- the pages' times: none ahead of the first, none behind now -/
def PT (X : Nat → Int32) : Prop := ∀ i : Nat, (i : Int) < (X 12).toInt → 0 ≤ (X 14).toInt ∧ (X 14).toInt ≤ (X (14 + 2 * i)).toInt ∧ (X (14 + 2 * i)).toInt ≤ (X 8).toInt
theorem PT_keep {X X' : Nat → Int32} (h8 : (X 8).toInt ≤ (X' 8).toInt) (h12 : X' 12 = X 12) (hb : (X 12).toInt ≤ 8) (hp : ∀ i, i < 8 → X' (14 + 2 * i) = X (14 + 2 * i)) (h : PT X) : PT X' := by
  intro i hi
  rw [h12] at hi
  obtain ⟨h1, h2, h3⟩ := h i hi
  have e0 : X' 14 = X 14 := hp 0 (by omega)
  rw [e0, hp i (by omega)]
  omega
/-- what holds of any row of a State: bounds, history, landed bits of orders, as many written as landed -/
def RW (n X A : Nat → Int32) : Prop := RB X ∧ HR X A ∧ (∀ o : Nat, o < 8 → (n 0).toInt ≤ (o : Int) → bitAt (X 11) o = 0) ∧ (∀ o : Nat, (o : Int) = (X 10).toInt → bitAt (X 11) o = 0) ∧
  (X 12 = bitAt (X 11) 0 + bitAt (X 11) 1 + bitAt (X 11) 2 + bitAt (X 11) 3 + bitAt (X 11) 4 + bitAt (X 11) 5 + bitAt (X 11) 6 + bitAt (X 11) 7) ∧ PT X
/-- a step that is kept, against the model's -/
def P6 (n X : Nat → Int32) (step : Nat → Nat → Int32) (A : Nat → Int32) : Prop := ∀ k : Nat, (k : Int) < (n 4).toInt → RW n (step k) A ∧ (step k 10).toInt < (n 0).toInt ∧
  (∀ j, j < 9 → A (84 + 13 * k + j) = step k j) ∧ A (93 + 13 * k) = step k 10 ∧ A (94 + 13 * k) = step k 9 ∧ A (95 + 13 * k) = step k 12 ∧ A (96 + 13 * k) = step k 11 ∧
  (step k 12).toInt ≤ (X 12).toInt ∧ (∀ i : Nat, (i : Int) < (step k 12).toInt → ∀ j, j < 2 → step k (13 + 2 * i + j) = X (13 + 2 * i + j)) ∧ (step k 8).toInt ≤ (X 8).toInt ∧ (X 8).toInt ≤ (step k 8).toInt + 40 * ((n 4).toInt - (k : Int)) ∧
  (∀ k2 : Nat, k ≤ k2 → (k2 : Int) < (n 4).toInt → (step k 12).toInt ≤ (step k2 12).toInt ∧ (step k 8).toInt ≤ (step k2 8).toInt ∧ (step k2 8).toInt ≤ (step k 8).toInt + 40 * ((k2 : Int) - (k : Int)) ∧ (∀ i : Nat, (i : Int) < (step k 12).toInt → ∀ j, j < 2 → step k (13 + 2 * i + j) = step k2 (13 + 2 * i + j)))
/-- a State against a row of the model -/
def PS (n X : Nat → Int32) (ord said bar step : Nat → Nat → Int32) (A : Nat → Int32) : Prop := P1 n A ∧ P2 n ord A ∧ P3 n said A ∧ P4 n bar A ∧ P5 n X A ∧ RW n X A ∧ P6 n X step A
/-- m arrays in a row -/
def fam (μ : Mu) (b m : Nat) : Nat → Nat → Int32 := fun k => if k < m then μ (b + k) else fun _ => 0
/-- the State at s, the model's row at a -/
def RelS (μ : Mu) (s a : Nat) : Prop := PS (μ (s + 1)) (μ (s + 2)) (fam μ (s + 4) 8) (fam μ (s + 13) 8) (fam μ (s + 22) 4) (fam μ (s + 27) 30) (μ a)
/-- the tape and what a text said wrong -/
def RelT (μ : Mu) : Prop := μ 537 4 = μ 400 3 ∧ bd (μ 400 3) 0 300 ∧ (∀ j : Nat, (j : Int) < (μ 400 3).toInt → μ 541 j = μ 517 j &&& 255 ∧ bd (μ 517 j) (-128) 127) ∧ μ 537 5 = μ 400 4 ∧ μ 537 6 = μ 400 5 ∧ μ 400 7 = 0 ∧ μ 537 25 = 0
/-- the room, and the cells that nobody writes -/
def RelZ (L : Nat) (xs : Nat → Int32) (n : Nat) (z : Zt) : Prop := (∀ k, k < 400 → z.2.2.1 k = f0 L xs k) ∧ 554 ≤ z.2.2.2.1 ∧ z.2.2.2.1 ≤ 554 + n * 18000 ∧ z.2.2.2.2 ≤ 55565 + n * 85000
/-! ===== small functions ===== -/
def inB (a lo hi : Int32) : Int32 := if a < lo then 0 else if hi < a then 0 else 1
theorem nok0 : nok .boolean 0 = some () := by decide +kernel
theorem nok1 : nok .boolean 1 = some () := by decide +kernel
theorem in_E (a lo hi : Int32) (w : Wd) : mX0_in a lo hi w = some (inB a lo hi, w) := by
  unfold mX0_in inB
  simp only [nok0, nok1, Option.bind_some]
  split
  · rfl
  · split <;> rfl
theorem isIn_E (a lo hi : Int32) (w : Wd) : mX2_isIn a lo hi w = some (inB a lo hi, w) := by
  unfold mX2_isIn inB
  simp only [nok0, nok1, Option.bind_some]
  split
  · rfl
  · split <;> rfl
theorem cal_w {ρ : Type} {w : Wd} {f : Option (ρ × Wd)} {v : ρ} (h : f = some (v, w)) : cal w f = some (v, w) := by
  subst h
  exact if_pos ⟨Nat.le_refl _, Nat.le_refl _⟩
theorem inB_bd {a lo hi : Int32} : inB a lo hi = 1 ↔ bd a lo.toInt hi.toInt := by
  unfold inB bd
  simp only [Int32.lt_iff_toInt_lt]
  constructor
  · intro h
    split at h
    · cases h
    · split at h
      · cases h
      · omega
  · intro h
    rw [if_neg (by omega), if_neg (by omega)]
theorem inB_01 (a lo hi : Int32) : inB a lo hi = 0 ∨ inB a lo hi = 1 := by
  unfold inB
  split
  · exact Or.inl rfl
  · split
    · exact Or.inl rfl
    · exact Or.inr rfl
theorem near0_E {μ : Mu} {z : Zt} {a : Int32} : mX0_near 400 a (E μ z) = some (inB a 0 99, if inB a 0 99 = 1 then E (up μ 402 1 a) z else E μ z) := by
  unfold mX0_near
  refine bind_step (cal_w (in_E _ _ _ _)) ?_
  rcases inB_01 a 0 99 with h | h
  · rw [h]
    rfl
  · rw [h]
    refine (if_pos (show ¬ (1 : Int32) = 0 by decide)).trans ?_
    refine bind_step (gR_400_0 554 (by omega) _ _) ?_
    refine bind_step (gR_401_0 554 (by omega) _ _) ?_
    refine bind_step (ias_E (n := 1) isI_402 rfl (by omega)) ?_
    refine bind_step nok1 ?_
    rfl
theorem near2_E {μ : Mu} {z : Zt} {a : Int32} : mX2_near 537 a (E μ z) = some (inB a 0 99, if inB a 0 99 = 1 then E (up μ 538 1 a) z else E μ z) := by
  unfold mX2_near
  refine bind_step (cal_w (isIn_E _ _ _ _)) ?_
  rcases inB_01 a 0 99 with h | h
  · rw [h]
    rfl
  · rw [h]
    refine (if_pos (show ¬ (1 : Int32) = 0 by decide)).trans ?_
    refine bind_step (gR_537_0 554 (by omega) _ _) ?_
    refine bind_step (ias_E (n := 1) isI_538 rfl (by omega)) ?_
    refine bind_step nok1 ?_
    rfl
