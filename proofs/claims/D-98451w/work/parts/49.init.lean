/-! ===== what holds ahead of the first call ===== -/
theorem PS_init {n X A : Nat → Int32} {ord said bar step : Nat → Nat → Int32} (hn : ∀ j, j < 7 → n j = ([0, 2, 0, (-1), 0, 0, 0] : List Int32).getD j 0) (hX : ∀ j, j < 13 → X j = ([0, 0, 0, 0, 5, 0, 0, 0, 0, 59, (-1), 0, 0] : List Int32).getD j 0) (hA : ∀ j, j < 19 → A j = ([0, 2, 59, 0, (-1), 0, 0, 0, 0, 0, 0, 0, 5, 0, 0, 0, 0, (-1), 0] : List Int32).getD j 0) : PS n X ord said bar step A := by
  have n0 : n 0 = 0 := hn 0 (by omega)
  have n1 : n 1 = 2 := hn 1 (by omega)
  have n2 : n 2 = 0 := hn 2 (by omega)
  have n3 : n 3 = (-1) := hn 3 (by omega)
  have n4 : n 4 = 0 := hn 4 (by omega)
  have n5 : n 5 = 0 := hn 5 (by omega)
  have n6 : n 6 = 0 := hn 6 (by omega)
  have x0 : X 0 = 0 := hX 0 (by omega)
  have x1 : X 1 = 0 := hX 1 (by omega)
  have x2 : X 2 = 0 := hX 2 (by omega)
  have x3 : X 3 = 0 := hX 3 (by omega)
  have x4 : X 4 = 5 := hX 4 (by omega)
  have x5 : X 5 = 0 := hX 5 (by omega)
  have x6 : X 6 = 0 := hX 6 (by omega)
  have x7 : X 7 = 0 := hX 7 (by omega)
  have x8 : X 8 = 0 := hX 8 (by omega)
  have x9 : X 9 = 59 := hX 9 (by omega)
  have x10 : X 10 = (-1) := hX 10 (by omega)
  have x11 : X 11 = 0 := hX 11 (by omega)
  have x12 : X 12 = 0 := hX 12 (by omega)
  have a0 : A 0 = 0 := hA 0 (by omega)
  have a1 : A 1 = 2 := hA 1 (by omega)
  have a2 : A 2 = 59 := hA 2 (by omega)
  have a3 : A 3 = 0 := hA 3 (by omega)
  have a4 : A 4 = (-1) := hA 4 (by omega)
  have a5 : A 5 = 0 := hA 5 (by omega)
  have a6 : A 6 = 0 := hA 6 (by omega)
  have a7 : A 7 = 0 := hA 7 (by omega)
  have a8 : A 8 = 0 := hA 8 (by omega)
  have a9 : A 9 = 0 := hA 9 (by omega)
  have a10 : A 10 = 0 := hA 10 (by omega)
  have a11 : A 11 = 0 := hA 11 (by omega)
  have a12 : A 12 = 5 := hA 12 (by omega)
  have a13 : A 13 = 0 := hA 13 (by omega)
  have a14 : A 14 = 0 := hA 14 (by omega)
  have a15 : A 15 = 0 := hA 15 (by omega)
  have a16 : A 16 = 0 := hA 16 (by omega)
  have a17 : A 17 = (-1) := hA 17 (by omega)
  have a18 : A 18 = 0 := hA 18 (by omega)
  have z0 : (0 : Int32).toInt = 0 := rfl
  refine ⟨⟨⟨?_, ?_, ?_, ?_, ?_, ?_, ?_⟩, ?_, ?_, ?_, ?_, ?_, ?_, ?_⟩, ?_, ?_, ?_, ⟨?_, ?_, ?_, ?_, ?_, ?_, ?_⟩, ⟨⟨?_, ?_, ?_, ?_, ?_, ?_, ?_, ?_, ?_, ?_, ?_, ?_, ?_⟩, ?_, ?_, ?_, ⟨?_, fun i hi => by rw [x12, z0] at hi; omega⟩⟩, ?_⟩
  · rw [a0, n0]
  · rw [a1, n1]
  · rw [a3, n2]
  · rw [a4, n3]
  · rw [a5, n4]
  · rw [a6, n5]
  · rw [a18, n6]
  · rw [n0]; unfold bd; decide
  · rw [n1]; unfold bd; decide
  · rw [n2]; unfold bd; decide
  · rw [n3, n2]; decide
  · rw [n4]; unfold bd; decide
  · rw [n5]; unfold bd; decide
  · rw [n6]; unfold bd; decide
  · intro o ho
    rw [n0, z0] at ho
    omega
  · intro o ho
    rw [n5, z0] at ho
    omega
  · intro o ho
    rw [n6, z0] at ho
    omega
  · intro j hj
    match j, hj with
    | 0, _ => exact a8.trans x0.symm
    | 1, _ => exact a9.trans x1.symm
    | 2, _ => exact a10.trans x2.symm
    | 3, _ => exact a11.trans x3.symm
    | 4, _ => exact a12.trans x4.symm
    | 5, _ => exact a13.trans x5.symm
    | 6, _ => exact a14.trans x6.symm
    | 7, _ => exact a15.trans x7.symm
    | 8, _ => exact a16.trans x8.symm
    | j + 9, hj => exact absurd hj (by omega)
  · rw [a2, x9]
  · rw [a17, x10]
  · rw [a7, x12]
  · intro i hi
    rw [x12, z0] at hi
    omega
  · intro o ho
    rw [n0, z0] at ho
    omega
  · rw [x10, n0]; decide
  · rw [x0]; unfold bd; decide
  · rw [x1]; unfold bd; decide
  · rw [x2]; unfold bd; decide
  · rw [x3]; unfold bd; decide
  · rw [x4]; unfold bd; decide
  · rw [x5]; unfold bd; decide
  · rw [x6]; unfold bd; decide
  · rw [x7]; unfold bd; decide
  · rw [x8]; unfold bd; decide
  · rw [x9]; unfold bd; decide
  · rw [x10]; unfold bd; decide
  · rw [x11]; unfold bd; decide
  · rw [x12]; unfold bd; decide
  · intro t ht
    rw [x8, z0] at ht
    omega
  · intro o h1 h2
    rw [x11]
    match o, h1 with
    | 0, _ => decide
    | 1, _ => decide
    | 2, _ => decide
    | 3, _ => decide
    | 4, _ => decide
    | 5, _ => decide
    | 6, _ => decide
    | 7, _ => decide
    | o + 8, h1 => exact absurd h1 (by omega)
  · intro o ho
    rw [x10, show (-1 : Int32).toInt = -1 from by decide] at ho
    omega
  · rw [x12, x11]; decide
  · intro k hk
    rw [n4, z0] at hk
    omega
set_option maxRecDepth 100000
theorem m3n : ∀ j, j < 7 → mu3 402 j = ([0, 2, 0, (-1), 0, 0, 0] : List Int32).getD j 0 := by
  intro j hj
  match j, hj with
  | 0, _ => rfl
  | 1, _ => rfl
  | 2, _ => rfl
  | 3, _ => rfl
  | 4, _ => rfl
  | 5, _ => rfl
  | 6, _ => rfl
  | j + 7, hj => exact absurd hj (by omega)
theorem m3x : ∀ j, j < 13 → mu3 403 j = ([0, 0, 0, 0, 5, 0, 0, 0, 0, 59, (-1), 0, 0] : List Int32).getD j 0 := by
  intro j hj
  match j, hj with
  | 0, _ => rfl
  | 1, _ => rfl
  | 2, _ => rfl
  | 3, _ => rfl
  | 4, _ => rfl
  | 5, _ => rfl
  | 6, _ => rfl
  | 7, _ => rfl
  | 8, _ => rfl
  | 9, _ => rfl
  | 10, _ => rfl
  | 11, _ => rfl
  | 12, _ => rfl
  | j + 13, hj => exact absurd hj (by omega)
theorem m3a : ∀ j, j < 19 → mu3 538 j = ([0, 2, 59, 0, (-1), 0, 0, 0, 0, 0, 0, 0, 5, 0, 0, 0, 0, (-1), 0] : List Int32).getD j 0 := by
  intro j hj
  match j, hj with
  | 0, _ => rfl
  | 1, _ => rfl
  | 2, _ => rfl
  | 3, _ => rfl
  | 4, _ => rfl
  | 5, _ => rfl
  | 6, _ => rfl
  | 7, _ => rfl
  | 8, _ => rfl
  | 9, _ => rfl
  | 10, _ => rfl
  | 11, _ => rfl
  | 12, _ => rfl
  | 13, _ => rfl
  | 14, _ => rfl
  | 15, _ => rfl
  | 16, _ => rfl
  | 17, _ => rfl
  | 18, _ => rfl
  | j + 19, hj => exact absurd hj (by omega)
theorem m3ni : ∀ j, j < 7 → mu3 460 j = ([0, 2, 0, (-1), 0, 0, 0] : List Int32).getD j 0 := by
  intro j hj
  match j, hj with
  | 0, _ => rfl
  | 1, _ => rfl
  | 2, _ => rfl
  | 3, _ => rfl
  | 4, _ => rfl
  | 5, _ => rfl
  | 6, _ => rfl
  | j + 7, hj => exact absurd hj (by omega)
theorem m3xi : ∀ j, j < 13 → mu3 461 j = ([0, 0, 0, 0, 5, 0, 0, 0, 0, 59, (-1), 0, 0] : List Int32).getD j 0 := by
  intro j hj
  match j, hj with
  | 0, _ => rfl
  | 1, _ => rfl
  | 2, _ => rfl
  | 3, _ => rfl
  | 4, _ => rfl
  | 5, _ => rfl
  | 6, _ => rfl
  | 7, _ => rfl
  | 8, _ => rfl
  | 9, _ => rfl
  | 10, _ => rfl
  | 11, _ => rfl
  | 12, _ => rfl
  | j + 13, hj => exact absurd hj (by omega)
theorem m3ai : ∀ j, j < 19 → mu3 539 j = ([0, 2, 59, 0, (-1), 0, 0, 0, 0, 0, 0, 0, 5, 0, 0, 0, 0, (-1), 0] : List Int32).getD j 0 := by
  intro j hj
  match j, hj with
  | 0, _ => rfl
  | 1, _ => rfl
  | 2, _ => rfl
  | 3, _ => rfl
  | 4, _ => rfl
  | 5, _ => rfl
  | 6, _ => rfl
  | 7, _ => rfl
  | 8, _ => rfl
  | 9, _ => rfl
  | 10, _ => rfl
  | 11, _ => rfl
  | 12, _ => rfl
  | 13, _ => rfl
  | 14, _ => rfl
  | 15, _ => rfl
  | 16, _ => rfl
  | 17, _ => rfl
  | 18, _ => rfl
  | j + 19, hj => exact absurd hj (by omega)
theorem inv_0 {TX : Mu → Zt → Prop} (L : Nat) (xs : Nat → Int32) (hTX : TX mu3 (zz2 L xs)) : Inv TX L xs 0 mu3 (zz2 L xs) := by
  refine ⟨PS_init m3n m3x m3a, PS_init m3ni m3xi m3ai, ⟨rfl, ⟨by decide, by decide⟩, fun j hj => ?_, rfl, rfl, rfl, rfl⟩, ⟨fun k hk => rfl, Nat.le_refl _, Nat.le_refl _, Nat.le_refl _⟩, hTX⟩
  have e : mu3 400 3 = 0 := rfl
  rw [e, show (0 : Int32).toInt = 0 from rfl] at hj
  omega
