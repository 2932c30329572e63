/-! ===== steps: State against model, in plain numbers ===== -/
/-- how far the row may still go before a step is too far back -/
def Sl (s : Int) (n X : Nat → Int32) (step : Nat → Nat → Int32) : Prop := ∀ k : Nat, (k : Int) < (n 4).toInt → (X 8).toInt + s ≤ (step k 8).toInt + 40 * ((n 4).toInt - (k : Int))
theorem P1_keep {n n' A A' : Nat → Int32} (hn : ∀ j, j ≠ 4 → n' j = n j) (h4 : bd (n' 4) 0 30) (hA5 : A' 5 = n' 4) (hA : ∀ i, i < 7 ∨ i = 18 → i ≠ 2 → i ≠ 5 → A' i = A i) (h : P1 n A) : P1 n' A' := by
  obtain ⟨⟨a0, a1, a3, a4, a5, a6, a18⟩, b0, b1, b2, b3, b4, b5, b6⟩ := h
  refine ⟨⟨?_, ?_, ?_, ?_, hA5, ?_, ?_⟩, ?_, ?_, ?_, ?_, h4, ?_, ?_⟩
  · rw [hA _ (by omega) (by omega) (by omega), hn _ (by omega)]; exact a0
  · rw [hA _ (by omega) (by omega) (by omega), hn _ (by omega)]; exact a1
  · rw [hA _ (by omega) (by omega) (by omega), hn _ (by omega)]; exact a3
  · rw [hA _ (by omega) (by omega) (by omega), hn _ (by omega)]; exact a4
  · rw [hA _ (by omega) (by omega) (by omega), hn _ (by omega)]; exact a6
  · rw [hA _ (by omega) (by omega) (by omega), hn _ (by omega)]; exact a18
  · rw [hn _ (by omega)]; exact b0
  · rw [hn _ (by omega)]; exact b1
  · rw [hn _ (by omega)]; exact b2
  · rw [hn _ (by omega), hn _ (by omega)]; exact b3
  · rw [hn _ (by omega)]; exact b5
  · rw [hn _ (by omega)]; exact b6
theorem P2_row {n n' : Nat → Int32} {ord : Nat → Nat → Int32} {A A' : Nat → Int32} (hn : n' 0 = n 0) (h8 : (n 0).toInt ≤ 8) (hA : ∀ o j : Nat, (o : Int) < (n 0).toInt → j < 5 → A' (20 + 6 * o + j) = A (20 + 6 * o + j)) (h : P2 n ord A) : P2 n' ord A' := by
  intro o ho
  rw [hn] at ho
  obtain ⟨h1, h2⟩ := h o ho
  exact ⟨fun j hj => by rw [hA o j ho hj]; exact h1 j hj, h2⟩
/-- a step taken back -/
theorem PS_undo {n n' X A A' : Nat → Int32} {ord said bar step : Nat → Nat → Int32} {k : Nat} (hk : (n 4).toInt = ((k + 1 : Nat) : Int)) (hn : ∀ j, j ≠ 4 → n' j = n j) (hn4 : (n' 4).toInt = (k : Int)) (hA5 : A' 5 = n' 4) (h8 : ∀ j, j < 10 → A' (8 + j) = A (84 + 13 * k + j)) (h2 : A' 2 = A (94 + 13 * k)) (h7 : A' 7 = A (95 + 13 * k))
    (hb : ∀ o : Nat, (o : Int) < (n 0).toInt → A' (25 + 6 * o) = bitAt (A (96 + 13 * k)) o) (hA : ∀ i, i ≠ 2 → i ≠ 5 → i ≠ 7 → (i < 8 ∨ 18 ≤ i) → (∀ o : Nat, (o : Int) < (n 0).toInt → i ≠ 25 + 6 * o) → A' i = A i) (h : PS n X ord said bar step A) : PS n' (step k) ord said bar step A' := by
  obtain ⟨p1, p2, p3, p4, p5, rw, p6⟩ := h
  have b0 := p1.2.1
  have b4 := p1.2.2.2.2.2.1
  have b5 := p1.2.2.2.2.2.2.1
  have b6 := p1.2.2.2.2.2.2.2
  have h08 := b0.2
  have h430 := b4.2
  have h58 := b5.2
  have h64 := b6.2
  have hk30 : k < 30 := by omega
  obtain ⟨c1, c2, c3, c4, c5, c6, c7, c8, c9, c10, c11, c12⟩ := p6 k (by omega)
  have hx : ∀ i : Nat, (i < 20 ∨ 68 ≤ i) → ∀ o : Nat, (o : Int) < (n 0).toInt → i ≠ 25 + 6 * o := fun i hi o ho => by omega
  refine ⟨P1_keep hn ⟨by omega, by omega⟩ hA5 (fun i h1 h2 h3 => hA i h2 h3 (by omega) (by omega) (hx i (by omega))) p1,
    P2_row (hn 0 (by omega)) h08 (fun o j ho hj => hA _ (by omega) (by omega) (by omega) (by omega) (fun q hq => by omega)) p2,
    P3_congr (hn 5 (by omega)) h58 (fun i _ _ => hA i (by omega) (by omega) (by omega) (by omega) (hx i (by omega))) p3,
    P4_congr (hn 6 (by omega)) h64 (fun i _ _ => hA i (by omega) (by omega) (by omega) (by omega) (hx i (by omega))) p4,
    ⟨fun j hj => ?_, ?_, ?_, ?_, fun i hi j hj => ?_, fun o ho => ?_, ?_⟩,
    RW_congr (hn 0 (by omega)) (fun i _ _ => hA i (by omega) (by omega) (by omega) (by omega) (hx i (by omega))) c1, fun q hq => ?_⟩
  · rw [h8 j (by omega)]; exact c3 j hj
  · rw [h2]; exact c5
  · rw [show (17 : Nat) = 8 + 9 from rfl, h8 9 (by omega), show 84 + 13 * k + 9 = 93 + 13 * k by omega]; exact c4
  · rw [h7]; exact c6
  · have := rw.1.2.2.2.2.2.2.2.2.2.2.2.2.2
    rw [hA _ (by omega) (by omega) (by omega) (by omega) (hx _ (by omega)), c9 i hi j hj]
    exact p5.2.2.2.2.1 i (by omega) j hj
  · rw [hn 0 (by omega)] at ho
    rw [hb o ho, c7]
  · rw [hn 0 (by omega)]; exact c2
  · rw [hn4] at hq
    obtain ⟨d1, d2, d3, d4, d5, d6, d7, d8, d9, d10, d11, d12⟩ := p6 q (by omega)
    obtain ⟨e1, e2, e3, e4⟩ := d12 k (by omega) (by omega)
    refine ⟨RW_congr (hn 0 (by omega)) (fun i _ _ => hA i (by omega) (by omega) (by omega) (by omega) (hx i (by omega))) d1, by rw [hn 0 (by omega)]; exact d2, fun j hj => ?_, ?_, ?_, ?_, ?_, e1, e4, e2, by rw [hn4]; exact e3, fun k2 g1 g2 => d12 k2 g1 (by omega)⟩
    · rw [hA _ (by omega) (by omega) (by omega) (by omega) (hx _ (by omega))]; exact d3 j hj
    · rw [hA _ (by omega) (by omega) (by omega) (by omega) (hx _ (by omega))]; exact d4
    · rw [hA _ (by omega) (by omega) (by omega) (by omega) (hx _ (by omega))]; exact d5
    · rw [hA _ (by omega) (by omega) (by omega) (by omega) (hx _ (by omega))]; exact d6
    · rw [hA _ (by omega) (by omega) (by omega) (by omega) (hx _ (by omega))]; exact d7
/-- a step kept, where there is room for it -/
theorem PS_keep1 {n n' X A A' : Nat → Int32} {ord said bar step step' : Nat → Nat → Int32} {k : Nat} (hk : (n 4).toInt = (k : Int)) (hk30 : k < 30) (hn : ∀ j, j ≠ 4 → n' j = n j) (hn4 : (n' 4).toInt = ((k + 1 : Nat) : Int)) (hA5 : A' 5 = n' 4) (hs : ∀ q, q ≠ k → step' q = step q) (hsk : step' k = X)
    (h8 : ∀ j, j < 10 → A' (84 + 13 * k + j) = A (8 + j)) (h10 : A' (94 + 13 * k) = A 2) (h11 : A' (95 + 13 * k) = A 7) (h12 : A' (96 + 13 * k) = X 11) (hA : ∀ i, i ≠ 5 → (i < 84 + 13 * k ∨ 97 + 13 * k ≤ i) → A' i = A i) (h : PS n X ord said bar step A) : PS n' X ord said bar step' A' ∧ Sl 40 n' X step' := by
  obtain ⟨p1, p2, p3, p4, p5, rw, p6⟩ := h
  have b0 := p1.2.1
  have b4 := p1.2.2.2.2.2.1
  have b5 := p1.2.2.2.2.2.2.1
  have b6 := p1.2.2.2.2.2.2.2
  have h08 := b0.2
  have h58 := b5.2
  have h64 := b6.2
  have x12 := rw.1.2.2.2.2.2.2.2.2.2.2.2.2.2
  have hA6 : ∀ i, 602 ≤ i → i < 9818 → A' i = A i := fun i h1 h2 => hA i (by omega) (by omega)
  refine ⟨⟨P1_keep hn ⟨by omega, by omega⟩ hA5 (fun i h1 h2 h3 => hA i h3 (by omega)) p1,
    P2_congr (hn 0 (by omega)) h08 (fun i _ _ => hA i (by omega) (by omega)) p2,
    P3_congr (hn 5 (by omega)) h58 (fun i _ _ => hA i (by omega) (by omega)) p3,
    P4_congr (hn 6 (by omega)) h64 (fun i _ _ => hA i (by omega) (by omega)) p4,
    P5_congr (hn 0 (by omega)) h08 x12 (fun i _ => hA i (by omega) (by omega)) p5,
    RW_congr (hn 0 (by omega)) hA6 rw, fun q hq => ?_⟩, fun q hq => ?_⟩
  · by_cases hqk : q = k
    · subst hqk
      rw [hsk]
      obtain ⟨f1, f2, f3, f4, f5, f6, f7⟩ := p5
      refine ⟨RW_congr (hn 0 (by omega)) hA6 rw, by rw [hn 0 (by omega)]; exact f7, fun j hj => ?_, ?_, ?_, ?_, h12, Int.le_refl _, fun i hi j hj => rfl, Int.le_refl _, by rw [hn4]; omega, fun k2 g1 g2 => ?_⟩
      · rw [h8 j (by omega)]; exact f1 j hj
      · rw [show 93 + 13 * q = 84 + 13 * q + 9 by omega, h8 9 (by omega)]; exact f3
      · rw [h10]; exact f2
      · rw [h11]; exact f4
      · have : k2 = q := by omega
        subst this
        rw [hsk]
        exact ⟨Int.le_refl _, Int.le_refl _, by omega, fun i hi j hj => rfl⟩
    · rw [hn4] at hq
      obtain ⟨d1, d2, d3, d4, d5, d6, d7, d8, d9, d10, d11, d12⟩ := p6 q (by omega)
      rw [hs q hqk]
      refine ⟨RW_congr (hn 0 (by omega)) hA6 d1, by rw [hn 0 (by omega)]; exact d2, fun j hj => ?_, ?_, ?_, ?_, ?_, d8, d9, d10, by rw [hn4]; omega, fun k2 g1 g2 => ?_⟩
      · rw [hA _ (by omega) (by omega)]; exact d3 j hj
      · rw [hA _ (by omega) (by omega)]; exact d4
      · rw [hA _ (by omega) (by omega)]; exact d5
      · rw [hA _ (by omega) (by omega)]; exact d6
      · rw [hA _ (by omega) (by omega)]; exact d7
      · by_cases hk2 : k2 = k
        · subst hk2
          rw [hsk]
          exact ⟨d8, d10, by omega, d9⟩
        · rw [hs k2 hk2]
          exact d12 k2 g1 (by omega)
  · rw [hn4] at hq ⊢
    by_cases hqk : q = k
    · subst hqk
      rw [hsk]
      omega
    · rw [hs q hqk]
      have := (p6 q (by omega)).2.2.2.2.2.2.2.2.2.2.1
      omega
/-- a step kept, the eldest lost -/
theorem PS_keep2 {n n' X A A' : Nat → Int32} {ord said bar step step' : Nat → Nat → Int32} (hk : (n 4).toInt = 30) (hn : ∀ j, j ≠ 4 → n' j = n j) (hn4 : (n' 4).toInt = 30) (hA5 : A' 5 = n' 4) (hs : ∀ q, q < 29 → step' q = step (q + 1)) (hsk : step' 29 = X)
    (hsh : ∀ k, k < 377 → A' (84 + k) = A (97 + k)) (h8 : ∀ j, j < 10 → A' (461 + j) = A (8 + j)) (h10 : A' 471 = A 2) (h11 : A' 472 = A 7) (h12 : A' 473 = X 11) (hA : ∀ i, i ≠ 5 → (i < 84 ∨ 474 ≤ i) → A' i = A i) (h : PS n X ord said bar step A) : PS n' X ord said bar step' A' ∧ Sl 40 n' X step' := by
  obtain ⟨p1, p2, p3, p4, p5, rw, p6⟩ := h
  have b0 := p1.2.1
  have b5 := p1.2.2.2.2.2.2.1
  have b6 := p1.2.2.2.2.2.2.2
  have h08 := b0.2
  have h58 := b5.2
  have h64 := b6.2
  have x12 := rw.1.2.2.2.2.2.2.2.2.2.2.2.2.2
  have hA6 : ∀ i, 602 ≤ i → i < 9818 → A' i = A i := fun i h1 h2 => hA i (by omega) (by omega)
  refine ⟨⟨P1_keep hn ⟨by omega, by omega⟩ hA5 (fun i h1 h2 h3 => hA i h3 (by omega)) p1,
    P2_congr (hn 0 (by omega)) h08 (fun i _ _ => hA i (by omega) (by omega)) p2,
    P3_congr (hn 5 (by omega)) h58 (fun i _ _ => hA i (by omega) (by omega)) p3,
    P4_congr (hn 6 (by omega)) h64 (fun i _ _ => hA i (by omega) (by omega)) p4,
    P5_congr (hn 0 (by omega)) h08 x12 (fun i _ => hA i (by omega) (by omega)) p5,
    RW_congr (hn 0 (by omega)) hA6 rw, fun q hq => ?_⟩, fun q hq => ?_⟩
  · rw [hn4] at hq
    by_cases hqk : q = 29
    · subst hqk
      rw [hsk]
      obtain ⟨f1, f2, f3, f4, f5, f6, f7⟩ := p5
      refine ⟨RW_congr (hn 0 (by omega)) hA6 rw, by rw [hn 0 (by omega)]; exact f7, fun j hj => ?_, ?_, ?_, ?_, h12, Int.le_refl _, fun i hi j hj => rfl, Int.le_refl _, by rw [hn4]; omega, fun k2 g1 g2 => ?_⟩
      · rw [show 84 + 13 * 29 + j = 461 + j by omega, h8 j (by omega)]; exact f1 j hj
      · rw [show 93 + 13 * 29 = 461 + 9 by omega, h8 9 (by omega)]; exact f3
      · rw [show 94 + 13 * 29 = 471 by omega, h10]; exact f2
      · rw [show 95 + 13 * 29 = 472 by omega, h11]; exact f4
      · have : k2 = 29 := by omega
        subst this
        rw [hsk]
        exact ⟨Int.le_refl _, Int.le_refl _, by omega, fun i hi j hj => rfl⟩
    · obtain ⟨d1, d2, d3, d4, d5, d6, d7, d8, d9, d10, d11, d12⟩ := p6 (q + 1) (by omega)
      rw [hs q (by omega)]
      refine ⟨RW_congr (hn 0 (by omega)) hA6 d1, by rw [hn 0 (by omega)]; exact d2, fun j hj => ?_, ?_, ?_, ?_, ?_, d8, d9, d10, by rw [hn4]; omega, fun k2 g1 g2 => ?_⟩
      · rw [show 84 + 13 * q + j = 84 + (13 * q + j) by omega, hsh _ (by omega), ← d3 j hj]; congr 1; omega
      · rw [show 93 + 13 * q = 84 + (13 * q + 9) by omega, hsh _ (by omega), ← d4]; congr 1; omega
      · rw [show 94 + 13 * q = 84 + (13 * q + 10) by omega, hsh _ (by omega), ← d5]; congr 1; omega
      · rw [show 95 + 13 * q = 84 + (13 * q + 11) by omega, hsh _ (by omega), ← d6]; congr 1; omega
      · rw [show 96 + 13 * q = 84 + (13 * q + 12) by omega, hsh _ (by omega), ← d7]; congr 1; omega
      · by_cases hk2 : k2 = 29
        · subst hk2
          rw [hsk]
          exact ⟨d8, d10, by omega, d9⟩
        · rw [hs k2 (by omega)]
          obtain ⟨e1, e2, e3, e4⟩ := d12 (k2 + 1) (by omega) (by omega)
          exact ⟨e1, e2, by omega, e4⟩
  · rw [hn4] at hq ⊢
    by_cases hqk : q = 29
    · subst hqk
      rw [hsk]
      omega
    · rw [hs q (by omega)]
      have := (p6 (q + 1) (by omega)).2.2.2.2.2.2.2.2.2.2.1
      omega
/-- the row of now changes -/
theorem PS_row {s d : Int} {n X X' A A' : Nat → Int32} {ord said bar step : Nat → Nat → Int32} (hd : (X 8).toInt ≤ (X' 8).toInt ∧ (X' 8).toInt ≤ (X 8).toInt + d) (hds : d ≤ s) (hs0 : d ≤ s) (hrw : RW n X' A') (hp5 : P5 n X' A') (h12 : (X 12).toInt ≤ (X' 12).toInt) (hpg : ∀ i : Nat, (i : Int) < (X 12).toInt → ∀ j, j < 2 → X (13 + 2 * i + j) = X' (13 + 2 * i + j))
    (hA : ∀ i, (i < 7 ∨ (18 ≤ i ∧ i < 474) ∨ 9818 ≤ i) → i ≠ 2 → (∀ o : Nat, (o : Int) < (n 0).toInt → i ≠ 25 + 6 * o) → A' i = A i) (hh : ∀ k : Nat, (k : Int) < (n 4).toInt → HR (step k) A → HR (step k) A') (h : PS n X ord said bar step A) (hsl : Sl s n X step) : PS n X' ord said bar step A' ∧ Sl (s - d) n X' step := by
  obtain ⟨p1, p2, p3, p4, p5, rw, p6⟩ := h
  have h08 := p1.2.1.2
  have h430 := p1.2.2.2.2.2.1.2
  have h58 := p1.2.2.2.2.2.2.1.2
  have h64 := p1.2.2.2.2.2.2.2.2
  have hx : ∀ i : Nat, (i < 20 ∨ 68 ≤ i) → ∀ o : Nat, (o : Int) < (n 0).toInt → i ≠ 25 + 6 * o := fun i hi o ho => by omega
  refine ⟨⟨P1_keep (fun _ _ => rfl) p1.2.2.2.2.2.1 ((hA 5 (by omega) (by omega) (hx _ (by omega))).trans p1.1.2.2.2.2.1) (fun i h1 h2 h3 => hA i (by omega) h2 (hx i (by omega))) p1,
    P2_row rfl h08 (fun o j ho hj => hA _ (by omega) (by omega) (fun q hq => by omega)) p2,
    P3_congr rfl h58 (fun i _ _ => hA i (by omega) (by omega) (hx i (by omega))) p3,
    P4_congr rfl h64 (fun i _ _ => hA i (by omega) (by omega) (hx i (by omega))) p4, hp5, hrw, fun q hq => ?_⟩, fun q hq => ?_⟩
  · obtain ⟨⟨d1, e1, e2⟩, d2, d3, d4, d5, d6, d7, d8, d9, d10, d11, d12⟩ := p6 q hq
    have := hsl q hq
    refine ⟨⟨d1, hh q hq e1, e2⟩, d2, fun j hj => ?_, ?_, ?_, ?_, ?_, by omega, fun i hi j hj => (d9 i hi j hj).trans (hpg i (by omega) j hj), by omega, by omega, d12⟩
    · rw [hA _ (by omega) (by omega) (hx _ (by omega))]; exact d3 j hj
    · rw [hA _ (by omega) (by omega) (hx _ (by omega))]; exact d4
    · rw [hA _ (by omega) (by omega) (hx _ (by omega))]; exact d5
    · rw [hA _ (by omega) (by omega) (hx _ (by omega))]; exact d6
    · rw [hA _ (by omega) (by omega) (hx _ (by omega))]; exact d7
  · have := hsl q hq
    omega
