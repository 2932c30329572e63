/-! ===== a State copied ===== -/
theorem RB_ext {X X' : Nat → Int32} (hX : ∀ j, j < 413 → X' j = X j) (h : RB X) : RB X' := by
  unfold RB at h ⊢
  rw [hX 0 (by omega), hX 1 (by omega), hX 2 (by omega), hX 3 (by omega), hX 4 (by omega), hX 5 (by omega), hX 6 (by omega), hX 7 (by omega), hX 8 (by omega), hX 9 (by omega), hX 10 (by omega), hX 11 (by omega), hX 12 (by omega)]
  exact h
theorem HR_ext {X X' A A' : Nat → Int32} (hX : ∀ j, j < 413 → X' j = X j) (hA : ∀ i, i < 9834 → A' i = A i) (h : HR X A) : HR X' A' := by
  intro t h1 h2
  rw [hX 8 (by omega)] at h1 h2
  obtain ⟨h3, h4⟩ := h t h1 h2
  have m1 := Nat.mod_lt t (show 0 < 1536 by decide)
  have m2 := Nat.mod_lt t (show 0 < 60 by decide)
  refine ⟨fun j hj => ?_, ?_⟩
  · rw [hA _ (by omega), hX _ (by omega)]
    exact h3 j hj
  · rw [hX _ (by omega), hX _ (by omega), hX _ (by omega), hX _ (by omega), hX _ (by omega), hX _ (by omega)]
    exact h4
theorem RW_ext {n n' X X' A A' : Nat → Int32} (hn : ∀ j, j < 7 → n' j = n j) (hX : ∀ j, j < 413 → X' j = X j) (hA : ∀ i, i < 9834 → A' i = A i) (h : RW n X A) : RW n' X' A' := by
  obtain ⟨h1, h2, h3, h4, h5⟩ := h
  refine ⟨RB_ext hX h1, HR_ext hX hA h2, fun o h6 h7 => ?_, fun o h6 => ?_, ?_⟩
  · rw [hX 11 (by omega)]
    rw [hn 0 (by omega)] at h7
    exact h3 o h6 h7
  · rw [hX 11 (by omega)]
    rw [hX 10 (by omega)] at h6
    exact h4 o h6
  · refine ⟨by rw [hX 11 (by omega), hX 12 (by omega)]; exact h5.1, PT_keep (by rw [hX 8 (by omega)]; exact Int.le_refl _) (hX 12 (by omega)) h1.2.2.2.2.2.2.2.2.2.2.2.2.2 (fun i hi => hX _ (by omega)) h5.2⟩
theorem PS_ext {n n' X X' A A' : Nat → Int32} {ord ord' said said' bar bar' step step' : Nat → Nat → Int32} (hn : ∀ j, j < 7 → n' j = n j) (hX : ∀ j, j < 413 → X' j = X j) (ho : ∀ o j, o < 8 → j < 5 → ord' o j = ord o j) (hs : ∀ o j, o < 8 → j < 2 → said' o j = said o j) (hb : ∀ o j, o < 4 → j < 4 → bar' o j = bar o j)
    (ht : ∀ o j, o < 30 → j < 413 → step' o j = step o j) (hA : ∀ i, i < 9834 → A' i = A i) (h : PS n X ord said bar step A) : PS n' X' ord' said' bar' step' A' := by
  obtain ⟨⟨⟨a0, a1, a3, a4, a5, a6, a18⟩, b0, b1, b2, b3, b4, b5, b6⟩, p2, p3, p4, ⟨f1, f2, f3, f4, f5, f6, f7⟩, rw, p6⟩ := h
  have n0 := hn 0 (by omega)
  have n1 := hn 1 (by omega)
  have n2 := hn 2 (by omega)
  have n3 := hn 3 (by omega)
  have n4 := hn 4 (by omega)
  have n5 := hn 5 (by omega)
  have n6 := hn 6 (by omega)
  have hx12 : (X 12).toInt ≤ 8 := rw.1.2.2.2.2.2.2.2.2.2.2.2.2.2
  refine ⟨⟨⟨?_, ?_, ?_, ?_, ?_, ?_, ?_⟩, ?_, ?_, ?_, ?_, ?_, ?_, ?_⟩, fun o h1 => ?_, fun o h1 => ?_, fun o h1 => ?_, ⟨fun j hj => ?_, ?_, ?_, ?_, fun i hi j hj => ?_, fun o h1 => ?_, ?_⟩, RW_ext hn hX hA rw, fun k hk => ?_⟩
  · rw [hA _ (by omega), n0]; exact a0
  · rw [hA _ (by omega), n1]; exact a1
  · rw [hA _ (by omega), n2]; exact a3
  · rw [hA _ (by omega), n3]; exact a4
  · rw [hA _ (by omega), n4]; exact a5
  · rw [hA _ (by omega), n5]; exact a6
  · rw [hA _ (by omega), n6]; exact a18
  · rw [n0]; exact b0
  · rw [n1]; exact b1
  · rw [n2]; exact b2
  · rw [n3, n2]; exact b3
  · rw [n4]; exact b4
  · rw [n5]; exact b5
  · rw [n6]; exact b6
  · rw [n0] at h1
    have := b0.2
    obtain ⟨g1, g2⟩ := p2 o h1
    refine ⟨fun j hj => ?_, ?_⟩
    · rw [hA _ (by omega), ho o j (by omega) hj]; exact g1 j hj
    · rw [ho o 0 (by omega) (by omega), ho o 1 (by omega) (by omega), ho o 2 (by omega) (by omega), ho o 3 (by omega) (by omega), ho o 4 (by omega) (by omega)]; exact g2
  · rw [n5] at h1
    have := b5.2
    obtain ⟨g1, g2⟩ := p3 o h1
    refine ⟨fun j hj => ?_, ?_⟩
    · rw [hA _ (by omega), hs o j (by omega) hj]; exact g1 j hj
    · rw [hs o 0 (by omega) (by omega), hs o 1 (by omega) (by omega)]; exact g2
  · rw [n6] at h1
    have := b6.2
    intro j hj
    rw [hA _ (by omega), hb o j (by omega) hj]
    exact p4 o h1 j hj
  · rw [hA _ (by omega), hX _ (by omega)]; exact f1 j hj
  · rw [hA _ (by omega), hX _ (by omega)]; exact f2
  · rw [hA _ (by omega), hX _ (by omega)]; exact f3
  · rw [hA _ (by omega), hX _ (by omega)]; exact f4
  · rw [hX 12 (by omega)] at hi
    rw [hA _ (by omega), hX _ (by omega)]; exact f5 i hi j hj
  · rw [n0] at h1
    have := b0.2
    rw [hA _ (by omega), hX _ (by omega)]; exact f6 o h1
  · rw [hX 10 (by omega), n0]; exact f7
  · rw [n4] at hk
    have h30 := b4.2
    have hk30 : k < 30 := by omega
    obtain ⟨h1, h2, h3, h4, h5, h6, h7, h8, h9, h10, h11, h12⟩ := p6 k hk
    have tk : ∀ j, j < 413 → step' k j = step k j := fun j hj => ht k j hk30 hj
    have hs12 : (step k 12).toInt ≤ 8 := h1.1.2.2.2.2.2.2.2.2.2.2.2.2.2
    refine ⟨RW_ext hn tk hA h1, ?_, fun j hj => ?_, ?_, ?_, ?_, ?_, ?_, fun i hi j hj => ?_, ?_, ?_, fun k2 g1 g2 => ?_⟩
    · rw [tk 10 (by omega), n0]; exact h2
    · rw [hA _ (by omega), tk _ (by omega)]; exact h3 j hj
    · rw [hA _ (by omega), tk _ (by omega)]; exact h4
    · rw [hA _ (by omega), tk _ (by omega)]; exact h5
    · rw [hA _ (by omega), tk _ (by omega)]; exact h6
    · rw [hA _ (by omega), tk _ (by omega)]; exact h7
    · rw [tk _ (by omega), hX _ (by omega)]; exact h8
    · rw [tk 12 (by omega)] at hi
      rw [tk _ (by omega), hX _ (by omega)]; exact h9 i hi j hj
    · rw [tk _ (by omega), hX _ (by omega)]; exact h10
    · rw [tk _ (by omega), hX _ (by omega), n4]; exact h11
    · rw [n4] at g2
      have tk2 : ∀ j, j < 413 → step' k2 j = step k2 j := fun j hj => ht k2 j (by omega) hj
      obtain ⟨q1, q2, q3, q4⟩ := h12 k2 g1 g2
      refine ⟨?_, ?_, ?_, fun i hi j hj => ?_⟩
      · rw [tk _ (by omega), tk2 _ (by omega)]; exact q1
      · rw [tk _ (by omega), tk2 _ (by omega)]; exact q2
      · rw [tk _ (by omega), tk2 _ (by omega)]; exact q3
      · rw [tk 12 (by omega)] at hi
        rw [tk _ (by omega), tk2 _ (by omega)]; exact q4 i hi j hj
