/-! ===== a new order: State against model ===== -/
theorem RW_more {n n' X A A' : Nat → Int32} (hn : (n 0).toInt ≤ (n' 0).toInt) (hA : ∀ i, 602 ≤ i → i < 9818 → A' i = A i) (h : RW n X A) : RW n' X A' := by
  obtain ⟨h1, h2, h3, h4, h5⟩ := h
  exact ⟨h1, HR_congr hA h2, fun o h6 h7 => h3 o h6 (Int.le_trans hn h7), h4, h5⟩
theorem PS_order {n n' X A A' : Nat → Int32} {ord ord' said bar step : Nat → Nat → Int32} {k : Nat} {a b c d e v : Int32} (hk : (n 0).toInt = (k : Int)) (hk8 : k < 8) (ha : bd a 1 99) (hb : bd b 0 60) (hc : bd c 0 999) (hd : bd d 0 9) (he : bd e 0 1) (hn : ∀ j, j ≠ 0 → n' j = n j) (hn0 : n' 0 = v) (hv : v.toInt = ((k + 1 : Nat) : Int))
    (ho : ∀ o, o ≠ k → ord' o = ord o) (o0 : ord' k 0 = a) (o1 : ord' k 1 = b) (o2 : ord' k 2 = c) (o3 : ord' k 3 = d) (o4 : ord' k 4 = e) (hA : ∀ i, i ≠ 0 → (i < 20 + 6 * k ∨ 26 + 6 * k ≤ i) → A' i = A i) (A0 : A' 0 = v) (q0 : A' (20 + 6 * k) = a) (q1 : A' (21 + 6 * k) = b) (q2 : A' (22 + 6 * k) = c) (q3 : A' (23 + 6 * k) = d) (q4 : A' (24 + 6 * k) = e) (q5 : A' (25 + 6 * k) = 0)
    (h : PS n X ord said bar step A) : PS n' X ord' said bar step A' := by
  obtain ⟨⟨⟨a0, a1, a3, a4, a5, a6, a18⟩, b0, b1, b2, b3, b4, b5, b6⟩, p2, p3, p4, ⟨f1, f2, f3, f4, f5, f6, f7⟩, rw, p6⟩ := h
  have hx12 : (X 12).toInt ≤ 8 := rw.1.2.2.2.2.2.2.2.2.2.2.2.2.2
  have hmore : (n 0).toInt ≤ (n' 0).toInt := by rw [hn0, hv, hk]; omega
  have hA6 : ∀ i, 602 ≤ i → i < 9818 → A' i = A i := fun i h1 h2 => hA i (by omega) (by omega)
  refine ⟨⟨⟨?_, ?_, ?_, ?_, ?_, ?_, ?_⟩, ?_, ?_, ?_, ?_, ?_, ?_, ?_⟩, fun o h1 => ?_, P3_congr (hn 5 (by omega)) b5.2 (fun i _ _ => hA i (by omega) (by omega)) p3, P4_congr (hn 6 (by omega)) b6.2 (fun i _ _ => hA i (by omega) (by omega)) p4, ⟨fun j hj => ?_, ?_, ?_, ?_, fun i hi j hj => ?_, fun o h1 => ?_, ?_⟩, RW_more hmore hA6 rw, fun q hq => ?_⟩
  · rw [A0, hn0]
  · rw [hA _ (by omega) (by omega), hn _ (by omega)]; exact a1
  · rw [hA _ (by omega) (by omega), hn _ (by omega)]; exact a3
  · rw [hA _ (by omega) (by omega), hn _ (by omega)]; exact a4
  · rw [hA _ (by omega) (by omega), hn _ (by omega)]; exact a5
  · rw [hA _ (by omega) (by omega), hn _ (by omega)]; exact a6
  · rw [hA _ (by omega) (by omega), hn _ (by omega)]; exact a18
  · rw [hn0]; exact ⟨by rw [hv]; omega, by rw [hv]; omega⟩
  · rw [hn _ (by omega)]; exact b1
  · rw [hn _ (by omega)]; exact b2
  · rw [hn _ (by omega), hn _ (by omega)]; exact b3
  · rw [hn _ (by omega)]; exact b4
  · rw [hn _ (by omega)]; exact b5
  · rw [hn _ (by omega)]; exact b6
  · rw [hn0, hv] at h1
    by_cases hok : o = k
    · subst hok
      refine ⟨fun j hj => ?_, by rw [o0]; exact ha, by rw [o1]; exact hb, by rw [o2]; exact hc, by rw [o3]; exact hd, by rw [o4]; exact he⟩
      match j, hj with
      | 0, _ => exact q0.trans o0.symm
      | 1, _ => rw [show 20 + 6 * o + 1 = 21 + 6 * o by omega]; exact q1.trans o1.symm
      | 2, _ => rw [show 20 + 6 * o + 2 = 22 + 6 * o by omega]; exact q2.trans o2.symm
      | 3, _ => rw [show 20 + 6 * o + 3 = 23 + 6 * o by omega]; exact q3.trans o3.symm
      | 4, _ => rw [show 20 + 6 * o + 4 = 24 + 6 * o by omega]; exact q4.trans o4.symm
    · obtain ⟨g1, g2⟩ := p2 o (by rw [hk]; omega)
      rw [ho o hok]
      exact ⟨fun j hj => by rw [hA _ (by omega) (by omega)]; exact g1 j hj, g2⟩
  · rw [hA _ (by omega) (by omega)]; exact f1 j hj
  · rw [hA _ (by omega) (by omega)]; exact f2
  · rw [hA _ (by omega) (by omega)]; exact f3
  · rw [hA _ (by omega) (by omega)]; exact f4
  · rw [hA _ (by omega) (by omega)]; exact f5 i hi j hj
  · rw [hn0, hv] at h1
    by_cases hok : o = k
    · subst hok
      rw [q5]
      exact (rw.2.2.1 o hk8 (by rw [hk]; omega)).symm
    · rw [hA _ (by omega) (by omega)]
      exact f6 o (by rw [hk]; omega)
  · exact Int.lt_of_lt_of_le f7 hmore
  · rw [hn 4 (by omega)] at hq
    have h30 := b4.2
    obtain ⟨h1, h2, h3, h4, h5, h6, h7, h8, h9, h10, h11, h12⟩ := p6 q hq
    refine ⟨RW_more hmore hA6 h1, Int.lt_of_lt_of_le h2 hmore, fun j hj => ?_, ?_, ?_, ?_, ?_, h8, h9, h10, by rw [hn 4 (by omega)]; exact h11, by rw [hn 4 (by omega)]; exact h12⟩
    · rw [hA _ (by omega) (by omega)]; exact h3 j hj
    · rw [hA _ (by omega) (by omega)]; exact h4
    · rw [hA _ (by omega) (by omega)]; exact h5
    · rw [hA _ (by omega) (by omega)]; exact h6
    · rw [hA _ (by omega) (by omega)]; exact h7
