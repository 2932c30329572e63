/-! ===== what a change elsewhere leaves ===== -/
theorem P2_congr {n n' : Nat → Int32} {ord : Nat → Nat → Int32} {A A' : Nat → Int32} (hn : n' 0 = n 0) (h8 : (n 0).toInt ≤ 8) (hA : ∀ i, 20 ≤ i → i < 68 → A' i = A i) (h : P2 n ord A) : P2 n' ord A' := by
  intro o ho
  rw [hn] at ho
  obtain ⟨h1, h2⟩ := h o ho
  exact ⟨fun j hj => by rw [hA _ (by omega) (by omega)]; exact h1 j hj, h2⟩
theorem P3_congr {n n' : Nat → Int32} {said : Nat → Nat → Int32} {A A' : Nat → Int32} (hn : n' 5 = n 5) (h8 : (n 5).toInt ≤ 8) (hA : ∀ i, 68 ≤ i → i < 84 → A' i = A i) (h : P3 n said A) : P3 n' said A' := by
  intro o ho
  rw [hn] at ho
  obtain ⟨h1, h2⟩ := h o ho
  exact ⟨fun j hj => by rw [hA _ (by omega) (by omega)]; exact h1 j hj, h2⟩
theorem P4_congr {n n' : Nat → Int32} {bar : Nat → Nat → Int32} {A A' : Nat → Int32} (hn : n' 6 = n 6) (h8 : (n 6).toInt ≤ 4) (hA : ∀ i, 9818 ≤ i → i < 9834 → A' i = A i) (h : P4 n bar A) : P4 n' bar A' := by
  intro o ho
  rw [hn] at ho
  intro j hj
  rw [hA _ (by omega) (by omega)]
  exact h o ho j hj
theorem P5_congr {n n' X A A' : Nat → Int32} (hn : n' 0 = n 0) (h8 : (n 0).toInt ≤ 8) (hX : (X 12).toInt ≤ 8) (hA : ∀ i, (i = 2 ∨ i = 7 ∨ (8 ≤ i ∧ i ≤ 17) ∨ (25 ≤ i ∧ i < 68) ∨ (474 ≤ i ∧ i < 602)) → A' i = A i) (h : P5 n X A) : P5 n' X A' := by
  obtain ⟨h1, h2, h3, h4, h5, h6, h7⟩ := h
  refine ⟨fun j hj => ?_, ?_, ?_, ?_, fun i hi j hj => ?_, fun o ho => ?_, by rw [hn]; exact h7⟩
  · rw [hA _ (by omega)]; exact h1 j hj
  · rw [hA _ (by omega)]; exact h2
  · rw [hA _ (by omega)]; exact h3
  · rw [hA _ (by omega)]; exact h4
  · rw [hA _ (by omega)]; exact h5 i hi j hj
  · rw [hn] at ho
    rw [hA _ (by omega)]; exact h6 o ho
theorem HR_congr {X A A' : Nat → Int32} (hA : ∀ i, 602 ≤ i → i < 9818 → A' i = A i) (h : HR X A) : HR X A' := by
  intro t h1 h2
  obtain ⟨h3, h4⟩ := h t h1 h2
  refine ⟨fun j hj => ?_, h4⟩
  have := Nat.mod_lt t (show 0 < 1536 by decide)
  rw [hA _ (by omega) (by omega)]
  exact h3 j hj
theorem RW_congr {n n' X A A' : Nat → Int32} (hn : n' 0 = n 0) (hA : ∀ i, 602 ≤ i → i < 9818 → A' i = A i) (h : RW n X A) : RW n' X A' := by
  obtain ⟨h1, h2, h3, h4, h5⟩ := h
  exact ⟨h1, HR_congr hA h2, fun o h6 h7 => h3 o h6 (by rw [← hn]; exact h7), h4, h5⟩
theorem P6_congr {n n' X : Nat → Int32} {step : Nat → Nat → Int32} {A A' : Nat → Int32} (hn : n' 0 = n 0) (hn4 : n' 4 = n 4) (h30 : (n 4).toInt ≤ 30) (hA : ∀ i, 602 ≤ i → i < 9818 → A' i = A i) (hA2 : ∀ i, 84 ≤ i → i < 474 → A' i = A i) (h : P6 n X step A) : P6 n' X step A' := by
  intro k hk
  rw [hn4] at hk
  obtain ⟨h1, h2, h3, h4, h5, h6, h7, h8, h9, h10, h11, h12⟩ := h k hk
  refine ⟨RW_congr hn hA h1, by rw [hn]; exact h2, fun j hj => ?_, ?_, ?_, ?_, ?_, h8, h9, h10, by rw [hn4]; exact h11, by rw [hn4]; exact h12⟩
  · rw [hA2 _ (by omega) (by omega)]; exact h3 j hj
  · rw [hA2 _ (by omega) (by omega)]; exact h4
  · rw [hA2 _ (by omega) (by omega)]; exact h5
  · rw [hA2 _ (by omega) (by omega)]; exact h6
  · rw [hA2 _ (by omega) (by omega)]; exact h7
theorem fam_congr {μ μ' : Mu} {b m : Nat} (h : ∀ k, k < m → μ' (b + k) = μ (b + k)) : fam μ' b m = fam μ b m := by
  funext k
  unfold fam
  by_cases hk : k < m
  · rw [if_pos hk, if_pos hk, h k hk]
  · rw [if_neg hk, if_neg hk]
theorem RelS_congr {μ μ' : Mu} {s a : Nat} (h1 : ∀ k, s + 1 ≤ k → k ≤ s + 56 → μ' k = μ k) (ha : μ' a = μ a) (h : RelS μ s a) : RelS μ' s a := by
  unfold RelS at h ⊢
  rw [h1 (s + 1) (by omega) (by omega), h1 (s + 2) (by omega) (by omega), fam_congr (μ := μ) (μ' := μ') (fun k hk => h1 _ (by omega) (by omega)), fam_congr (μ := μ) (μ' := μ') (b := s + 13) (fun k hk => h1 _ (by omega) (by omega)), fam_congr (μ := μ) (μ' := μ') (b := s + 22) (fun k hk => h1 _ (by omega) (by omega)), fam_congr (μ := μ) (μ' := μ') (b := s + 27) (fun k hk => h1 _ (by omega) (by omega)), ha]
  exact h
theorem RelT_congr {μ μ' : Mu} (h : ∀ k, k = 400 ∨ k = 517 ∨ k = 537 ∨ k = 541 → μ' k = μ k) (hT : RelT μ) : RelT μ' := by
  unfold RelT at hT ⊢
  rw [h 400 (by omega), h 517 (by omega), h 537 (by omega), h 541 (by omega)]
  exact hT
theorem upd_ne {f : Nat → Int32} {k j : Nat} {v : Int32} (h : j ≠ k) : upd f k v j = f j := if_neg h
theorem upd_eq {f : Nat → Int32} {k : Nat} {v : Int32} : upd f k v k = v := if_pos rfl
/-- near: a State's and the model's number -/
theorem PS_near {n X A : Nat → Int32} {ord said bar step : Nat → Nat → Int32} {v : Int32} (hv : bd v 0 99) (h : PS n X ord said bar step A) : PS (upd n 1 v) X ord said bar step (upd A 1 v) := by
  obtain ⟨⟨⟨a0, a1, a3, a4, a5, a6, a18⟩, b0, b1, b2, b3, b4, b5, b6⟩, p2, p3, p4, p5, rw, p6⟩ := h
  have e : ∀ j, j ≠ 1 → upd n 1 v j = n j := fun j hj => upd_ne hj
  have eA : ∀ i, i ≠ 1 → upd A 1 v i = A i := fun i hi => upd_ne hi
  refine ⟨⟨⟨?_, ?_, ?_, ?_, ?_, ?_, ?_⟩, ?_, ?_, ?_, ?_, ?_, ?_, ?_⟩, P2_congr (e 0 (by omega)) b0.2 (fun i _ _ => eA i (by omega)) p2, P3_congr (e 5 (by omega)) b5.2 (fun i _ _ => eA i (by omega)) p3, P4_congr (e 6 (by omega)) b6.2 (fun i _ _ => eA i (by omega)) p4, P5_congr (e 0 (by omega)) b0.2 rw.1.2.2.2.2.2.2.2.2.2.2.2.2.2 (fun i _ => eA i (by omega)) p5, RW_congr (e 0 (by omega)) (fun i _ _ => eA i (by omega)) rw, P6_congr (e 0 (by omega)) (e 4 (by omega)) b4.2 (fun i _ _ => eA i (by omega)) (fun i _ _ => eA i (by omega)) p6⟩
  · rw [eA _ (by omega), e _ (by omega)]; exact a0
  · rw [upd_eq, upd_eq]
  · rw [eA _ (by omega), e _ (by omega)]; exact a3
  · rw [eA _ (by omega), e _ (by omega)]; exact a4
  · rw [eA _ (by omega), e _ (by omega)]; exact a5
  · rw [eA _ (by omega), e _ (by omega)]; exact a6
  · rw [eA _ (by omega), e _ (by omega)]; exact a18
  · rw [e _ (by omega)]; exact b0
  · rw [upd_eq]; exact hv
  · rw [e _ (by omega)]; exact b2
  · rw [e _ (by omega), e _ (by omega)]; exact b3
  · rw [e _ (by omega)]; exact b4
  · rw [e _ (by omega)]; exact b5
  · rw [e _ (by omega)]; exact b6
/-- what holds between two calls, TX what holds of the texts -/
def Inv (TX : Mu → Zt → Prop) (L : Nat) (xs : Nat → Int32) (n : Nat) (μ : Mu) (z : Zt) : Prop := RelS μ 401 538 ∧ RelS μ 459 539 ∧ RelT μ ∧ RelZ L xs n z ∧ TX μ z
theorem RelZ.next {L : Nat} {xs : Nat → Int32} {n : Nat} {z : Zt} (h : RelZ L xs n z) : RelZ L xs (n + 1) z := by
  obtain ⟨h1, h2, h3, h4⟩ := h
  exact ⟨h1, h2, Nat.le_trans h3 (Nat.add_le_add_left (Nat.mul_le_mul_right _ (Nat.le_succ n)) _), Nat.le_trans h4 (Nat.add_le_add_left (Nat.mul_le_mul_right _ (Nat.le_succ n)) _)⟩
theorem Inv.next {TX : Mu → Zt → Prop} {L : Nat} {xs : Nat → Int32} {n : Nat} {μ : Mu} {z : Zt} (h : Inv TX L xs n μ z) : Inv TX L xs (n + 1) μ z := ⟨h.1, h.2.1, h.2.2.1, h.2.2.2.1.next, h.2.2.2.2⟩
theorem Inv.base {TX : Mu → Zt → Prop} {L : Nat} {xs : Nat → Int32} {n : Nat} {μ : Mu} {z : Zt} (h : Inv TX L xs n μ z) (hn : n ≤ 64) : z.2.2.1 0 = some (.inl (.int, L, .inl xs)) ∧ z.2.2.2.1 ≤ 1200528 ∧ z.2.2.2.2 ≤ 5501098 := by
  obtain ⟨h1, h2, h3, h4⟩ := h.2.2.2.1
  exact ⟨h1 0 (by omega), by omega, by omega⟩
/-- what TX reads of the numbers -/
def TXf (TX : Mu → Zt → Prop) : Prop := ∀ (μ μ' : Mu) (z : Zt), μ' 540 = μ 540 → (∀ k, k = 402 ∨ k = 460 → μ' k 2 = μ k 2 ∧ μ' k 3 = μ k 3) → TX μ z → TX μ' z
theorem ow_near {TX : Mu → Zt → Prop} (hTX : TXf TX) (L : Nat) (xs : Nat → Int32) : Ow_near (Inv TX L xs) := by
  intro n μ z a hI
  rcases inB_01 a 0 99 with h | h
  · refine ⟨0, μ, z, μ, z, ?_, ?_, ⟨Nat.le_refl _, Nat.le_refl _⟩, ⟨Nat.le_refl _, Nat.le_refl _⟩, rfl, hI.next⟩
    · show mX0_near 400 a (E μ z) = _
      rw [near0_E, h, if_neg (by decide)]
    · show mX2_near 537 a (E μ z) = _
      rw [near2_E, h, if_neg (by decide)]
  · refine ⟨1, up μ 402 1 a, z, up (up μ 402 1 a) 538 1 a, z, ?_, ?_, ⟨Nat.le_refl _, Nat.le_refl _⟩, ⟨Nat.le_refl _, Nat.le_refl _⟩, rfl, ?_⟩
    · show mX0_near 400 a (E μ z) = _
      rw [near0_E, h, if_pos rfl]
    · show mX2_near 537 a (E (up μ 402 1 a) z) = _
      rw [near2_E, h, if_pos rfl]
    · obtain ⟨h1, h2, h3, h4, h5⟩ := hI.next
      have hv : bd a 0 99 := inB_bd.mp h
      have e : ∀ k, k ≠ 402 → k ≠ 538 → up (up μ 402 1 a) 538 1 a k = μ k := fun k k1 k2 => (setM_ne k2).trans (setM_ne k1)
      have e2 : up (up μ 402 1 a) 538 1 a 402 = upd (μ 402) 1 a := (setM_ne (by decide)).trans (setM_same _ _ _)
      have e3 : up (up μ 402 1 a) 538 1 a 538 = upd (μ 538) 1 a := (setM_same _ _ _).trans (congrArg (fun f => upd f 1 a) (setM_ne (show (538 : Nat) ≠ 402 by decide)))
      refine ⟨?_, RelS_congr (fun k k1 k2 => e k (by omega) (by omega)) (e 539 (by omega) (by omega)) h2, RelT_congr (fun k hk => e k (by omega) (by omega)) h3, h4, hTX _ _ _ (e 540 (by omega) (by omega)) (fun k hk => ?_) h5⟩
      · have h9 := PS_near hv h1
        unfold RelS
        rw [show (401 + 1 : Nat) = 402 from rfl, e2, e3, e (401 + 2) (by omega) (by omega), fam_congr (μ := μ) (fun k hk => e _ (by omega) (by omega)), fam_congr (μ := μ) (b := 401 + 13) (fun k hk => e _ (by omega) (by omega)), fam_congr (μ := μ) (b := 401 + 22) (fun k hk => e _ (by omega) (by omega)), fam_congr (μ := μ) (b := 401 + 27) (fun k hk => e _ (by omega) (by omega))]
        exact h9
      · rcases hk with rfl | rfl
        · rw [e2]
          exact ⟨upd_ne (by decide), upd_ne (by decide)⟩
        · rw [e 460 (by omega) (by omega)]
          exact ⟨rfl, rfl⟩
