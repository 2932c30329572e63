/-! ===== image, back ===== -/
theorem cpy_lt {f g : Nat → Int32} {n j : Nat} (h : j < n) : va_cpy f g 0 0 n j = f j := by
  unfold va_cpy
  rw [if_pos (by omega), Nat.zero_add, Nat.sub_zero]
theorem cp2_out {M : Mu} {b b' n len q : Nat} (h : q < b' ∨ b' + n ≤ q) : cp2 M b b' n len q = M q := by
  unfold cp2
  rw [if_neg (by omega)]
theorem cp2_in {M : Mu} {b b' n len i j : Nat} (h : i < n) (hj : j < len) : cp2 M b b' n len (b' + i) j = M (b + i) j := by
  unfold cp2
  rw [if_pos (by omega), cpy_lt hj, show b' + i - b' = i by omega]
theorem beM_else {μ : Mu} {s d q : Nat} (h : q ≤ d ∨ d + 57 ≤ q) : beM μ s d q = μ q := by
  unfold beM
  rw [cp2_out (by omega), cp2_out (by omega), cp2_out (by omega), cp2_out (by omega), setM_ne (by omega), setM_ne (by omega)]
theorem beM_1 {μ : Mu} {s d j : Nat} (hj : j < 7) : beM μ s d (d + 1) j = μ (s + 1) j := by
  unfold beM
  rw [cp2_out (by omega), cp2_out (by omega), cp2_out (by omega), cp2_out (by omega), setM_ne (by omega), setM_same, cpy_lt hj]
theorem beM_2 {μ : Mu} {s d j : Nat} (hs : twoS s d) (hj : j < 413) : beM μ s d (d + 2) j = μ (s + 2) j := by
  unfold twoS at hs
  unfold beM
  rw [cp2_out (by omega), cp2_out (by omega), cp2_out (by omega), cp2_out (by omega), setM_same, cpy_lt hj, setM_ne (by omega)]
theorem beM_o {μ : Mu} {s d o j : Nat} (hs : twoS s d) (ho : o < 8) (hj : j < 5) : beM μ s d (d + 4 + o) j = μ (s + 4 + o) j := by
  unfold twoS at hs
  unfold beM
  rw [cp2_out (by omega), cp2_out (by omega), cp2_out (by omega), cp2_in ho hj, setM_ne (by omega), setM_ne (by omega)]
theorem beM_s {μ : Mu} {s d o j : Nat} (hs : twoS s d) (ho : o < 8) (hj : j < 2) : beM μ s d (d + 13 + o) j = μ (s + 13 + o) j := by
  unfold twoS at hs
  unfold beM
  rw [cp2_out (by omega), cp2_out (by omega), cp2_in ho hj, cp2_out (by omega), setM_ne (by omega), setM_ne (by omega)]
theorem beM_b {μ : Mu} {s d o j : Nat} (hs : twoS s d) (ho : o < 4) (hj : j < 4) : beM μ s d (d + 22 + o) j = μ (s + 22 + o) j := by
  unfold twoS at hs
  unfold beM
  rw [cp2_out (by omega), cp2_in ho hj, cp2_out (by omega), cp2_out (by omega), setM_ne (by omega), setM_ne (by omega)]
theorem beM_t {μ : Mu} {s d o j : Nat} (hs : twoS s d) (ho : o < 30) (hj : j < 413) : beM μ s d (d + 27 + o) j = μ (s + 27 + o) j := by
  unfold twoS at hs
  unfold beM
  rw [cp2_in ho hj, cp2_out (by omega), cp2_out (by omega), cp2_out (by omega), setM_ne (by omega), setM_ne (by omega)]
theorem fam_at {μ : Mu} {b m k : Nat} (h : k < m) : fam μ b m k = μ (b + k) := if_pos h
/-- a State copied, and the model's row with it -/
theorem RelS_be {μ μ' : Mu} {s d a a' : Nat} (hs : twoS s d) (h : RelS μ s a) (hM : ∀ q, d + 1 ≤ q → q ≤ d + 56 → μ' q = beM μ s d q) (hA : ∀ i, i < 9834 → μ' a' i = μ a i) : RelS μ' d a' := by
  refine PS_ext (fun j hj => ?_) (fun j hj => ?_) (fun o j ho hj => ?_) (fun o j ho hj => ?_) (fun o j ho hj => ?_) (fun o j ho hj => ?_) hA h
  · rw [hM _ (by omega) (by omega)]; exact beM_1 hj
  · rw [hM _ (by omega) (by omega)]; exact beM_2 hs hj
  · rw [fam_at ho, fam_at ho, hM _ (by omega) (by omega)]; exact beM_o hs ho hj
  · rw [fam_at ho, fam_at ho, hM _ (by omega) (by omega)]; exact beM_s hs ho hj
  · rw [fam_at ho, fam_at ho, hM _ (by omega) (by omega)]; exact beM_b hs ho hj
  · rw [fam_at ho, fam_at ho, hM _ (by omega) (by omega)]; exact beM_t hs ho hj
/-- what holds of the texts, T1 what holds of one: of the dynamic cells, the next label, its label, the model's texts, its number -/
def TX (T1 : (Nat → Option Cel) → Nat → Nat → (Nat → Int32) → Nat → Prop) (μ : Mu) (z : Zt) : Prop := okT z 458 ∧ okT z 516 ∧ bd (μ 460 2) 0 4 ∧ bd (μ 402 2) 0 4 ∧ (μ 460 2).toInt ≤ (μ 402 2).toInt ∧
  (∀ t : Nat, (t : Int) < (μ 402 2).toInt → ∃ y, z.2.1 458 t = some y ∧ T1 z.2.2.1 z.2.2.2.1 y (μ 540) t) ∧ ∀ t : Nat, (t : Int) < (μ 460 2).toInt → z.2.1 516 t = z.2.1 458 t
theorem TX_f (T1 : (Nat → Option Cel) → Nat → Nat → (Nat → Int32) → Nat → Prop) : TXf (TX T1) := by
  intro μ μ' z h1 h2 h
  unfold TX at h ⊢
  rw [h1, (h2 402 (Or.inl rfl)).1, (h2 460 (Or.inr rfl)).1]
  exact h
theorem image0_E {μ : Mu} {z : Zt} (ht : okT z 458) : mX0_image 400 (E μ z) = some (μ 403 8, E (beM μ 401 459) (beZ z 401 459)) := by
  unfold mX0_image
  refine bind_step (gR_400_1 554 (by omega) _ _) ?_
  refine bind_step (gR_400_0 554 (by omega) _ _) ?_
  refine bind_step (recv_459 554 (by omega) _ _) ?_
  refine bind_step (cal_Z (be_E (Or.inl ⟨rfl, rfl⟩) (by omega) (by omega) ht) (Nat.le_refl _) (Nat.le_refl _)) ?_
  refine bind_step (gR_400_0 554 (by omega) _ _) ?_
  refine bind_step (gR_401_1 554 (by omega) _ _) ?_
  refine bind_step (ia_E (n := 8) isI_403 rfl (by omega)) ?_
  rw [beM_else (by omega)]
theorem back0_E {μ : Mu} {z : Zt} (ht : okT z 516) : mX0_back 400 (E μ z) = some (μ 461 8, E (beM μ 459 401) (beZ z 459 401)) := by
  unfold mX0_back
  refine bind_step (gR_400_0 554 (by omega) _ _) ?_
  refine bind_step (gR_400_1 554 (by omega) _ _) ?_
  refine bind_step (recv_401 554 (by omega) _ _) ?_
  refine bind_step (cal_Z (be_E (Or.inr ⟨rfl, rfl⟩) (by omega) (by omega) ht) (Nat.le_refl _) (Nat.le_refl _)) ?_
  refine bind_step (gR_400_0 554 (by omega) _ _) ?_
  refine bind_step (gR_401_1 554 (by omega) _ _) ?_
  refine bind_step (ia_E (n := 8) isI_403 rfl (by omega)) ?_
  rw [show (403 : Nat) = 401 + 2 from rfl, beM_2 (Or.inr ⟨rfl, rfl⟩) (by omega)]
theorem image2_E {μ : Mu} {z : Zt} : mX2_image 537 (E μ z) = some (μ 538 16, E (setM μ 539 (va_cpy (μ 538) (μ 539) 0 0 9834)) z) := by
  unfold mX2_image
  refine bind_step (gR_537_0 554 (by omega) _ _) ?_
  refine bind_step (gR_537_1 554 (by omega) _ _) ?_
  refine bind_step (cal_E (mcopy_E isI_538 isI_539 (by omega) (by omega) (by omega))) ?_
  refine bind_step (gR_537_0 554 (by omega) _ _) ?_
  refine bind_step (ia_E (n := 16) isI_538 rfl (by omega)) ?_
  rw [setM_ne (by decide)]
theorem back2_E {μ : Mu} {z : Zt} : mX2_back 537 (E μ z) = some (μ 539 16, E (setM μ 538 (va_cpy (μ 539) (μ 538) 0 0 9834)) z) := by
  unfold mX2_back
  refine bind_step (gR_537_1 554 (by omega) _ _) ?_
  refine bind_step (gR_537_0 554 (by omega) _ _) ?_
  refine bind_step (cal_E (mcopy_E isI_539 isI_538 (by omega) (by omega) (by omega))) ?_
  refine bind_step (gR_537_0 554 (by omega) _ _) ?_
  refine bind_step (ia_E (n := 16) isI_538 rfl (by omega)) ?_
  rw [setM_same, cpy_lt (by omega)]
theorem RelZ_be {L : Nat} {xs : Nat → Int32} {n s d : Nat} {z : Zt} (h : RelZ L xs n z) : RelZ L xs n (beZ z s d) := h
theorem ow_image {T1 : (Nat → Option Cel) → Nat → Nat → (Nat → Int32) → Nat → Prop} (L : Nat) (xs : Nat → Int32) : Ow_image (Inv (TX T1) L xs) := by
  intro n μ z hI
  obtain ⟨h1, h2, h3, h4, x1, x2, x3, x4, x5, x6, x7⟩ := hI.next
  have p8 : μ 538 16 = μ 403 8 := h1.2.2.2.2.1.1 8 (by omega)
  have hs : twoS 401 459 := Or.inl ⟨rfl, rfl⟩
  have e1 : beM μ 401 459 538 = μ 538 := beM_else (by omega)
  refine ⟨μ 403 8, beM μ 401 459, beZ z 401 459, setM (beM μ 401 459) 539 (va_cpy (beM μ 401 459 538) (beM μ 401 459 539) 0 0 9834), beZ z 401 459, ?_, ?_, ⟨Nat.le_refl _, Nat.le_refl _⟩, ⟨Nat.le_refl _, Nat.le_refl _⟩, rfl, ?_⟩
  · exact image0_E x1
  · show mX2_image 537 (E (beM μ 401 459) (beZ z 401 459)) = _
    rw [image2_E, e1, p8]
  · generalize hμ : setM (beM μ 401 459) 539 (va_cpy (beM μ 401 459 538) (beM μ 401 459 539) 0 0 9834) = μ'
    have eM : ∀ q, q ≠ 539 → μ' q = beM μ 401 459 q := fun q hq => by rw [← hμ]; exact setM_ne hq
    have e0 : ∀ q, q ≤ 459 ∨ 516 ≤ q → q ≠ 539 → μ' q = μ q := fun q h9 hq => (eM q hq).trans (beM_else (by omega))
    have e5 : μ' 460 2 = μ 402 2 := by
      rw [eM 460 (by omega), show (460 : Nat) = 459 + 1 from rfl, beM_1 (by omega)]
    refine ⟨RelS_congr (fun k k1 k2 => e0 k (by omega) (by omega)) (e0 538 (by omega) (by omega)) h1, RelS_be hs h1 (fun q q1 q2 => eM q (by omega)) (fun i hi => ?_), RelT_congr (fun k hk => e0 k (by omega) (by omega)) h3, RelZ_be h4, ?_⟩
    · rw [← hμ, setM_same, cpy_lt hi, e1]
    · unfold TX
      rw [e5, e0 402 (by omega) (by omega), e0 540 (by omega) (by omega)]
      have z1 : ∀ q, q ≠ 516 → (beZ z 401 459).2.1 q = z.2.1 q := fun q hq => if_neg hq
      have z2 : (beZ z 401 459).2.1 516 = va_cpy (z.2.1 458) (z.2.1 516) 0 0 4 := rfl
      have z3 : ∀ t, t < 4 → (beZ z 401 459).2.1 516 t = z.2.1 458 t := fun t ht => by
        rw [z2]
        unfold va_cpy
        rw [if_pos (by omega), Nat.zero_add, Nat.sub_zero]
      have okn : okT (beZ z 401 459) 458 := fun i y hi hy => x1 i y hi (by rw [z1 458 (by omega)] at hy; exact hy)
      refine ⟨okn, fun i y hi hy => x1 i y hi (by rw [z3 i hi] at hy; exact hy), x4, x4, Int.le_refl _, fun t ht => ?_, fun t ht => ?_⟩
      · obtain ⟨y, y1, y2⟩ := x6 t ht
        exact ⟨y, by rw [z1 458 (by omega)]; exact y1, y2⟩
      · have := x4.2
        rw [z3 t (by omega), z1 458 (by omega)]
theorem ow_back {T1 : (Nat → Option Cel) → Nat → Nat → (Nat → Int32) → Nat → Prop} (L : Nat) (xs : Nat → Int32) : Ow_back (Inv (TX T1) L xs) := by
  intro n μ z hI
  obtain ⟨h1, h2, h3, h4, x1, x2, x3, x4, x5, x6, x7⟩ := hI.next
  have p8 : μ 539 16 = μ 461 8 := h2.2.2.2.2.1.1 8 (by omega)
  have hs : twoS 459 401 := Or.inr ⟨rfl, rfl⟩
  have e1 : beM μ 459 401 539 = μ 539 := beM_else (by omega)
  refine ⟨μ 461 8, beM μ 459 401, beZ z 459 401, setM (beM μ 459 401) 538 (va_cpy (beM μ 459 401 539) (beM μ 459 401 538) 0 0 9834), beZ z 459 401, ?_, ?_, ⟨Nat.le_refl _, Nat.le_refl _⟩, ⟨Nat.le_refl _, Nat.le_refl _⟩, rfl, ?_⟩
  · exact back0_E x2
  · show mX2_back 537 (E (beM μ 459 401) (beZ z 459 401)) = _
    rw [back2_E, e1, p8]
  · generalize hμ : setM (beM μ 459 401) 538 (va_cpy (beM μ 459 401 539) (beM μ 459 401 538) 0 0 9834) = μ'
    have eM : ∀ q, q ≠ 538 → μ' q = beM μ 459 401 q := fun q hq => by rw [← hμ]; exact setM_ne hq
    have e0 : ∀ q, q ≤ 401 ∨ 458 ≤ q → q ≠ 538 → μ' q = μ q := fun q h9 hq => (eM q hq).trans (beM_else (by omega))
    have e5 : μ' 402 2 = μ 460 2 := by
      rw [eM 402 (by omega), show (402 : Nat) = 401 + 1 from rfl, beM_1 (by omega)]
    refine ⟨RelS_be hs h2 (fun q q1 q2 => eM q (by omega)) (fun i hi => ?_), RelS_congr (fun k k1 k2 => e0 k (by omega) (by omega)) (e0 539 (by omega) (by omega)) h2, RelT_congr (fun k hk => e0 k (by omega) (by omega)) h3, RelZ_be h4, ?_⟩
    · rw [← hμ, setM_same, cpy_lt hi, e1]
    · unfold TX
      rw [e5, e0 460 (by omega) (by omega), e0 540 (by omega) (by omega)]
      have z1 : ∀ q, q ≠ 458 → (beZ z 459 401).2.1 q = z.2.1 q := fun q hq => if_neg hq
      have z2 : (beZ z 459 401).2.1 458 = va_cpy (z.2.1 516) (z.2.1 458) 0 0 4 := rfl
      have z3 : ∀ t, t < 4 → (beZ z 459 401).2.1 458 t = z.2.1 516 t := fun t ht => by
        rw [z2]
        unfold va_cpy
        rw [if_pos (by omega), Nat.zero_add, Nat.sub_zero]
      refine ⟨fun i y hi hy => x2 i y hi (by rw [z3 i hi] at hy; exact hy), fun i y hi hy => x2 i y hi (by rw [z1 516 (by omega)] at hy; exact hy), x3, x3, Int.le_refl _, fun t ht => ?_, fun t ht => ?_⟩
      · obtain ⟨y, y1, y2⟩ := x6 t (Int.lt_of_lt_of_le ht x5)
        have := x3.2
        exact ⟨y, by rw [z3 t (by omega), x7 t ht]; exact y1, y2⟩
      · have := x3.2
        rw [z3 t (by omega), z1 516 (by omega)]
