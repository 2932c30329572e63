/-! ===== the row of now changed: State against model ===== -/
theorem RB_RBw {X : Nat → Int32} (h : RB X) : RBw X := by
  obtain ⟨r0, r1, r2, r3, r4, r5, r6, r7, r8, r9, -⟩ := h
  exact ⟨r0, r1, r2, r3, r4, r5, r6, r7, r9⟩
/-- a State's row and the model's, ready for a tenth -/
theorem PS_Go {n X A : Nat → Int32} {ord said bar step : Nat → Nat → Int32} {t : Nat} (h : PS n X ord said bar step A) (ht : (X 8).toInt = (t : Int)) : Go t X A := by
  obtain ⟨-, -, -, -, ⟨f1, -⟩, ⟨rb, hr, -⟩, -⟩ := h
  obtain ⟨h1, h2⟩ := HB9_HR ht hr
  exact ⟨RB_RBw rb, fun j hj => f1 j hj, h1, h2, ht⟩
theorem PS_ten {s : Int} {n X A A' tx : Nat → Int32} {ord said bar step : Nat → Nat → Int32} {t4 calm c : Int32} {t : Nat} (hs : 1 ≤ s) (hs4 : s ≤ 40) (ht : (X 8).toInt = (t : Int)) (h9 : t < 9999) (hc : bd c (-1) 1) (hm : RM (tenF tx t4 calm X c) A') (h2 : A' 2 = tenF tx t4 calm X c 9)
    (ho : ∀ i, i ≠ 2 → (i < 8 ∨ 17 ≤ i ∨ i = 12 ∨ i = 13 ∨ i = 15) → ¬ (602 + 6 * (t % 1536) ≤ i ∧ i < 602 + 6 * (t % 1536) + 6) → A' i = A i) (hsl : ∀ j, j < 6 → A' (602 + 6 * (t % 1536) + j) = tenF tx t4 calm X c (53 + 6 * (t % 60) + j)) (h : PS n X ord said bar step A) (hS : Sl s n X step) :
    PS n (tenF tx t4 calm X c) ord said bar step A' ∧ Sl (s - 1) n (tenF tx t4 calm X c) step := by
  have h' := h
  obtain ⟨p1, p2, p3, p4, ⟨f1, f2, f3, f4, f5, f6, f7⟩, ⟨rb, hr, g1, g2, g3⟩, p6⟩ := h'
  have e8 : (tenF tx t4 calm X c 8).toInt = ((t + 1 : Nat) : Int) := by rw [ten_8]; exact inc_I ht (by omega)
  have e : ∀ j, 10 ≤ j → j < 53 → tenF tx t4 calm X c j = X j := fun j j1 j2 => ten_else ht (by omega) (by omega)
  have R := ten_RB (tx := tx) (t4 := t4) (calm := calm) (c := c) (RB_RBw rb)
  have hx12 := rb.2.2.2.2.2.2.2.2.2.2.2.2.2
  have h08 := p1.2.1.2
  obtain ⟨w0, w1, w2, w3, w4, w5, w6, w7, w9⟩ := R
  obtain ⟨-, -, -, -, -, -, -, -, -, -, r10, r11, r12⟩ := rb
  refine PS_row (d := 1) ⟨by rw [e8]; omega, by rw [e8]; omega⟩ hs hs ⟨⟨w0, w1, w2, w3, w4, w5, w6, w7, ⟨by rw [e8]; omega, by rw [e8]; omega⟩, w9, by rw [e 10 (by omega) (by omega)]; exact r10, by rw [e 11 (by omega) (by omega)]; exact r11, by rw [e 12 (by omega) (by omega)]; exact r12⟩, ten_HR (RB_RBw h.2.2.2.2.2.1.1) hc ht (by omega) ho hsl hr, by rw [e 11 (by omega) (by omega)]; exact g1, by rw [e 10 (by omega) (by omega), e 11 (by omega) (by omega)]; exact g2, ⟨by rw [e 11 (by omega) (by omega), e 12 (by omega) (by omega)]; exact g3.1, PT_keep (by rw [e8]; omega) (e 12 (by omega) (by omega)) hx12 (fun i hi => e _ (by omega) (by omega)) g3.2⟩⟩
    ⟨fun j hj => hm j hj, h2, ?_, ?_, fun i hi j hj => ?_, fun o h1 => ?_, by rw [e 10 (by omega) (by omega)]; exact f7⟩ (by rw [e 12 (by omega) (by omega)]; exact Int.le_refl _) (fun i hi j hj => (e _ (by omega) (by omega)).symm) (fun i hi i2 _ => ho i i2 (by omega) (by omega)) (fun k hk hh => ?_) h hS
  · rw [ho 17 (by omega) (by omega) (by omega), e 10 (by omega) (by omega)]; exact f3
  · rw [ho 7 (by omega) (by omega) (by omega), e 12 (by omega) (by omega)]; exact f4
  · rw [e 12 (by omega) (by omega)] at hi
    rw [ho _ (by omega) (by omega) (by omega), e _ (by omega) (by omega)]
    exact f5 i hi j hj
  · rw [ho _ (by omega) (by omega) (by omega), e 11 (by omega) (by omega)]; exact f6 o h1
  · have d := p6 k hk
    have d10 := d.2.2.2.2.2.2.2.2.2.1
    have d11 := d.2.2.2.2.2.2.2.2.2.2.1
    have h430 := p1.2.2.2.2.2.1.2
    refine HR_ring (fun u u1 u2 j hj => ?_) hh
    have m15 := mod1536 (t := t) (q := t - u) (by omega) (by omega) (by omega)
    rw [show t - (t - u) = u by omega] at m15
    exact ho _ (by omega) (by omega) (by omega)
theorem PS_nums {s : Int} {n X X' A A' : Nat → Int32} {ord said bar step : Nat → Nat → Int32} (hs0 : 0 ≤ s) (hX : ∀ j, j ≠ 4 → j ≠ 5 → j ≠ 7 → j ≠ 10 → X' j = X j) (b4 : bd (X' 4) 1 24) (b5 : bd (X' 5) 0 99) (b7 : bd (X' 7) 0 600) (b10 : -1 ≤ (X' 10).toInt ∧ (X' 10).toInt < (n 0).toInt) (hbit : ∀ o : Nat, (o : Int) = (X' 10).toInt → bitAt (X 11) o = 0)
    (hA : ∀ j, j < 9 → A' (8 + j) = X' j) (hA17 : A' 17 = X' 10) (hAo : ∀ i, (i < 8 ∨ 18 ≤ i) → A' i = A i) (h : PS n X ord said bar step A) (hS : Sl s n X step) : PS n X' ord said bar step A' ∧ Sl s n X' step := by
  have h' := h
  obtain ⟨p1, p2, p3, p4, ⟨f1, f2, f3, f4, f5, f6, f7⟩, ⟨⟨r0, r1, r2, r3, r4, r5, r6, r7, r8, r9, r10, r11, r12⟩, hr, g1, g2, g3⟩, p6⟩ := h'
  have h08 := p1.2.1.2
  have e : ∀ j, j < 4 ∨ j = 6 ∨ j = 8 ∨ j = 9 ∨ 11 ≤ j → X' j = X j := fun j hj => hX j (by omega) (by omega) (by omega) (by omega)
  have hHR : HR X' A' := by
    intro t t1 t2
    rw [e 8 (by omega)] at t1 t2
    obtain ⟨q1, q2⟩ := hr t t1 t2
    refine ⟨fun j hj => by rw [hAo _ (by omega), e _ (by omega)]; exact q1 j hj, ?_⟩
    rw [e (53 + 6 * (t % 60)) (by omega), e (54 + 6 * (t % 60)) (by omega), e (55 + 6 * (t % 60)) (by omega), e (56 + 6 * (t % 60)) (by omega), e (57 + 6 * (t % 60)) (by omega), e (58 + 6 * (t % 60)) (by omega)]
    exact q2
  have := PS_row (s := s) (d := 0) (X' := X') (A' := A') ⟨by rw [e 8 (by omega)]; exact Int.le_refl _, by rw [e 8 (by omega)]; omega⟩ hs0 hs0 ⟨⟨by rw [e 0 (by omega)]; exact r0, by rw [e 1 (by omega)]; exact r1, by rw [e 2 (by omega)]; exact r2, by rw [e 3 (by omega)]; exact r3, b4, b5, by rw [e 6 (by omega)]; exact r6, b7, by rw [e 8 (by omega)]; exact r8, by rw [e 9 (by omega)]; exact r9, ⟨b10.1, by omega⟩, by rw [e 11 (by omega)]; exact r11, by rw [e 12 (by omega)]; exact r12⟩, hHR, by rw [e 11 (by omega)]; exact g1, by rw [e 11 (by omega)]; exact hbit, ⟨by rw [e 11 (by omega), e 12 (by omega)]; exact g3.1, PT_keep (by rw [e 8 (by omega)]; exact Int.le_refl _) (e 12 (by omega)) r12.2 (fun i hi => e _ (by omega)) g3.2⟩⟩
    ⟨hA, by rw [hAo 2 (by omega), e 9 (by omega)]; exact f2, hA17, by rw [hAo 7 (by omega), e 12 (by omega)]; exact f4, fun i hi j hj => by rw [e 12 (by omega)] at hi; rw [hAo _ (by omega), e _ (by omega)]; exact f5 i hi j hj, fun o h1 => by rw [hAo _ (by omega), e 11 (by omega)]; exact f6 o h1, b10.2⟩ (by rw [e 12 (by omega)]; exact Int.le_refl _) (fun i hi j hj => (e _ (by omega)).symm) (fun i hi i2 _ => hAo i (by omega))
    (fun k hk hh => HR_ring (fun u u1 u2 j hj => hAo _ (by omega)) hh) h hS
  rw [Int.sub_zero] at this
  exact this
/-- bits of a byte -/
theorem bit_or : ∀ (k : Fin 256) (o o' : Fin 8), bitAt (Int32.ofNat k.val ||| (1 <<< Int32.ofNat o.val)) o'.val = if o' = o then 1 else bitAt (Int32.ofNat k.val) o'.val := by decide +kernel
def cnt (v : Int32) : Int32 := bitAt v 0 + bitAt v 1 + bitAt v 2 + bitAt v 3 + bitAt v 4 + bitAt v 5 + bitAt v 6 + bitAt v 7
theorem cnt_or : ∀ (k : Fin 256) (o : Fin 8), bitAt (Int32.ofNat k.val) o.val = 0 → cnt (Int32.ofNat k.val ||| (1 <<< Int32.ofNat o.val)) = cnt (Int32.ofNat k.val) + 1 ∧ (cnt (Int32.ofNat k.val)).toInt ≤ 7 ∧ 0 ≤ (Int32.ofNat k.val ||| (1 <<< Int32.ofNat o.val)).toInt ∧ (Int32.ofNat k.val ||| (1 <<< Int32.ofNat o.val)).toInt ≤ 255 := by decide +kernel
theorem PS_land {s : Int} {n X X' A A' : Nat → Int32} {ord said bar step : Nat → Nat → Int32} {o b : Nat} (hs0 : 0 ≤ s) (ho : (X 10).toInt = (o : Int)) (hb : (X 12).toInt = (b : Int)) (h10 : X' 10 = -1) (h5 : X' 5 = 0) (h11 : X' 11 = X 11 ||| (1 <<< Int32.ofNat o)) (h12 : X' 12 = X 12 + 1) (hp0 : X' (13 + 2 * b) = X 10) (hp1 : X' (14 + 2 * b) = X 8)
    (hX : ∀ j, j ≠ 5 → j ≠ 10 → j ≠ 11 → j ≠ 12 → j ≠ 13 + 2 * b → j ≠ 14 + 2 * b → X' j = X j) (hA17 : A' 17 = -1) (hA13 : A' 13 = 0) (hAb : A' (25 + 6 * o) = 1) (hA7 : A' 7 = X 12 + 1) (hq0 : A' (474 + 2 * b) = X 10) (hq1 : A' (475 + 2 * b) = X 8) (hAo : ∀ i, i ≠ 7 → i ≠ 13 → i ≠ 17 → i ≠ 25 + 6 * o → i ≠ 474 + 2 * b → i ≠ 475 + 2 * b → A' i = A i)
    (h : PS n X ord said bar step A) (hS : Sl s n X step) : PS n X' ord said bar step A' ∧ Sl s n X' step := by
  have h' := h
  obtain ⟨p1, p2, p3, p4, ⟨f1, f2, f3, f4, f5, f6, f7⟩, ⟨⟨r0, r1, r2, r3, r4, r5, r6, r7, r8, r9, r10, r11, r12⟩, hr, g1, g2, g3⟩, p6⟩ := h'
  have h08 := p1.2.1.2
  have ho8 : o < 8 := by have := r10.2; omega
  obtain ⟨v, hv⟩ : ∃ v : Nat, (X 11).toInt = (v : Int) := ⟨(X 11).toInt.toNat, by have := r11.1; omega⟩
  have hv8 : v < 256 := by have := r11.2; omega
  have ev : X 11 = Int32.ofNat v := I_nat hv
  have hbit0 : bitAt (X 11) o = 0 := g2 o ho.symm
  have hcnt := cnt_or ⟨v, hv8⟩ ⟨o, ho8⟩ (by rw [← ev]; exact hbit0)
  simp only [← ev] at hcnt
  have g3' : X 12 = cnt (X 11) := g3.1
  have hb7 : b ≤ 7 := by
    rw [← g3'] at hcnt
    have := hcnt.2.1
    omega
  have hbits : ∀ o', o' < 8 → bitAt (X' 11) o' = if o' = o then 1 else bitAt (X 11) o' := fun o' h' => by
    rw [h11, ev]
    rw [bit_or ⟨v, hv8⟩ ⟨o, ho8⟩ ⟨o', h'⟩]
    by_cases hoo : o' = o
    · subst hoo
      rw [if_pos rfl, if_pos rfl]
    · rw [if_neg (fun q => hoo (congrArg Fin.val q)), if_neg hoo]
  have e12 : (X' 12).toInt = ((b + 1 : Nat) : Int) := by rw [h12]; exact inc_I hb (by omega)
  have e : ∀ j, j < 5 ∨ (6 ≤ j ∧ j < 10) ∨ 29 ≤ j → X' j = X j := fun j hj => hX j (by omega) (by omega) (by omega) (by omega) (by omega) (by omega)
  have ep : ∀ i j, i < b → j < 2 → X' (13 + 2 * i + j) = X (13 + 2 * i + j) := fun i j hi hj => hX _ (by omega) (by omega) (by omega) (by omega) (by omega) (by omega)
  have hHR : HR X' A' := by
    intro t t1 t2
    rw [e 8 (by omega)] at t1 t2
    obtain ⟨q1, q2⟩ := hr t t1 t2
    refine ⟨fun j hj => by rw [hAo _ (by omega) (by omega) (by omega) (by omega) (by omega) (by omega), e _ (by omega)]; exact q1 j hj, ?_⟩
    rw [e (53 + 6 * (t % 60)) (by omega), e (54 + 6 * (t % 60)) (by omega), e (55 + 6 * (t % 60)) (by omega), e (56 + 6 * (t % 60)) (by omega), e (57 + 6 * (t % 60)) (by omega), e (58 + 6 * (t % 60)) (by omega)]
    exact q2
  have m1 : (-1 : Int32).toInt = -1 := rfl
  have := PS_row (s := s) (d := 0) (X' := X') (A' := A') ⟨by rw [e 8 (by omega)]; exact Int.le_refl _, by rw [e 8 (by omega)]; omega⟩ hs0 hs0
    ⟨⟨by rw [e 0 (by omega)]; exact r0, by rw [e 1 (by omega)]; exact r1, by rw [e 2 (by omega)]; exact r2, by rw [e 3 (by omega)]; exact r3, by rw [e 4 (by omega)]; exact r4, by rw [h5]; exact ⟨by decide, by decide⟩, by rw [e 6 (by omega)]; exact r6, by rw [e 7 (by omega)]; exact r7, by rw [e 8 (by omega)]; exact r8, by rw [e 9 (by omega)]; exact r9, by rw [h10]; exact ⟨by decide, by decide⟩, by rw [h11]; exact hcnt.2.2, ⟨by omega, by omega⟩⟩, hHR,
      fun o' o1 o2 => by
        have hne : o' ≠ o := fun q => by omega
        rw [hbits o' o1, if_neg hne]
        exact g1 o' o1 o2,
      fun o' hq => by rw [h10, m1] at hq; omega,
      ⟨by
        show X' 12 = cnt (X' 11)
        rw [h12, h11, hcnt.1, g3'],
      fun i hi => by
        rw [e12] at hi
        rw [e 8 (by omega)]
        have h0 := r8.1
        by_cases hb0 : b = 0
        · subst hb0
          have hi0 : i = 0 := by omega
          subst hi0
          rw [show X' (14 + 2 * 0) = X 8 from hp1]
          omega
        · have hq := g3.2 0 (by omega)
          have e14 : X' 14 = X 14 := hX _ (by omega) (by omega) (by omega) (by omega) (by omega) (by omega)
          rw [e14]
          by_cases hib : i = b
          · subst hib
            rw [hp1]
            have h3 : (X 14).toInt ≤ (X 8).toInt := hq.2.2
            omega
          · rw [show X' (14 + 2 * i) = X (14 + 2 * i) from hX _ (by omega) (by omega) (by omega) (by omega) (by omega) (by omega)]
            exact g3.2 i (by omega)⟩⟩
    ⟨fun j hj => by
        by_cases j5 : j = 5
        · subst j5
          rw [h5]
          exact hA13
        · rw [hAo _ (by omega) (by omega) (by omega) (by omega) (by omega) (by omega), e j (by omega)]
          exact f1 j hj,
      by rw [hAo 2 (by omega) (by omega) (by omega) (by omega) (by omega) (by omega), e 9 (by omega)]; exact f2, by rw [hA17, h10], by rw [hA7, h12],
      fun i hi j hj => by
        rw [e12] at hi
        by_cases hib : i = b
        · subst hib
          match j, hj with
          | 0, _ => exact hq0.trans hp0.symm
          | 1, _ =>
            rw [show 474 + 2 * i + 1 = 475 + 2 * i by omega, show 13 + 2 * i + 1 = 14 + 2 * i by omega]
            exact hq1.trans hp1.symm
        · rw [hAo _ (by omega) (by omega) (by omega) (by omega) (by omega) (by omega), ep i j (by omega) hj]
          exact f5 i (by omega) j hj,
      fun o' h1 => by
        rw [hbits o' (by omega)]
        by_cases hoo : o' = o
        · subst hoo
          rw [if_pos rfl]
          exact hAb
        · rw [if_neg hoo, hAo _ (by omega) (by omega) (by omega) (by omega) (by omega) (by omega)]
          exact f6 o' h1,
      by rw [h10, m1]; have := p1.2.1.1; omega⟩ (by omega) (fun i hi j hj => (ep i j (by omega) hj).symm) (fun i hi i2 hn => hAo i (by omega) (by omega) (by omega) (hn o (by omega)) (by omega) (by omega))
    (fun k hk hh => HR_ring (fun u u1 u2 j hj => hAo _ (by omega) (by omega) (by omega) (by omega) (by omega) (by omega)) hh) h hS
  rw [Int.sub_zero] at this
  exact this
