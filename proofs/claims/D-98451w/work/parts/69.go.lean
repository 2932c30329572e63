/-! ===== tenths gone through on both sides ===== -/
theorem bd_I {x : Int32} {a b : Int} (h1 : a ≤ x.toInt) (h2 : x.toInt ≤ b) : bd x a b := ⟨h1, h2⟩
/-- the row X, at its tenth t, against the model's row A -/
def Go (t : Nat) (X A : Nat → Int32) : Prop := RBw X ∧ RM X A ∧ HB9 t X ∧ Nr t X A ∧ (X 8).toInt = (t : Int)
theorem wind_bd {calm : Int32} {X : Nat → Int32} (h6 : bd (X 6) 0 9) (h9 : bd (X 9) 0 30252) : bd (windF calm X 6) 0 9 ∧ bd (windF calm X 9) 0 30252 := by
  unfold windF blF
  by_cases hc : ¬ calm = 0
  · rw [if_pos hc]
    exact ⟨h6, h9⟩
  · rw [if_neg hc]
    by_cases hd : ¬ remF (X 8 + 1) 40 = 0
    · rw [if_pos hd, upd_eq, upN (by omega)]
      exact ⟨(wind_dec h6).2, h9⟩
    · rw [if_neg hd, upN (by omega), upd_eq, upd_eq]
      obtain ⟨a, ha⟩ : ∃ a : Nat, (X 9).toInt = (a : Int) := ⟨(X 9).toInt.toNat, by have := h9.1; omega⟩
      have e := remN (m := 10) (b := 10) ha rfl (by have := h9.2; omega) (by omega)
      refine ⟨⟨by rw [e]; omega, by rw [e]; omega⟩, ?_⟩
      rw [← (anew_eq h9).1]
      exact (anew_eq h9).2
theorem ten_eq (tx : Nat → Int32) (t4 calm : Int32) (X : Nat → Int32) (c : Int32) : tenF tx t4 calm X c = upd (windF calm (swF tx t4 (X 8).toInt.toNat (mvF tx t4 (X 8).toInt.toNat X c))) 8 (windF calm (swF tx t4 (X 8).toInt.toNat (mvF tx t4 (X 8).toInt.toNat X c)) 8 + 1) := rfl
theorem ten_RB {tx : Nat → Int32} {t4 calm c : Int32} {X : Nat → Int32} (hr : RBw X) : RBw (tenF tx t4 calm X c) := by
  have hm := mv_RB (tx := tx) (t4 := t4) (c := c) (t := (X 8).toInt.toNat) hr
  rw [ten_eq]
  generalize mvF tx t4 (X 8).toInt.toNat X c = Y at hm ⊢
  obtain ⟨r0, r1, r2, r3, r4, r5, r6, r7, r9⟩ := hm
  have s2 : bd (swF tx t4 (X 8).toInt.toNat Y 2) (-9999) 9999 := by
    unfold swF
    rw [upd_eq]
    exact cutF_bd (lo := -9999) (hi := 9999) (by decide)
  have s3 : bd (swF tx t4 (X 8).toInt.toNat Y 3) (-99) 99 := by
    unfold swF
    rw [upN (by omega), upd_eq]
    exact cutF_bd (lo := -99) (hi := 99) (by decide)
  have so : ∀ j, j ≠ 2 → j ≠ 3 → swF tx t4 (X 8).toInt.toNat Y j = Y j := fun j j2 j3 => sw_hi j2 j3
  generalize swF tx t4 (X 8).toInt.toNat Y = Z at s2 s3 so ⊢
  have w := wind_bd (calm := calm) (X := Z) (by rw [so 6 (by omega) (by omega)]; exact r6) (by rw [so 9 (by omega) (by omega)]; exact r9)
  refine ⟨?_, ?_, ?_, ?_, ?_, ?_, ?_, ?_, ?_⟩
  · rw [upN (by omega), wind_hi (by omega) (by omega), so 0 (by omega) (by omega)]; exact r0
  · rw [upN (by omega), wind_hi (by omega) (by omega), so 1 (by omega) (by omega)]; exact r1
  · rw [upN (by omega), wind_hi (by omega) (by omega)]; exact s2
  · rw [upN (by omega), wind_hi (by omega) (by omega)]; exact s3
  · rw [upN (by omega), wind_hi (by omega) (by omega), so 4 (by omega) (by omega)]; exact r4
  · rw [upN (by omega), wind_hi (by omega) (by omega), so 5 (by omega) (by omega)]; exact r5
  · rw [upN (by omega)]; exact w.1
  · rw [upN (by omega), wind_hi (by omega) (by omega), so 7 (by omega) (by omega)]; exact r7
  · rw [upN (by omega)]; exact w.2
theorem ten_HB {tx : Nat → Int32} {t4 calm c : Int32} {X : Nat → Int32} {t : Nat} (ht : (X 8).toInt = (t : Int)) (hr : RBw X) (hb : HB9 t X) : HB9 (t + 1) (tenF tx t4 calm X c) := by
  intro q j q1 q2 q3 hj
  by_cases h1 : q = 1
  · subst h1
    rw [show t + 1 - 1 = t by omega, ten_slot ht (by omega), if_pos hj]
    exact nv_bd hr (by omega)
  · rw [show t + 1 - q = t - (q - 1) by omega]
    have := mod60 (t := t) (q := q - 1) (by omega) (by omega) (by omega)
    rw [ten_else ht (by omega) (by omega)]
    exact hb (q - 1) j (by omega) (by omega) (by omega) hj
theorem mod1536 {t q : Nat} (h1 : 1 ≤ q) (h2 : q ≤ 1535) (h3 : q ≤ t) : (t - q) % 1536 ≠ t % 1536 := by omega
theorem pass_rel {μ : Mu} {z : Zt} {F A N T : Nat → Int32} {V : Nat → Int64} {X : Nat → Int32} {t : Nat} {c : Int32} (hT : TX TT μ z) {t4 : Int32} (ha : -1 ≤ t4.toInt ∧ t4.toInt < (μ 402 2).toInt) (hA4 : A 4 = t4) (h2 : F 25 = 0 → A 2 = X 9) (h9 : t < 1000000) (hg : Go t X A) :
    ∃ F' A' N' T' V', mX2_pass 537 c (WM μ z F A N T V) = some ((), WM μ z F' A' N' T' V') ∧ (∀ i, i ≠ 21 → i ≠ 22 → F' i = F i) ∧ RM (tenF (μ 540) t4 (F 25) X c) A' ∧ (F 25 = 0 → A' 2 = tenF (μ 540) t4 (F 25) X c 9) ∧
      (∀ i, i ≠ 2 → (i < 8 ∨ 17 ≤ i ∨ i = 12 ∨ i = 13 ∨ i = 15) → ¬ (602 + 6 * (t % 1536) ≤ i ∧ i < 602 + 6 * (t % 1536) + 6) → A' i = A i) ∧ (∀ j, j < 6 → A' (602 + 6 * (t % 1536) + j) = tenF (μ 540) t4 (F 25) X c (53 + 6 * (t % 60) + j)) := by
  obtain ⟨hr, hm, hb, hn, ht⟩ := hg
  have h16 : (A 16).toInt = (t : Int) := by rw [show A 16 = X 8 from hm 8 (by omega)]; exact ht
  -- the slot
  have sl := slotM_at (a := 602 + 6 * (t % 1536)) (A := A) (c := c) (by omega)
  have so : ∀ i, (i < 602 + 6 * (t % 1536) ∨ 602 + 6 * (t % 1536) + 6 ≤ i) → slotM (602 + 6 * (t % 1536)) A c i = A i := fun i hi => slotM_lo hi
  have hmB : RM X (slotM (602 + 6 * (t % 1536)) A c) := fun j hj => by rw [so _ (by omega)]; exact hm j hj
  have hnB : Nr t X (slotM (602 + 6 * (t % 1536)) A c) := fun q j q1 q2 q3 hj => by
    have := mod1536 (t := t) q1 (by omega) q3
    rw [so _ (by omega)]
    exact hn q j q1 q2 q3 hj
  have k0 := kind_M (s := 0) (N := N) (N0 := fun _ => 0) (by omega) hr hmB hb hnB
  obtain ⟨T1, V1, e1⟩ := pass_mv (z := z) (F := F) (N := N) (T := T) (V := V) (c := c) hT (by rw [hA4]; exact ha) h16 h9 k0
  have ep : sayF (μ 540) (A 4) 0 3 0 9 (nmM (slotM (602 + 6 * (t % 1536)) A c) N) (agM t (t - 60) (slotM (602 + 6 * (t % 1536)) A c)) = sayF (μ 540) t4 0 3 0 9 (nvX X) (agX t (t - 60) X) := by
    rw [hA4]
    exact say_congr (s := 0) (by omega) hT ha k0 (kind_now (N := fun _ => 0) (by omega) hr hb)
  rw [ep] at e1
  generalize hpe : sayF (μ 540) t4 0 3 0 9 (nvX X) (agX t (t - 60) X) = p at e1
  generalize nmM (slotM (602 + 6 * (t % 1536)) A c) N = N1 at e1
  -- moved
  have mv := mvM_eq (a := 602 + 6 * (t % 1536)) (A := A) (c := c) (p := p) (by omega)
  have mvX := mvF_eq (t4 := t4) (c := c) hpe.symm
  rw [show A 8 = X 0 from hm 0 (by omega), show A 9 = X 1 from hm 1 (by omega), ← mvX.1, ← mvX.2] at mv
  have me : ∀ i, i ≠ 8 → i ≠ 9 → mvM (602 + 6 * (t % 1536)) A c p i = slotM (602 + 6 * (t % 1536)) A c i := fun i i8 i9 => mvM_else i8 i9
  have yR := mv_RB (tx := μ 540) (t4 := t4) (c := c) (t := t) hr
  have yH := mv_HB (tx := μ 540) (t4 := t4) (c := c) hb
  have y8 : mvF (μ 540) t4 t X c 8 = X 8 := by rw [mv_hi (by omega), slot_lo (by omega)]
  have y9 : mvF (μ 540) t4 t X c 9 = X 9 := by rw [mv_hi (by omega), slot_lo (by omega)]
  have yo : ∀ j, 2 ≤ j → j < 53 → mvF (μ 540) t4 t X c j = X j := fun j j2 j5 => by rw [mv_hi j2, slot_lo (by omega)]
  have ya : ∀ q j, 1 ≤ q → q ≤ 9 → q ≤ t → j < 5 → mvF (μ 540) t4 t X c (53 + 6 * ((t - q) % 60) + j) = X (53 + 6 * ((t - q) % 60) + j) := fun q j q1 q2 q3 hj => mv_ago q1 q2 q3 hj
  have eten : tenF (μ 540) t4 (F 25) X c = upd (windF (F 25) (swF (μ 540) t4 t (mvF (μ 540) t4 t X c))) 8 (windF (F 25) (swF (μ 540) t4 t (mvF (μ 540) t4 t X c)) 8 + 1) := by
    unfold tenF
    rw [show (X 8).toInt.toNat = t by omega]
  have tslot : ∀ j, j < 6 → tenF (μ 540) t4 (F 25) X c (53 + 6 * (t % 60) + j) = if j < 5 then nvX X j else c := fun j hj => ten_slot ht hj
  rw [eten] at tslot ⊢
  generalize mvF (μ 540) t4 t X c = Y at yR yH y8 y9 yo ya mv tslot ⊢
  have rmD : RM Y (mvM (602 + 6 * (t % 1536)) A c p) := fun j hj => by
    by_cases j0 : j = 0
    · subst j0; exact mv.1
    · by_cases j1 : j = 1
      · subst j1; exact mv.2
      · rw [me _ (by omega) (by omega), so _ (by omega), yo j (by omega) (by omega)]
        exact hm j hj
  have nrD : Nr t Y (mvM (602 + 6 * (t % 1536)) A c p) := fun q j q1 q2 q3 hj => by
    rw [ya q j q1 q2 q3 hj, me _ (by omega) (by omega)]
    exact hnB q j q1 q2 q3 hj
  have d4 : mvM (602 + 6 * (t % 1536)) A c p 4 = t4 := by rw [me _ (by omega) (by omega), so _ (by omega)]; exact hA4
  have d2 : mvM (602 + 6 * (t % 1536)) A c p 2 = A 2 := by rw [me _ (by omega) (by omega), so _ (by omega)]
  have dsl : ∀ j, j < 6 → mvM (602 + 6 * (t % 1536)) A c p (602 + 6 * (t % 1536) + j) = if j < 5 then nvX X j else c := fun j hj => by
    rw [me _ (by omega) (by omega)]
    have g : A 8 = X 0 ∧ A 9 = X 1 ∧ A 10 = X 2 ∧ A 11 = X 3 ∧ A 14 = X 6 ∧ A 15 = X 7 := ⟨hm 0 (by omega), hm 1 (by omega), hm 2 (by omega), hm 3 (by omega), hm 6 (by omega), hm 7 (by omega)⟩
    obtain ⟨g0, g1, g2, g3, g6, g7⟩ := g
    match j, hj with
    | 0, _ => rw [Nat.add_zero, sl.1, g0, g2]; rfl
    | 1, _ => rw [sl.2.1, g3]; rfl
    | 2, _ => rw [sl.2.2.1, g1]; rfl
    | 3, _ => rw [sl.2.2.2.1, g6]; rfl
    | 4, _ => rw [sl.2.2.2.2.1, g7, g0]; rfl
    | 5, _ => rw [sl.2.2.2.2.2]; rfl
  have de : ∀ i, i ≠ 8 → i ≠ 9 → ¬ (602 + 6 * (t % 1536) ≤ i ∧ i < 602 + 6 * (t % 1536) + 6) → mvM (602 + 6 * (t % 1536)) A c p i = A i := fun i i8 i9 hi => by rw [me i i8 i9, so i (by omega)]
  generalize mvM (602 + 6 * (t % 1536)) A c p = D at e1 rmD nrD d4 d2 dsl de
  have k1 := kind_M (s := 1) (N := N1) (N0 := fun _ => 0) (by omega) yR rmD yH nrD
  have hD16 : (D 16).toInt = (t : Int) := by rw [show D 16 = Y 8 from rmD 8 (by omega), y8]; exact ht
  have hD12 : D 12 ≠ 0 := by
    rw [show D 12 = Y 4 from rmD 4 (by omega)]
    exact ne0 yR.2.2.2.2.1 (by omega)
  obtain ⟨T2, V2, e2⟩ := p110_E (z := z) (F := fNow F (slotM (602 + 6 * (t % 1536)) A c)) (A := D) (N := N1) (T := T1) (V := V1) hT (by rw [d4]; exact ha) hD16 h9 hD12 k1
  have eb : sayF (μ 540) (D 4) 1 (cutF ((D 8 - D 10) / D 12) (-99) 99) (-99) 99 (nmM D N1) (agM t (t - 60) D) = sayF (μ 540) t4 1 (cutF ((Y 0 - Y 2) / Y 4) (-99) 99) (-99) 99 (nvX Y) (agX t (t - 60) Y) := by
    rw [d4, show D 8 = Y 0 from rmD 0 (by omega), show D 10 = Y 2 from rmD 2 (by omega), show D 12 = Y 4 from rmD 4 (by omega)]
    exact say_congr (s := 1) (by omega) hT ha k1 (kind_now (N := fun _ => 0) (by omega) yR yH)
  rw [eb] at e2
  have f25 : fNow F (slotM (602 + 6 * (t % 1536)) A c) 25 = F 25 := rfl
  rw [f25] at e2
  refine ⟨_, _, _, _, _, e1.trans e2, fun i i1 i2 => ?_, ?_⟩
  · unfold fNow
    rw [upN i2, upN i1, upN i2, upN i1]
  clear e1 e2
  unfold swF at tslot ⊢
  generalize sayF (μ 540) t4 1 (cutF ((Y 0 - Y 2) / Y 4) (-99) 99) (-99) 99 (nvX Y) (agX t (t - 60) Y) = b at *
  have sM11 : swM D b 11 = cutF (Y 3 + b) (-99) 99 := by
    unfold swM
    rw [upN (by omega), upd_eq, show D 11 = Y 3 from rmD 3 (by omega)]
  have sM10 : swM D b 10 = cutF (Y 2 + cutF (Y 3 + b) (-99) 99) (-9999) 9999 := by
    unfold swM
    rw [upd_eq, upd_eq, upN (by omega), show D 10 = Y 2 from rmD 2 (by omega), show D 11 = Y 3 from rmD 3 (by omega)]
  have sMo : ∀ i, i ≠ 10 → i ≠ 11 → swM D b i = D i := fun i i0 i1 => by
    unfold swM
    rw [upN i0, upN i1]
  generalize hZ : upd (upd Y 3 (cutF (Y 3 + b) (-99) 99)) 2 (cutF (Y 2 + cutF (Y 3 + b) (-99) 99) (-9999) 9999) = Z at *
  have Z3 : Z 3 = cutF (Y 3 + b) (-99) 99 := by rw [← hZ, upN (by omega), upd_eq]
  have Z2 : Z 2 = cutF (Y 2 + cutF (Y 3 + b) (-99) 99) (-9999) 9999 := by rw [← hZ, upd_eq]
  have Zo : ∀ j, j ≠ 2 → j ≠ 3 → Z j = Y j := fun j j2 j3 => by rw [← hZ, upN j2, upN j3]
  generalize swM D b = S at *
  have rmS : RM Z S := fun j hj => by
    by_cases j2 : j = 2
    · subst j2; rw [Z2]; exact sM10
    · by_cases j3 : j = 3
      · subst j3; rw [Z3]; exact sM11
      · rw [sMo _ (by omega) (by omega), Zo j j2 j3]; exact rmD j hj
  have S2 : F 25 = 0 → S 2 = Z 9 := fun hc => by rw [sMo _ (by omega) (by omega), d2, Zo _ (by omega) (by omega), y9]; exact h2 hc
  have z6 : bd (Z 6) 0 9 := by rw [Zo _ (by omega) (by omega)]; exact yR.2.2.2.2.2.2.1
  have z9 : bd (Z 9) 0 30252 := by rw [Zo _ (by omega) (by omega)]; exact yR.2.2.2.2.2.2.2.2
  -- the wind
  have wo : ∀ i, i ≠ 2 → i ≠ 14 → windM (F 25) S i = S i := fun i i2 i14 => by
    unfold windM
    split
    · rfl
    · split
      · split
        · rw [upN i14]
        · rw [upN i14]
      · rw [upN i14, upN i2]
  have w14 : windM (F 25) S 14 = windF (F 25) Z 6 ∧ (F 25 = 0 → windM (F 25) S 2 = windF (F 25) Z 9) := by
    unfold windM windF blF
    by_cases hc : ¬ F 25 = 0
    · rw [if_pos hc, if_pos hc]
      exact ⟨rmS 6 (by omega), fun q => absurd q hc⟩
    · rw [if_neg hc, if_neg hc, show S 16 = Z 8 from rmS 8 (by omega), show S 14 = Z 6 from rmS 6 (by omega), S2 (Decidable.not_not.mp hc)]
      by_cases hd : ¬ remF (Z 8 + 1) 40 = 0
      · rw [if_pos hd, if_pos hd]
        have wd := (wind_dec z6).1
        by_cases h6 : Z 6 ≤ 0
        · rw [if_pos h6] at wd ⊢
          refine ⟨by rw [upd_eq, upd_eq]; exact wd, fun q => by rw [upN (by omega), upN (by omega)]; exact S2 q⟩
        · rw [if_neg h6] at wd ⊢
          refine ⟨by rw [upd_eq, upd_eq]; exact wd, fun q => by rw [upN (by omega), upN (by omega)]; exact S2 q⟩
      · rw [if_neg hd, if_neg hd]
        refine ⟨by rw [upd_eq, upN (by omega), upd_eq], fun q => by rw [upN (by omega), upd_eq, upd_eq]; exact (anew_eq z9).1⟩
  have xo : ∀ j, j ≠ 6 → j ≠ 9 → windF (F 25) Z j = Z j := fun j j6 j9 => wind_hi j6 j9
  generalize windM (F 25) S = W at *
  generalize windF (F 25) Z = U at *
  have rmU : RM U W := fun j hj => by
    by_cases j6 : j = 6
    · subst j6; exact w14.1
    · rw [wo _ (by omega) (by omega), xo j j6 (by omega)]; exact rmS j hj
  refine ⟨fun j hj => ?_, fun hc => ?_, fun i i2 hi hs => ?_, fun j hj => ?_⟩
  · by_cases j8 : j = 8
    · subst j8
      rw [upd_eq, upd_eq, show W 16 = U 8 from rmU 8 (by omega)]
    · rw [upN (by omega), upN j8]
      exact rmU j hj
  · rw [upN (by omega), upN (by omega)]
    exact w14.2 hc
  · rw [upN (by omega), wo i i2 (by omega), sMo i (by omega) (by omega)]
    exact de i (by omega) (by omega) hs
  · rw [upN (by omega), wo _ (by omega) (by omega), sMo _ (by omega) (by omega), dsl j hj]
    exact (tslot j hj).symm
theorem Go_next {tx : Nat → Int32} {t4 calm c : Int32} {X A A' : Nat → Int32} {t : Nat} (h9 : t < 1000000) (hg : Go t X A) (hm : RM (tenF tx t4 calm X c) A') (ho : ∀ i, i ≠ 2 → (i < 8 ∨ 17 ≤ i ∨ i = 12 ∨ i = 13 ∨ i = 15) → ¬ (602 + 6 * (t % 1536) ≤ i ∧ i < 602 + 6 * (t % 1536) + 6) → A' i = A i) (hs : ∀ j, j < 6 → A' (602 + 6 * (t % 1536) + j) = tenF tx t4 calm X c (53 + 6 * (t % 60) + j)) : Go (t + 1) (tenF tx t4 calm X c) A' := by
  obtain ⟨hr, hm0, hb, hn, ht⟩ := hg
  refine ⟨ten_RB hr, hm, ten_HB ht hr hb, fun q j q1 q2 q3 hj => ?_, ?_⟩
  · by_cases h1 : q = 1
    · subst h1
      rw [show t + 1 - 1 = t by omega]
      exact hs j (by omega)
    · rw [show t + 1 - q = t - (q - 1) by omega]
      have m60 := mod60 (t := t) (q := q - 1) (by omega) (by omega) (by omega)
      have m15 := mod1536 (t := t) (q := q - 1) (by omega) (by omega) (by omega)
      rw [ten_else ht (by omega) (by omega), ho _ (by omega) (by omega) (by omega)]
      exact hn (q - 1) j (by omega) (by omega) (by omega) hj
  · rw [ten_8]
    exact inc_I ht h9
theorem HB9_HR {X A : Nat → Int32} {t : Nat} (ht : (X 8).toInt = (t : Int)) (h : HR X A) : HB9 t X ∧ Nr t X A := by
  refine ⟨fun q j q1 q2 q3 hj => ?_, fun q j q1 q2 q3 hj => ?_⟩
  · obtain ⟨-, b0, b1, b2, b3, b4, b5⟩ := h (t - q) (by omega) (by omega)
    match j, hj with
    | 0, _ => exact bd_w b0 (by omega) (by omega)
    | 1, _ => rw [show 53 + 6 * ((t - q) % 60) + 1 = 54 + 6 * ((t - q) % 60) by omega]; exact bd_w b1 (by omega) (by omega)
    | 2, _ => rw [show 53 + 6 * ((t - q) % 60) + 2 = 55 + 6 * ((t - q) % 60) by omega]; exact bd_w b2 (by omega) (by omega)
    | 3, _ => rw [show 53 + 6 * ((t - q) % 60) + 3 = 56 + 6 * ((t - q) % 60) by omega]; exact bd_w b3 (by omega) (by omega)
    | 4, _ => rw [show 53 + 6 * ((t - q) % 60) + 4 = 57 + 6 * ((t - q) % 60) by omega]; exact bd_w b4 (by omega) (by omega)
  · exact (h (t - q) (by omega) (by omega)).1 j (by omega)
theorem HR_ring {Y A A' : Nat → Int32} (hA : ∀ t : Nat, (t : Int) < (Y 8).toInt → (Y 8).toInt ≤ (t : Int) + 60 → ∀ j, j < 6 → A' (602 + 6 * (t % 1536) + j) = A (602 + 6 * (t % 1536) + j)) (h : HR Y A) : HR Y A' := by
  intro t t1 t2
  obtain ⟨h1, h2⟩ := h t t1 t2
  exact ⟨fun j hj => (hA t t1 t2 j hj).trans (h1 j hj), h2⟩
theorem nv_bds {X : Nat → Int32} (h : RBw X) : bd (nvX X 0) (-10599) 10599 ∧ bd (nvX X 1) (-99) 99 ∧ bd (nvX X 2) (-9) 9 ∧ bd (nvX X 3) 0 9 ∧ bd (nvX X 4) (-600) 600 := by
  obtain ⟨h0, h1, h2, h3, h4, h5, h6, h7, h9⟩ := h
  exact ⟨bd_w (bd_sub h0 h2 (by omega)) (by omega) (by omega), h3, h1, h6, bd_w (bd_sub h7 h0 (by omega)) (by omega) (by omega)⟩
theorem ten_HR {tx : Nat → Int32} {t4 calm c : Int32} {X A A' : Nat → Int32} {t : Nat} (hr : RBw X) (hc : bd c (-1) 1) (ht : (X 8).toInt = (t : Int)) (h9 : t < 1000000) (ho : ∀ i, i ≠ 2 → (i < 8 ∨ 17 ≤ i ∨ i = 12 ∨ i = 13 ∨ i = 15) → ¬ (602 + 6 * (t % 1536) ≤ i ∧ i < 602 + 6 * (t % 1536) + 6) → A' i = A i) (hs : ∀ j, j < 6 → A' (602 + 6 * (t % 1536) + j) = tenF tx t4 calm X c (53 + 6 * (t % 60) + j)) (h : HR X A) : HR (tenF tx t4 calm X c) A' := by
  intro u u1 u2
  have e8 : (tenF tx t4 calm X c 8).toInt = ((t + 1 : Nat) : Int) := by rw [ten_8]; exact inc_I ht h9
  rw [e8] at u1 u2
  by_cases hu : u = t
  · subst hu
    refine ⟨hs, ?_⟩
    have g : ∀ j, j < 6 → tenF tx t4 calm X c (53 + 6 * (u % 60) + j) = if j < 5 then nvX X j else c := fun j hj => ten_slot ht hj
    obtain ⟨n0, n1, n2, n3, n4⟩ := nv_bds hr
    have g0 := g 0 (by omega)
    have g1 := g 1 (by omega)
    have g2 := g 2 (by omega)
    have g3 := g 3 (by omega)
    have g4 := g 4 (by omega)
    have g5 := g 5 (by omega)
    rw [show 53 + 6 * (u % 60) + 0 = 53 + 6 * (u % 60) by omega, if_pos (by omega)] at g0
    rw [show 53 + 6 * (u % 60) + 1 = 54 + 6 * (u % 60) by omega, if_pos (by omega)] at g1
    rw [show 53 + 6 * (u % 60) + 2 = 55 + 6 * (u % 60) by omega, if_pos (by omega)] at g2
    rw [show 53 + 6 * (u % 60) + 3 = 56 + 6 * (u % 60) by omega, if_pos (by omega)] at g3
    rw [show 53 + 6 * (u % 60) + 4 = 57 + 6 * (u % 60) by omega, if_pos (by omega)] at g4
    rw [show 53 + 6 * (u % 60) + 5 = 58 + 6 * (u % 60) by omega, if_neg (by omega)] at g5
    rw [g0, g1, g2, g3, g4, g5]
    exact ⟨n0, n1, n2, n3, n4, hc⟩
  · obtain ⟨a1, a2⟩ := h u (by omega) (by omega)
    have m60 := mod60 (t := t) (q := t - u) (by omega) (by omega) (by omega)
    have m15 := mod1536 (t := t) (q := t - u) (by omega) (by omega) (by omega)
    rw [show t - (t - u) = u by omega] at m60 m15
    have eX : ∀ j, j < 6 → tenF tx t4 calm X c (53 + 6 * (u % 60) + j) = X (53 + 6 * (u % 60) + j) := fun j hj => ten_else ht (by omega) (by omega)
    refine ⟨fun j hj => ?_, ?_⟩
    · rw [eX j hj, ho _ (by omega) (by omega) (by omega)]
      exact a1 j hj
    · have e1 := eX 0 (by omega)
      have e2 := eX 1 (by omega)
      have e3 := eX 2 (by omega)
      have e4 := eX 3 (by omega)
      have e5 := eX 4 (by omega)
      have e6 := eX 5 (by omega)
      rw [show 53 + 6 * (u % 60) + 0 = 53 + 6 * (u % 60) by omega] at e1
      rw [show 53 + 6 * (u % 60) + 1 = 54 + 6 * (u % 60) by omega] at e2
      rw [show 53 + 6 * (u % 60) + 2 = 55 + 6 * (u % 60) by omega] at e3
      rw [show 53 + 6 * (u % 60) + 3 = 56 + 6 * (u % 60) by omega] at e4
      rw [show 53 + 6 * (u % 60) + 4 = 57 + 6 * (u % 60) by omega] at e5
      rw [show 53 + 6 * (u % 60) + 5 = 58 + 6 * (u % 60) by omega] at e6
      rw [e1, e2, e3, e4, e5, e6]
      exact a2
