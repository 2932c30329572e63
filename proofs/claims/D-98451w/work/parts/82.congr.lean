/-! ===== rows that agree as far as they are long ===== -/
def Eq4 (X X' : Nat → Int32) : Prop := ∀ j, j < 413 → X' j = X j
theorem nvX_congr {X X' : Nat → Int32} (h : Eq4 X X') : nvX X' = nvX X := by
  unfold nvX nmF
  rw [h 0 (by omega), h 1 (by omega), h 2 (by omega), h 3 (by omega), h 4 (by omega), h 5 (by omega), h 6 (by omega), h 7 (by omega)]
theorem agX_congr {t f : Nat} {X X' : Nat → Int32} (h : Eq4 X X') : agX t f X' = agX t f X := by
  funext q j
  unfold agX
  by_cases hc : f + q ≤ t ∧ j < 5
  · have := sixty (t - q)
    rw [if_pos hc, if_pos hc, h _ (by omega)]
  · rw [if_neg hc, if_neg hc]
theorem handF_congr {tx : Nat → Int32} {t : Int32} {X X' : Nat → Int32} (h : Eq4 X X') : handF tx t X' = handF tx t X := by
  unfold handF
  rw [nvX_congr h, h 8 (by omega), agX_congr h]
theorem hsF_4 {near : Int32} {X X' : Nat → Int32} (h : Eq4 X X') : hsF near X' = hsF near X := hsF_congr (fun j hj => h j (by omega))
theorem mv_congr {tx : Nat → Int32} {t4 c : Int32} {t : Nat} {X X' : Nat → Int32} (h : Eq4 X X') : Eq4 (mvF tx t4 t X c) (mvF tx t4 t X' c) := by
  intro j hj
  have e := mvF_eq (tx := tx) (t4 := t4) (c := c) (t := t) (X := X) rfl
  have e' := mvF_eq (tx := tx) (t4 := t4) (c := c) (t := t) (X := X') rfl
  rw [nvX_congr h, agX_congr h, h 0 (by omega), h 1 (by omega)] at e'
  by_cases j0 : j = 0
  · subst j0; rw [e.1, e'.1]
  · by_cases j1 : j = 1
    · subst j1; rw [e.2, e'.2]
    · rw [mv_hi (by omega), mv_hi (by omega), nvX_congr h]
      unfold slotF upd va_cpy
      by_cases h1 : j = 53 + 6 * (t % 60) + 5
      · rw [if_pos h1, if_pos h1]
      · rw [if_neg h1, if_neg h1]
        by_cases h2 : 53 + 6 * (t % 60) ≤ j ∧ j < 53 + 6 * (t % 60) + 5
        · rw [if_pos h2, if_pos h2]
        · rw [if_neg h2, if_neg h2, h j hj]
theorem sw_congr {tx : Nat → Int32} {t4 : Int32} {t : Nat} {X X' : Nat → Int32} (h : Eq4 X X') : Eq4 (swF tx t4 t X) (swF tx t4 t X') := by
  intro j hj
  unfold swF
  rw [nvX_congr h, agX_congr h, h 0 (by omega), h 2 (by omega), h 3 (by omega), h 4 (by omega)]
  by_cases j2 : j = 2
  · subst j2; rw [upd_eq, upd_eq]
  · by_cases j3 : j = 3
    · subst j3; rw [upN j2, upN j2, upd_eq, upd_eq]
    · rw [upN j2, upN j2, upN j3, upN j3, h j hj]
theorem wind_congr {calm : Int32} {X X' : Nat → Int32} (h : Eq4 X X') : Eq4 (windF calm X) (windF calm X') := by
  intro j hj
  unfold windF blF
  rw [h 6 (by omega), h 8 (by omega), h 9 (by omega)]
  by_cases hc : ¬ calm = 0
  · rw [if_pos hc, if_pos hc, h j hj]
  · rw [if_neg hc, if_neg hc]
    by_cases hd : ¬ remF (X 8 + 1) 40 = 0
    · rw [if_pos hd, if_pos hd]
      by_cases j6 : j = 6
      · subst j6; rw [upd_eq, upd_eq]
      · rw [upN j6, upN j6, h j hj]
    · rw [if_neg hd, if_neg hd]
      by_cases j9 : j = 9
      · subst j9; rw [upd_eq, upd_eq]
      · by_cases j6 : j = 6
        · subst j6; rw [upN j9, upN j9, upd_eq, upd_eq]
        · rw [upN j9, upN j9, upN j6, upN j6, h j hj]
theorem ten_congr {tx : Nat → Int32} {t4 calm c : Int32} {X X' : Nat → Int32} (h : Eq4 X X') : Eq4 (tenF tx t4 calm X c) (tenF tx t4 calm X' c) := by
  intro j hj
  rw [ten_eq, ten_eq, h 8 (by omega)]
  have w := wind_congr (calm := calm) (sw_congr (tx := tx) (t4 := t4) (t := (X 8).toInt.toNat) (mv_congr (tx := tx) (t4 := t4) (c := c) (t := (X 8).toInt.toNat) h))
  rw [w 8 (by omega)]
  by_cases j8 : j = 8
  · subst j8; rw [upd_eq, upd_eq]
  · rw [upN j8, upN j8, w j hj]
theorem cmH_congr {tx : Nat → Int32} {h : Option Int32} {X X' : Nat → Int32} (e : Eq4 X X') : cmH tx h X' = cmH tx h X := by
  cases h with
  | none => rfl
  | some t => exact handF_congr e
theorem it_congr {tx : Nat → Int32} {t4 calm : Int32} {h : Option Int32} {X X' : Nat → Int32} (e : Eq4 X X') : ∀ k, Eq4 (itH tx t4 calm h X k) (itH tx t4 calm h X' k) := by
  intro k
  induction k with
  | zero => exact e
  | succ k ih =>
    have e1 : itH tx t4 calm h X (k + 1) = tenF tx t4 calm (itH tx t4 calm h X k) (cmH tx h (itH tx t4 calm h X k)) := rfl
    have e2 : itH tx t4 calm h X' (k + 1) = tenF tx t4 calm (itH tx t4 calm h X' k) (cmH tx h (itH tx t4 calm h X' k)) := rfl
    rw [e1, e2, cmH_congr ih]
    exact ten_congr ih
theorem gr_congr {Xs Xs' : Nat → Nat → Int32} {fr : Nat} (e : ∀ k, Eq4 (Xs k) (Xs' k)) : ∀ k, grF Xs' fr k = grF Xs fr k := by
  intro k
  induction k with
  | zero => rfl
  | succ k ih =>
    unfold grF awF
    rw [ih, e (k + 1) 0 (by omega), e (k + 1) 2 (by omega)]
theorem st_congr {Xs Xs' : Nat → Nat → Int32} {near : Int32} (e : ∀ k, Eq4 (Xs k) (Xs' k)) : ∀ k, stF near Xs' k = stF near Xs k := by
  intro k
  induction k with
  | zero => rfl
  | succ k ih =>
    unfold stF
    rw [ih, hsF_4 (e (k + 1))]
theorem tri_4 (μ : Mu) : Eq4 (μ 403) (tri μ) := fun _ hj => cpy413 hj
/-- the sequence of rows to come, of a State -/
abbrev sqH (μ : Mu) (calm : Int32) (h : Option Int32) : Nat → Nat → Int32 := itH (μ 540) (μ 402 3) calm h (μ 403)
theorem sqH_CQ {μ μ1 : Mu} {calm : Int32} {h : Option Int32} (hc : CQ μ μ1) : sqH μ1 calm h = sqH μ calm h := by
  unfold sqH
  rw [hc.1 540 (by omega), hc.1 402 (by omega), hc.1 403 (by omega)]
/-- gone through tenths to come -/
theorem goes_Q {μ : Mu} {z : Zt} {h : Option Int32} {hl : Option Nat} {t fr n : Nat} {l1 l3 : Int32} (hT : Tc μ z) (hh : hndOf μ z h hl) (h0 : Gc t (μ 403)) (h9 : t + n < 900000) (hn : n < 1000) (h1 : l1.toInt = (n : Int)) (h3 : l3.toInt = (fr : Int)) :
    ∃ μ1, mX0_goes 400 l1 hl l3 (E μ z) = some ((), E μ1 z) ∧ CQ μ μ1 ∧ μ1 400 9 = grF (sqH μ (μ 400 7) h) fr n ∧ μ1 400 10 = stF (μ 402 1) (sqH μ (μ 400 7) h) n ∧ Eq4 (sqH μ (μ 400 7) h n) (μ1 519) := by
  have hg : Gc t (tri μ) := by
    obtain ⟨⟨r0, r1, r2, r3, r4, r5, r6, r7, r9⟩, g2, g3⟩ := h0
    have e := tri_4 μ
    refine ⟨⟨by rw [e 0 (by omega)]; exact r0, by rw [e 1 (by omega)]; exact r1, by rw [e 2 (by omega)]; exact r2, by rw [e 3 (by omega)]; exact r3, by rw [e 4 (by omega)]; exact r4, by rw [e 5 (by omega)]; exact r5, by rw [e 6 (by omega)]; exact r6, by rw [e 7 (by omega)]; exact r7, by rw [e 9 (by omega)]; exact r9⟩, fun q j q1 q2 q3 hj => ?_, by rw [e 8 (by omega)]; exact g3⟩
    have := sixty (t - q)
    rw [e _ (by omega)]
    exact g2 q j q1 q2 q3 hj
  obtain ⟨C', N', e, q1, q2, q3⟩ := goes_E (z := z) (h := h) (hl := hl) hT hh hg h9 hn h1 h3
  have ec := it_congr (tx := μ 540) (t4 := μ 402 3) (calm := μ 400 7) (h := h) (tri_4 μ)
  rw [gr_congr ec] at q2
  rw [st_congr ec] at q3
  refine ⟨_, e, CQ_C ⟨by omega, by omega⟩ (fun j hj => q1 j (by omega) (by omega)) (CQ.refl μ), q2, q3, ?_⟩
  rw [fC_l okl_519]
  exact ec n
/-- the model's first tenth to come is ahead: what holds behind 'begin' -/
theorem Ml_0 {μ : Mu} {t4 calm : Int32} {A X : Nat → Int32} {t : Nat} (hg : Go t X A) (h4 : A 4 = t4) (h2 : A 2 = X 9) : Ml t 0 μ t4 A X A calm := ⟨hg, fun _ _ _ _ => rfl, h4, fun _ => h2⟩
