/-! ===== two worlds: the component's State in one, the model's row in the other ===== -/
abbrev PSw (μ : Mu) (X A : Nat → Int32) : Prop := PS (μ 402) X (fam μ 405 8) (fam μ 414 8) (fam μ 423 4) (fam μ 428 30) A
def Both (μ : Mu) (z : Zt) (μm : Mu) (zm : Zt) : Prop := PSw μ (μ 403) (μm 538) ∧ Tc μ z ∧ TX TT μm zm ∧ μm 540 = μ 540 ∧ μm 402 2 = μ 402 2 ∧ μ 400 7 = 0 ∧ μm 537 25 = 0 ∧ 554 ≤ z.2.2.2.1
/-- what a call of the component leaves -/
def CFr (c s : Nat) (μ : Mu) (z : Zt) (μ' : Mu) (z' : Zt) : Prop := (∀ k, 459 ≤ k → (k ≤ 517 ∨ 537 ≤ k) → μ' k = μ k) ∧ (μ' 400 3 = μ 400 3 ∧ μ' 400 4 = μ 400 4 ∧ μ' 400 5 = μ 400 5 ∧ μ' 400 7 = μ 400 7) ∧ (∀ j, (j = 1 ∨ j = 2 ∨ j = 3 ∨ j = 5 ∨ j = 6) → μ' 402 j = μ 402 j) ∧ (∀ k, 414 ≤ k → k ≤ 426 → μ' k = μ k) ∧
  z'.2.1 = z.2.1 ∧ (∀ k, k < z.2.2.2.1 → z'.2.2.1 k = z.2.2.1 k) ∧ (z.2.2.2.1 ≤ z'.2.2.2.1 ∧ z'.2.2.2.1 ≤ z.2.2.2.1 + c) ∧ (z.2.2.2.2 ≤ z'.2.2.2.2 ∧ z'.2.2.2.2 ≤ z.2.2.2.2 + s)
/-- what a call of the model leaves -/
def MFr (μm : Mu) (zm : Zt) (μm' : Mu) (zm' : Zt) : Prop := (∀ k, (k ≤ 536 ∨ k = 539 ∨ k = 540 ∨ k = 541) → μm' k = μm k) ∧ (∀ j, (j = 4 ∨ j = 5 ∨ j = 6 ∨ j = 25) → μm' 537 j = μm 537 j) ∧ zm'.2 = zm.2
theorem CFr.trans {c s c' s' : Nat} {μ μ1 μ2 : Mu} {z z1 z2 : Zt} (h1 : CFr c s μ z μ1 z1) (h2 : CFr c' s' μ1 z1 μ2 z2) : CFr (c + c') (s + s') μ z μ2 z2 := by
  obtain ⟨a1, ⟨a2, a3, a4, a5⟩, a6, a7, a8, a9, a10, a11⟩ := h1
  obtain ⟨b1, ⟨b2, b3, b4, b5⟩, b6, b7, b8, b9, b10, b11⟩ := h2
  exact ⟨fun k k1 k2 => (b1 k k1 k2).trans (a1 k k1 k2), ⟨b2.trans a2, b3.trans a3, b4.trans a4, b5.trans a5⟩, fun j hj => (b6 j hj).trans (a6 j hj), fun k k1 k2 => (b7 k k1 k2).trans (a7 k k1 k2), b8.trans a8, fun k hk => (b9 k (by omega)).trans (a9 k hk), by omega, by omega⟩
theorem CFr.refl (μ : Mu) (z : Zt) : CFr 0 0 μ z μ z := ⟨fun _ _ _ => rfl, ⟨rfl, rfl, rfl, rfl⟩, fun _ _ => rfl, fun _ _ _ => rfl, rfl, fun _ _ => rfl, by omega, by omega⟩
theorem CFr.more {c s c' s' : Nat} {μ μ1 : Mu} {z z1 : Zt} (h : CFr c s μ z μ1 z1) (hc : c ≤ c') (hs : s ≤ s') : CFr c' s' μ z μ1 z1 := by
  obtain ⟨a1, a2, a6, a7, a8, a9, a10, a11⟩ := h
  exact ⟨a1, a2, a6, a7, a8, a9, by omega, by omega⟩
theorem MFr.trans {μ μ1 μ2 : Mu} {z z1 z2 : Zt} (h1 : MFr μ z μ1 z1) (h2 : MFr μ1 z1 μ2 z2) : MFr μ z μ2 z2 :=
  ⟨fun k hk => (h2.1 k hk).trans (h1.1 k hk), fun j hj => (h2.2.1 j hj).trans (h1.2.1 j hj), h2.2.2.trans h1.2.2⟩
theorem MFr.refl (μ : Mu) (z : Zt) : MFr μ z μ z := ⟨fun _ _ => rfl, fun _ _ => rfl, rfl⟩
theorem TX_ext {μ μ' : Mu} {z z' : Zt} (h40 : μ' 540 = μ 540) (h2 : μ' 402 2 = μ 402 2) (h460 : μ' 460 2 = μ 460 2) (hr : z'.2.1 = z.2.1) (hd : ∀ k, k < z.2.2.2.1 → z'.2.2.1 k = z.2.2.1 k) (hn : z.2.2.2.1 ≤ z'.2.2.2.1) (h : TX TT μ z) : TX TT μ' z' := by
  obtain ⟨x1, x2, x3, x4, x5, x6, x7⟩ := h
  have ok : ∀ k, okT z k → okT z' k := fun k hk i y hi hy => by
    rw [hr] at hy
    obtain ⟨g1, g2, fs, g3⟩ := hk i y hi hy
    exact ⟨g1, by omega, fs, by rw [hd y g2]; exact g3⟩
  refine ⟨ok _ x1, ok _ x2, by rw [h460]; exact x3, by rw [h2]; exact x4, by rw [h460, h2]; exact x5, fun t ht => ?_, fun t ht => ?_⟩
  · rw [h2] at ht
    obtain ⟨y, y1, y2⟩ := x6 t ht
    exact ⟨y, by rw [hr]; exact y1, by rw [h40]; exact y2.ext hn hd⟩
  · rw [h460] at ht
    rw [hr]
    exact x7 t ht
theorem Tc_CFr {c s : Nat} {μ μ' : Mu} {z z' : Zt} (h : CFr c s μ z μ' z') (hz : 554 ≤ z.2.2.2.1) (hT : Tc μ z) : Tc μ' z' := by
  obtain ⟨a1, a2, a6, a7, a8, a9, a10, a11⟩ := h
  obtain ⟨⟨L, xs, t1⟩, t2, t3⟩ := hT
  refine ⟨⟨L, xs, fun k hk => (a9 k (by omega)).trans (t1 k hk)⟩, TX_ext (a1 540 (by omega) (by omega)) (a6 2 (by omega)) (by rw [a1 460 (by omega) (by omega)]) a8 a9 a10.1 t2, ?_⟩
  rw [a6 3 (by omega), a6 2 (by omega)]
  exact t3
theorem TX_MFr {μ μ' : Mu} {z z' : Zt} (h : MFr μ z μ' z') (hT : TX TT μ z) : TX TT μ' z' := by
  obtain ⟨b1, b2, b3⟩ := h
  refine TX_ext (b1 540 (by omega)) (by rw [b1 402 (by omega)]) (by rw [b1 460 (by omega)]) (by rw [b3]) (fun k _ => by rw [b3]) (by rw [b3]; exact Nat.le_refl _) hT
/-- of two calls, one of each side: they answer alike, and what holds goes on to hold -/
def Op (ρ : Type) (c s : Nat) (f g : Wd → Option (ρ × Wd)) : Prop := ∀ (μ : Mu) (z : Zt), (∃ μm zm, Both μ z μm zm) → ∃ (r : ρ) (μ' : Mu) (z' : Zt), f (E μ z) = some (r, E μ' z') ∧ CFr c s μ z μ' z' ∧
  ∀ (μm : Mu) (zm : Zt), Both μ z μm zm → ∃ (μm' : Mu) (zm' : Zt), g (E μm zm) = some (r, E μm' zm') ∧ Both μ' z' μm' zm' ∧ MFr μm zm μm' zm'
theorem Inv_Both {L : Nat} {xs : Nat → Int32} {n : Nat} {μ : Mu} {z : Zt} (h : Inv (TX TT) L xs n μ z) : Both μ z μ z := by
  obtain ⟨h1, h2, h3, h4, h5⟩ := h
  exact ⟨h1, ⟨⟨L, xs, h4.1⟩, h5, h1.1.2.2.2.2.1⟩, h5, rfl, rfl, h3.2.2.2.2.2.1, h3.2.2.2.2.2.2, h4.2.1⟩
theorem RelT_fr {c s : Nat} {μ μ' μ2 : Mu} {z z' z2 : Zt} (hc : CFr c s μ z μ' z') (hm : MFr μ' z' μ2 z2) (h : RelT μ) : RelT μ2 := by
  obtain ⟨a1, ⟨a2, a3, a4, a5⟩, a6, a7, a8, a9, a10, a11⟩ := hc
  obtain ⟨b1, b2, b3⟩ := hm
  have e5 : ∀ j, (j = 4 ∨ j = 5 ∨ j = 6 ∨ j = 25) → μ2 537 j = μ 537 j := fun j hj => by rw [b2 j hj, a1 537 (by omega) (by omega)]
  have e4 : μ2 400 = μ' 400 := b1 400 (by omega)
  obtain ⟨t1, t2, t3, t4, t5, t6, t7⟩ := h
  unfold RelT
  rw [e4, a2, a3, a4, a5, e5 4 (by omega), e5 5 (by omega), e5 6 (by omega), e5 25 (by omega), b1 541 (by omega), a1 541 (by omega) (by omega), b1 517 (by omega), a1 517 (by omega) (by omega)]
  exact ⟨t1, t2, t3, t4, t5, t6, t7⟩
theorem Agr_op {ρ : Type} {c s : Nat} {L : Nat} {xs : Nat → Int32} {n : Nat} {μ : Mu} {z : Zt} {f g : Wd → Option (ρ × Wd)} (hcs : c ≤ 18000 ∧ s ≤ 85000) (hI : Inv (TX TT) L xs n μ z) (hop : Op ρ c s f g) : Agr ρ (Inv (TX TT) L xs) n μ z f g := by
  have hB := Inv_Both hI
  obtain ⟨r, μ1, z1, e1, hc, hm⟩ := hop μ z ⟨μ, z, hB⟩
  have hc' := hc
  obtain ⟨a1, ⟨a2, a3, a4, a5⟩, a6, a7, a8, a9, a10, a11⟩ := hc'
  have hTc := Tc_CFr hc hB.2.2.2.2.2.2.2 hB.2.1
  have hB1 : Both μ z μ1 z1 := ⟨by rw [a1 538 (by omega) (by omega)]; exact hB.1, hB.2.1, hTc.2.1, a1 540 (by omega) (by omega), a6 2 (by omega), hB.2.2.2.2.2.1, by rw [a1 537 (by omega) (by omega)]; exact hB.2.2.2.2.2.2.1, hB.2.2.2.2.2.2.2⟩
  obtain ⟨μ2, z2, e2, hB2, hmf⟩ := hm μ1 z1 hB1
  have hmf' := hmf
  obtain ⟨b1, b2, b3⟩ := hmf'
  obtain ⟨h1, h2, h3, h4, h5⟩ := hI
  refine ⟨r, μ1, z1, μ2, z2, e1, e2, ⟨a10.1, a11.1⟩, ⟨by rw [b3]; exact Nat.le_refl _, by rw [b3]; exact Nat.le_refl _⟩, a9 0 (by have := h4.2.1; omega), ?_, ?_, RelT_fr hc hmf h3, ?_, TX_MFr hmf hTc.2.1⟩
  · have hps := hB2.1
    unfold RelS
    rw [show (401 + 1 : Nat) = 402 from rfl, show (401 + 2 : Nat) = 403 from rfl, show (401 + 4 : Nat) = 405 from rfl, show (401 + 13 : Nat) = 414 from rfl, show (401 + 22 : Nat) = 423 from rfl, show (401 + 27 : Nat) = 428 from rfl, b1 402 (by omega), b1 403 (by omega), fam_congr (μ := μ1) (fun k hk => b1 _ (by omega)), fam_congr (μ := μ1) (b := 414) (fun k hk => b1 _ (by omega)), fam_congr (μ := μ1) (b := 423) (fun k hk => b1 _ (by omega)), fam_congr (μ := μ1) (b := 428) (fun k hk => b1 _ (by omega))]
    exact hps
  · exact RelS_congr (fun k k1 k2 => (b1 k (by omega)).trans (a1 k (by omega) (by omega))) ((b1 539 (by omega)).trans (a1 539 (by omega) (by omega))) h2
  · obtain ⟨z0, z5, z6, z7⟩ := h4
    refine ⟨fun k hk => ?_, ?_, ?_, ?_⟩
    · rw [b3]
      exact (a9 k (by omega)).trans (z0 k hk)
    · rw [b3]; omega
    · rw [b3]; have := a10.2; omega
    · rw [b3]; have := a11.2; omega
/-! ===== a step kept ===== -/
theorem orA_eq {A A' : Nat → Int32} (n : Nat) (h : ∀ o, o < n → A' (25 + 6 * o) = A (25 + 6 * o)) : orA A' n = orA A n := by
  induction n with
  | zero => rfl
  | succ n ih =>
    show orA A' n ||| _ = orA A n ||| _
    rw [ih (fun o ho => h o (by omega)), h n (by omega)]
theorem orA_orB {A : Nat → Int32} {v : Int32} (n : Nat) (h : ∀ o, o < n → A (25 + 6 * o) = bitAt v o) : orA A n = orB v n := by
  induction n with
  | zero => rfl
  | succ n ih =>
    show orA A n ||| _ = orB v n ||| _
    rw [ih (fun o ho => h o (by omega)), h n (by omega)]
theorem kpM_at {x n0 : Nat} {A : Nat → Int32} (hx : 84 ≤ x) (h8 : n0 ≤ 8) : kpM x n0 A 5 = A 5 + 1 ∧ (∀ j, j < 10 → kpM x n0 A (x + j) = A (8 + j)) ∧ kpM x n0 A (x + 10) = A 2 ∧ kpM x n0 A (x + 11) = A 7 ∧ kpM x n0 A (x + 12) = orA A n0 ∧ ∀ i, i ≠ 5 → (i < x ∨ x + 13 ≤ i) → kpM x n0 A i = A i := by
  have c : ∀ i, (i < x ∨ x + 10 ≤ i) → cpB x 10 A i = A i := fun i hi => by
    unfold cpB
    rw [if_neg (by omega)]
  have ci : ∀ j, j < 10 → cpB x 10 A (x + j) = A (8 + j) := fun j hj => by
    unfold cpB
    rw [if_pos (by omega)]
    congr 1
    omega
  unfold kpM
  refine ⟨?_, fun j hj => ?_, ?_, ?_, ?_, fun i i5 hi => ?_⟩
  · rw [upd_eq, upN (by omega), upN (by omega), c 5 (by omega)]
  · rw [upN (by omega), upN (by omega), upN (by omega), upN (by omega), ci j hj]
  · rw [upN (by omega), upN (by omega), upN (by omega), upd_eq, c 2 (by omega)]
  · rw [upN (by omega), upN (by omega), upd_eq, upN (by omega), c 7 (by omega)]
  · rw [upN (by omega), upd_eq]
    exact orA_eq n0 (fun o ho => by rw [upN (by omega), upN (by omega), c _ (by omega)])
  · rw [upN i5, upN (by omega), upN (by omega), upN (by omega), c i (by omega)]
theorem keep_PS {μ μ' : Mu} {A : Nat → Int32} {k n0 : Nat} (hK : Kp μ μ' k) (hk : (μ 402 4).toInt = (k : Int)) (hn0 : (μ 402 0).toInt = (n0 : Int)) (h : PSw μ (μ 403) A) : PSw μ' (μ' 403) (keM k n0 A) ∧ Sl 40 (μ' 402) (μ' 403) (fam μ' 428 30) := by
  have h' := h
  obtain ⟨⟨⟨p0, p1, p3, p4, p5, p6, p18⟩, b0, b1, b2, b3, b4, b5, b6⟩, -, -, -, ⟨f1, f2, f3, f4, f5, f6, f7⟩, ⟨rb, -, rz, -⟩, -⟩ := h'
  have hk30 : k ≤ 30 := by have := b4.2; omega
  have hn8 : n0 ≤ 8 := by have := b0.2; omega
  obtain ⟨k1, k2, k3, k4⟩ := hK
  have e403 : μ' 403 = μ 403 := k1 403 (by omega) (by omega)
  have eo : fam μ' 405 8 = fam μ 405 8 := fam_congr (fun q hq => k1 _ (by omega) (by omega))
  have es : fam μ' 414 8 = fam μ 414 8 := fam_congr (fun q hq => k1 _ (by omega) (by omega))
  have eb : fam μ' 423 4 = fam μ 423 4 := fam_congr (fun q hq => k1 _ (by omega) (by omega))
  have hbits : orA A n0 = μ 403 11 := by
    rw [orA_orB n0 (fun o ho => f6 o (by omega))]
    exact orB_all rb.2.2.2.2.2.2.2.2.2.2.2.1 hn8 (fun o o1 o2 => rz o o1 (by omega))
  unfold PSw
  rw [e403, eo, es, eb]
  by_cases h30 : k < 30
  · obtain ⟨g1, g2, g3⟩ := k3 h30
    have hke : keM k n0 A = kpM (84 + 13 * k) n0 A := if_pos h30
    obtain ⟨m1, m2, m3, m4, m5, m6⟩ := kpM_at (x := 84 + 13 * k) (n0 := n0) (A := A) (by omega) hn8
    rw [hke]
    have hA5 : kpM (84 + 13 * k) n0 A 5 = μ' 402 4 := by
      rw [m1, p5]
      exact I32_eq (by rw [inc_I hk (by omega), g1])
    obtain ⟨q1, q2⟩ := PS_keep1 (n' := μ' 402) (A' := kpM (84 + 13 * k) n0 A) (step' := fun q => if q = k then μ 403 else fam μ 428 30 q) hk h30 k2 g1 hA5 (fun q hq => if_neg hq) (if_pos rfl) m2 (by rw [show 94 + 13 * k = 84 + 13 * k + 10 by omega]; exact m3) (by rw [show 95 + 13 * k = 84 + 13 * k + 11 by omega]; exact m4) (by rw [show 96 + 13 * k = 84 + 13 * k + 12 by omega, m5]; exact hbits) (fun i i5 hi => m6 i i5 (by omega)) h
    have ext : ∀ o j, o < 30 → j < 413 → fam μ' 428 30 o j = (if o = k then μ 403 else fam μ 428 30 o) j := fun o j ho hj => by
      rw [fam_at ho]
      by_cases hok : o = k
      · subst hok
        rw [if_pos rfl]
        exact g3 j hj
      · rw [if_neg hok, fam_at ho]
        exact g2 o ho hok j hj
    refine ⟨PS_ext (fun _ _ => rfl) (fun _ _ => rfl) (fun _ _ _ _ => rfl) (fun _ _ _ _ => rfl) (fun _ _ _ _ => rfl) ext (fun _ _ => rfl) q1, fun q hq => ?_⟩
    have := q2 q hq
    rw [ext q 8 (by have := g1; omega) (by omega)]
    exact this
  · have hk3 : k = 30 := by omega
    subst hk3
    obtain ⟨g1, g2, g3⟩ := k4 rfl
    have hke : keM 30 n0 A = kpM 461 n0 (upd (shB 377 A) 5 (A 5 - 1)) := if_neg (by omega)
    obtain ⟨m1, m2, m3, m4, m5, m6⟩ := kpM_at (x := 461) (n0 := n0) (A := upd (shB 377 A) 5 (A 5 - 1)) (by omega) hn8
    have so : ∀ i, i ≠ 5 → (i < 84 ∨ 461 ≤ i) → upd (shB 377 A) 5 (A 5 - 1) i = A i := fun i i5 hi => by
      rw [upN i5]
      unfold shB
      rw [if_neg (by omega)]
    rw [hke]
    have hA5 : kpM 461 n0 (upd (shB 377 A) 5 (A 5 - 1)) 5 = μ' 402 4 := by
      rw [m1, upd_eq, p5]
      refine I32_eq ?_
      rw [inc_I (n := 29) (subN (x := 30) (y := 1) hk rfl (by omega) (by omega)) (by omega), g1]
      rfl
    obtain ⟨q1, q2⟩ := PS_keep2 (n' := μ' 402) (A' := kpM 461 n0 (upd (shB 377 A) 5 (A 5 - 1))) (step' := fun q => if q = 29 then μ 403 else fam μ 428 30 (q + 1)) hk k2 g1 hA5 (fun q hq => if_neg (by omega)) (if_pos rfl)
      (fun j hj => by
        rw [m6 (84 + j) (by omega) (by omega), upN (by omega)]
        unfold shB
        rw [if_pos (by omega)]
        congr 1
        omega)
      (fun j hj => by rw [m2 j hj, so _ (by omega) (by omega)]) (by rw [show (471 : Nat) = 461 + 10 from rfl, m3, so _ (by omega) (by omega)]) (by rw [show (472 : Nat) = 461 + 11 from rfl, m4, so _ (by omega) (by omega)])
      (by rw [show (473 : Nat) = 461 + 12 from rfl, m5, orA_eq n0 (fun o ho => so _ (by omega) (by omega))]; exact hbits)
      (fun i i5 hi => by rw [m6 i i5 (by omega), so i i5 (by omega)]) h
    have ext : ∀ o j, o < 30 → j < 413 → fam μ' 428 30 o j = (if o = 29 then μ 403 else fam μ 428 30 (o + 1)) j := fun o j ho hj => by
      rw [fam_at ho]
      by_cases hok : o = 29
      · subst hok
        rw [if_pos rfl]
        exact g3 j hj
      · rw [if_neg hok, fam_at (by omega), show 428 + (o + 1) = 429 + o by omega]
        exact g2 o (by omega) j hj
    refine ⟨PS_ext (fun _ _ => rfl) (fun _ _ => rfl) (fun _ _ _ _ => rfl) (fun _ _ _ _ => rfl) (fun _ _ _ _ => rfl) ext (fun _ _ => rfl) q1, fun q hq => ?_⟩
    have := q2 q hq
    rw [ext q 8 (by have := g1; omega) (by omega)]
    exact this
