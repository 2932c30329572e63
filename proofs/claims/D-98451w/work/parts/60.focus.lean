/-! ===== the component at work on a row: 400's numbers C, the names N, the row X at l ===== -/
theorem addN {a b : Int32} {x y : Nat} (ha : a.toInt = (x : Int)) (hb : b.toInt = (y : Int)) (h : x + y < 1000000000) : (a + b).toInt = ((x + y : Nat) : Int) := by
  rw [I32_small ha hb (by omega)]; omega
theorem mulN {a b : Int32} {x y : Nat} (ha : a.toInt = (x : Int)) (hb : b.toInt = (y : Int)) (h : x * y < 1000000000) : (a * b).toInt = ((x * y : Nat) : Int) := by
  have e : ((x * y : Nat) : Int) = (x : Int) * (y : Int) := Int.natCast_mul x y
  rw [I32_mul ha hb (by rw [← e]; omega), e]
theorem subN {a b : Int32} {x y : Nat} (ha : a.toInt = (x : Int)) (hb : b.toInt = (y : Int)) (h : y ≤ x) (hx : x < 1000000000) : (a - b).toInt = ((x - y : Nat) : Int) := by
  rw [I32_sub ha hb (by omega)]; omega
theorem divN {x m : Int32} {a b : Nat} (hx : x.toInt = (a : Int)) (hm : m.toInt = (b : Int)) (ha : a < 1000000000) : (x / m).toInt = ((a / b : Nat) : Int) := by
  have h1 := Nat.div_le_self a b
  rw [Int32.toInt_div, hx, hm, ← Int.ofNat_tdiv]
  generalize a / b = q at h1
  rw [Int.bmod_eq_of_le (by omega) (by omega)]
theorem irmN {x m : Int32} {a b : Nat} (hx : x.toInt = (a : Int)) (hm : m.toInt = (b : Int)) (ha : a < 1000000000) (hb : 0 < b) : ∃ r, irm x m = some r ∧ r.toInt = ((a % b : Nat) : Int) := by
  refine ⟨x - x / m * m, ?_, ?_⟩
  · unfold irm
    rw [if_neg]
    intro q
    rw [q] at hm
    have : (0 : Int32).toInt = 0 := rfl
    omega
  · have hle := Nat.div_mul_le_self a b
    have h1 := mulN (divN hx hm ha) hm (by omega)
    rw [subN hx h1 hle ha]
    have := Nat.mod_eq_sub_mul_div (x := a) (k := b)
    rw [this, Nat.mul_comm]
theorem upN {f : Nat → Int32} {k : Nat} {v : Int32} {j : Nat} (h : j ≠ k) : upd f k v j = f j := if_neg h
def okl (l : Nat) : Prop := isI l 413 ∧ l < 554 ∧ l ≠ 400 ∧ l ≠ 518 ∧ (l = 403 ∨ 519 ≤ l)
theorem okl_403 : okl 403 := ⟨isI_403, by omega, by omega, by omega, by omega⟩
theorem okl_519 : okl 519 := ⟨isI_519, by omega, by omega, by omega, by omega⟩
theorem okl_530 : okl 530 := ⟨isI_530, by omega, by omega, by omega, by omega⟩
theorem okl_521 (i : Nat) (h : i < 8) : okl (521 + i) := ⟨isI_521 i h, by omega, by omega, by omega, by omega⟩
def fC (μ : Mu) (l : Nat) (C N X : Nat → Int32) : Mu := fun k => if k = 400 then C else if k = 518 then N else if k = l then X else μ k
abbrev WC (μ : Mu) (z : Zt) (l : Nat) (C N X : Nat → Int32) : Wd := E (fC μ l C N X) z
theorem fC_l {μ : Mu} {l : Nat} {C N X : Nat → Int32} (h : okl l) : fC μ l C N X l = X := by
  unfold fC
  rw [if_neg h.2.2.1, if_neg h.2.2.2.1, if_pos rfl]
theorem fC_o {μ : Mu} {l k : Nat} {C N X : Nat → Int32} (h1 : k ≠ 400) (h2 : k ≠ 518) (h3 : k ≠ l) : fC μ l C N X k = μ k := by
  unfold fC
  rw [if_neg h1, if_neg h2, if_neg h3]
theorem fC_0 (μ : Mu) (l : Nat) : fC μ l (μ 400) (μ 518) (μ l) = μ := by
  funext k
  unfold fC
  by_cases h1 : k = 400
  · rw [if_pos h1, h1]
  · rw [if_neg h1]
    by_cases h2 : k = 518
    · rw [if_pos h2, h2]
    · rw [if_neg h2]
      by_cases h3 : k = l
      · rw [if_pos h3, h3]
      · rw [if_neg h3]
theorem fC_sX {μ : Mu} {l : Nat} {C N X Y : Nat → Int32} (h : okl l) : setM (fC μ l C N X) l Y = fC μ l C N Y := by
  funext k
  unfold setM fC
  by_cases h3 : k = l
  · rw [if_pos h3, if_neg (by rw [h3]; exact h.2.2.1), if_neg (by rw [h3]; exact h.2.2.2.1), if_pos h3]
  · rw [if_neg h3, if_neg h3, if_neg h3]
theorem fC_sN {μ : Mu} {l : Nat} {C N X Y : Nat → Int32} : setM (fC μ l C N X) 518 Y = fC μ l C Y X := by
  funext k
  unfold setM fC
  by_cases h3 : k = 518
  · rw [if_pos h3, if_neg (by omega), if_pos h3]
  · rw [if_neg h3, if_neg h3, if_neg h3]
theorem fC_sC {μ : Mu} {l : Nat} {C N X Y : Nat → Int32} : setM (fC μ l C N X) 400 Y = fC μ l Y N X := by
  funext k
  unfold setM fC
  by_cases h3 : k = 400
  · rw [if_pos h3, if_pos h3]
  · rw [if_neg h3, if_neg h3, if_neg h3]
section WC60
variable {μ : Mu} {z : Zt} {l : Nat} {C N X : Nat → Int32}
theorem iaX {n : Nat} {i : Int32} (h : okl l) (hi : i.toInt = (n : Int)) (hn : n < 413) : ia (WC μ z l C N X) (some l) i = some (X n) := by
  rw [ia_E h.1 hi hn h.2.1, fC_l h]
theorem iasX {n : Nat} {i v : Int32} (h : okl l) (hi : i.toInt = (n : Int)) (hn : n < 413) : ias (WC μ z l C N X) (some l) i v = some (WC μ z l C N (upd X n v)) := by
  rw [ias_E h.1 hi hn h.2.1]
  unfold up
  rw [fC_l h, fC_sX h]
theorem iaN {n : Nat} {i : Int32} (hi : i.toInt = (n : Int)) (hn : n < 53) : ia (WC μ z l C N X) (some 518) i = some (N n) := ia_E isI_518 hi hn
theorem iasN {n : Nat} {i v : Int32} (hi : i.toInt = (n : Int)) (hn : n < 53) : ias (WC μ z l C N X) (some 518) i v = some (WC μ z l C (upd N n v) X) := by
  rw [ias_E isI_518 hi hn]
  unfold up
  rw [fC_sN]
  rfl
theorem acpXN {p p' n : Nat} {i i' c : Int32} (h : okl l) (hi : i.toInt = (p : Int)) (hi' : i'.toInt = (p' : Int)) (hc : c.toInt = (n : Int)) (h1 : p + n ≤ 413) (h2 : p' + n ≤ 53) : acpI (WC μ z l C N X) (some l) i (some 518) i' c = some (WC μ z l C (va_cpy X N p p' n) X) := by
  rw [acpI_E h.1 isI_518 hi hi' hc h1 h2 h.2.1 (by omega), fC_l h, fC_sN]
  rfl
theorem acpNX {p p' n : Nat} {i i' c : Int32} (h : okl l) (hi : i.toInt = (p : Int)) (hi' : i'.toInt = (p' : Int)) (hc : c.toInt = (n : Int)) (h1 : p + n ≤ 53) (h2 : p' + n ≤ 413) : acpI (WC μ z l C N X) (some 518) i (some l) i' c = some (WC μ z l C N (va_cpy N X p p' n)) := by
  rw [acpI_E isI_518 h.1 hi hi' hc h1 h2 (by omega) h.2.1, fC_l h, fC_sX h]
  rfl

theorem gIC_3 : gI (WC μ z l C N X) (some 400) 0 3 = some (C 3) := gI_400_3 554 (by omega) _ _
theorem pfC_3 {v : Int32} : pf (WC μ z l C N X) (some 400) 0 3 (.int v) = some (WC μ z l (upd C 3 v) N X) := by
  rw [pf_E isF_400_3]
  unfold up
  rw [fC_sC]
  rfl

theorem gIC_4 : gI (WC μ z l C N X) (some 400) 0 4 = some (C 4) := gI_400_4 554 (by omega) _ _
theorem pfC_4 {v : Int32} : pf (WC μ z l C N X) (some 400) 0 4 (.int v) = some (WC μ z l (upd C 4 v) N X) := by
  rw [pf_E isF_400_4]
  unfold up
  rw [fC_sC]
  rfl

theorem gIC_5 : gI (WC μ z l C N X) (some 400) 0 5 = some (C 5) := gI_400_5 554 (by omega) _ _
theorem pfC_5 {v : Int32} : pf (WC μ z l C N X) (some 400) 0 5 (.int v) = some (WC μ z l (upd C 5 v) N X) := by
  rw [pf_E isF_400_5]
  unfold up
  rw [fC_sC]
  rfl

theorem gIC_7 : gI (WC μ z l C N X) (some 400) 0 7 = some (C 7) := gI_400_7 554 (by omega) _ _
theorem pfC_7 {v : Int32} : pf (WC μ z l C N X) (some 400) 0 7 (.int v) = some (WC μ z l (upd C 7 v) N X) := by
  rw [pf_E isF_400_7]
  unfold up
  rw [fC_sC]
  rfl

theorem gIC_9 : gI (WC μ z l C N X) (some 400) 0 9 = some (C 9) := gI_400_9 554 (by omega) _ _
theorem pfC_9 {v : Int32} : pf (WC μ z l C N X) (some 400) 0 9 (.int v) = some (WC μ z l (upd C 9 v) N X) := by
  rw [pf_E isF_400_9]
  unfold up
  rw [fC_sC]
  rfl

theorem gIC_10 : gI (WC μ z l C N X) (some 400) 0 10 = some (C 10) := gI_400_10 554 (by omega) _ _
theorem pfC_10 {v : Int32} : pf (WC μ z l C N X) (some 400) 0 10 (.int v) = some (WC μ z l (upd C 10 v) N X) := by
  rw [pf_E isF_400_10]
  unfold up
  rw [fC_sC]
  rfl

theorem gIC_20 : gI (WC μ z l C N X) (some 400) 0 20 = some (C 20) := gI_400_20 554 (by omega) _ _
theorem pfC_20 {v : Int32} : pf (WC μ z l C N X) (some 400) 0 20 (.int v) = some (WC μ z l (upd C 20 v) N X) := by
  rw [pf_E isF_400_20]
  unfold up
  rw [fC_sC]
  rfl

theorem gIC_21 : gI (WC μ z l C N X) (some 400) 0 21 = some (C 21) := gI_400_21 554 (by omega) _ _
theorem pfC_21 {v : Int32} : pf (WC μ z l C N X) (some 400) 0 21 (.int v) = some (WC μ z l (upd C 21 v) N X) := by
  rw [pf_E isF_400_21]
  unfold up
  rw [fC_sC]
  rfl

/-- tenths ago, the first k of them laid out -/
def agP (k t f : Nat) (X N : Nat → Int32) : Nat → Int32 := fun j => if 8 ≤ j ∧ j < 8 + 5 * k then (if f + ((j - 8) / 5 + 1) ≤ t then X (53 + 6 * ((t - ((j - 8) / 5 + 1)) % 60) + (j - 8) % 5) else 0) else N j
abbrev agF (t f : Nat) (X N : Nat → Int32) : Nat → Int32 := agP 9 t f X N
theorem fillN_loop {v : Int32} {a d : Nat} (h53 : a + d ≤ 53) {hi9 : Int32} (hhi : hi9.toInt = ((a + d : Nat) : Int)) : ∀ (q c fu : Nat) (l4 : Int32) (M : Nat → Int32), d = c + q → l4.toInt = ((a + c : Nat) : Int) → q < fu → (∀ j, M j = if a ≤ j ∧ j < a + c then v else N j) →
    mJ12_fill_l10 fu (WC μ z l C M X) (some 518) hi9 v l4 = some ((), WC μ z l C (fun j => if a ≤ j ∧ j < a + d then v else N j) X) := by
  intro q
  induction q with
  | zero =>
    intro c fu l4 M hd hl hf hM
    obtain ⟨f, rfl⟩ : ∃ f, fu = f + 1 := ⟨fu - 1, by omega⟩
    show mJ12_fill_b10 _ _ _ _ _ _ = _
    unfold mJ12_fill_b10
    refine (if_pos (by rw [Int32.le_iff_toInt_le, hhi, hl]; omega)).trans ?_
    have : M = fun j => if a ≤ j ∧ j < a + d then v else N j := by
      funext j
      rw [hM, show c = d by omega]
    rw [this]
  | succ q ih =>
    intro c fu l4 M hd hl hf hM
    obtain ⟨f, rfl⟩ : ∃ f, fu = f + 1 := ⟨fu - 1, by omega⟩
    show mJ12_fill_b10 _ _ _ _ _ _ = _
    unfold mJ12_fill_b10
    refine (if_neg (by rw [Int32.le_iff_toInt_le, hhi, hl]; omega)).trans ?_
    refine bind_step (iasN (n := a + c) hl (by omega)) ?_
    refine ih (c + 1) f (l4 + 1) _ (by omega) (by rw [inc_I hl (by omega)]; omega) (by omega) (fun j => ?_)
    by_cases hj : j = a + c
    · subst hj
      rw [upd_eq, if_pos (by omega)]
    · rw [upd_ne hj, hM]
      by_cases h2 : a ≤ j ∧ j < a + c
      · rw [if_pos h2, if_pos (by omega)]
      · rw [if_neg h2, if_neg (by omega)]
theorem fillN_E {v i1 i2 : Int32} {a d : Nat} (h1 : i1.toInt = (a : Int)) (h2 : i2.toInt = ((a + d : Nat) : Int)) (h53 : a + d ≤ 53) : mJ12_fill (some 518) i1 i2 v (WC μ z l C N X) = some ((), WC μ z l C (fun j => if a ≤ j ∧ j < a + d then v else N j) X) := by
  unfold mJ12_fill
  refine bind_step (alen_E isI_518) ?_
  refine bind_step (cal_w (v := ()) ?_) ?_
  · unfold mJ12_rangeCheck
    rw [if_pos (by rw [Int32.le_iff_toInt_le, h1, h2]; omega), if_pos (by rw [Int32.le_iff_toInt_le, h1]; show (0 : Int) ≤ _; omega), if_pos (by rw [Int32.le_iff_toInt_le, h2, tI (by omega)]; omega)]
  · exact fillN_loop h53 h2 d 0 FU i1 N (by omega) (by rw [h1]; rfl) (by unfold FU; omega) (fun j => by rw [if_neg (by omega)])
theorem tenthAt_E {t : Nat} {T : Int32} {w : Wd} (ht : T.toInt = (t : Int)) (h9 : t < 1000000) : ∃ r, mX0_tenthAt T w = some (r, w) ∧ r.toInt = ((53 + 6 * (t % 60) : Nat) : Int) := by
  obtain ⟨r, h1, h2⟩ := irmN (x := T) (m := 60) (b := 60) ht rfl (by omega) (by omega)
  refine ⟨53 + 6 * r, ?_, ?_⟩
  · unfold mX0_tenthAt
    exact bind_step h1 rfl
  · have := Nat.mod_lt t (show 0 < 60 by omega)
    exact addN (x := 53) rfl (mulN (x := 6) rfl h2 (by omega)) (by omega)
theorem agP_step {k t f : Nat} (hk : k < 9) (h : f + (k + 1) ≤ t) : va_cpy X (agP k t f X N) (53 + 6 * ((t - (k + 1)) % 60)) (8 + 5 * k) 5 = agP (k + 1) t f X N := by
  funext j
  unfold va_cpy agP
  by_cases h1 : 8 + 5 * k ≤ j ∧ j < 8 + 5 * k + 5
  · rw [if_pos h1, if_pos (by omega), show (j - 8) / 5 = k by omega, if_pos h, show (j - 8) % 5 = j - (8 + 5 * k) by omega]
  · rw [if_neg h1]
    by_cases h2 : 8 ≤ j ∧ j < 8 + 5 * k
    · rw [if_pos h2, if_pos (show 8 ≤ j ∧ j < 8 + 5 * (k + 1) by omega)]
    · rw [if_neg h2, if_neg (show ¬ (8 ≤ j ∧ j < 8 + 5 * (k + 1)) by omega)]
theorem agP_step0 {k t f : Nat} (hk : k < 9) (h : ¬ f + (k + 1) ≤ t) : (fun j => if 8 + 5 * k ≤ j ∧ j < 8 + 5 * k + 5 then 0 else agP k t f X N j) = agP (k + 1) t f X N := by
  funext j
  unfold agP
  by_cases h1 : 8 + 5 * k ≤ j ∧ j < 8 + 5 * k + 5
  · rw [if_pos h1, if_pos (by omega), show (j - 8) / 5 = k by omega, if_neg h]
  · rw [if_neg h1]
    by_cases h2 : 8 ≤ j ∧ j < 8 + 5 * k
    · rw [if_pos h2, if_pos (show 8 ≤ j ∧ j < 8 + 5 * (k + 1) by omega)]
    · rw [if_neg h2, if_neg (show ¬ (8 ≤ j ∧ j < 8 + 5 * (k + 1)) by omega)]
theorem namesAgo_loop {t f : Nat} {T F : Int32} (h : okl l) (hT : T.toInt = (t : Int)) (hF : F.toInt = (f : Int)) (ht : t < 1000000) (hf9 : f < 1000000) : ∀ (d k fu : Nat) (l4 : Int32), 9 = k + d → l4.toInt = ((k + 1 : Nat) : Int) → d < fu →
    mX0_namesAgo_l3 fu (WC μ z l C (agP k t f X N) X) (some 400) (some l) T F l4 = some ((), WC μ z l C (agF t f X N) X) := by
  intro d
  induction d with
  | zero =>
    intro k fu l4 hd hl hfu
    obtain ⟨g, rfl⟩ : ∃ g, fu = g + 1 := ⟨fu - 1, by omega⟩
    show mX0_namesAgo_b3 _ _ _ _ _ _ _ = _
    unfold mX0_namesAgo_b3
    refine (if_pos (by rw [Int32.lt_iff_toInt_lt, hl]; show (9 : Int) < _; omega)).trans ?_
    rw [show k = 9 by omega]
  | succ d ih =>
    intro k fu l4 hd hl hfu
    obtain ⟨g, rfl⟩ : ∃ g, fu = g + 1 := ⟨fu - 1, by omega⟩
    show mX0_namesAgo_b3 _ _ _ _ _ _ _ = _
    unfold mX0_namesAgo_b3
    refine (if_neg (by rw [Int32.lt_iff_toInt_lt, hl]; show ¬ (9 : Int) < _; omega)).trans ?_
    have e1 : (T - l4).toInt = (t : Int) - ((k + 1 : Nat) : Int) := I32_sub hT hl (by omega)
    have e2 : (8 + (5 * (l4 - 1))).toInt = ((8 + 5 * k : Nat) : Int) := addN (x := 8) rfl (mulN (x := 5) rfl (subN (y := 1) (x := k + 1) hl rfl (by omega) (by omega)) (by omega)) (by omega)
    have e3 : (l4 + 1).toInt = ((k + 1 + 1 : Nat) : Int) := inc_I hl (by omega)
    by_cases hc : f + (k + 1) ≤ t
    · refine (if_pos (by rw [Int32.le_iff_toInt_le, hF, e1]; omega)).trans ?_
      obtain ⟨r, r1, r2⟩ := tenthAt_E (t := t - (k + 1)) (T := T - l4) (w := WC μ z l C (agP k t f X N) X) (by rw [e1]; omega) (by omega)
      refine bind_step (cal_w r1) ?_
      refine bind_step (gR_400_6 554 (by omega) _ _) ?_
      have := Nat.mod_lt (t - (k + 1)) (show 0 < 60 by omega)
      refine bind_step (acpXN (n := 5) h r2 e2 rfl (by omega) (by omega)) ?_
      rw [agP_step (by omega) hc]
      exact ih (k + 1) g (l4 + 1) (by omega) e3 (by omega)
    · refine (if_neg (by rw [Int32.le_iff_toInt_le, hF, e1]; omega)).trans ?_
      refine bind_step (gR_400_6 554 (by omega) _ _) ?_
      refine bind_step (cal_E (fillN_E (a := 8 + 5 * k) (d := 5) e2 (addN e2 (y := 5) rfl (by omega)) (by omega))) ?_
      rw [agP_step0 (by omega) hc]
      exact ih (k + 1) g (l4 + 1) (by omega) e3 (by omega)
theorem namesAgo_E {t f : Nat} {T F : Int32} (h : okl l) (hT : T.toInt = (t : Int)) (hF : F.toInt = (f : Int)) (ht : t < 1000000) (hf9 : f < 1000000) : mX0_namesAgo 400 (some l) T F (WC μ z l C N X) = some ((), WC μ z l C (agF t f X N) X) := by
  have e : agP 0 t f X N = N := by
    funext j
    unfold agP
    rw [if_neg (by omega)]
  have := namesAgo_loop (μ := μ) (z := z) (C := C) (N := N) (X := X) h hT hF ht hf9 9 0 FU 1 (by omega) rfl (by unfold FU; omega)
  rw [e] at this
  exact this
/-- the names of now -/
def nmF (X N : Nat → Int32) : Nat → Int32 := upd (upd (upd (upd (upd (upd (upd N 0 (X 0 - X 2)) 1 (X 3)) 2 (X 1)) 3 (X 6)) 4 (X 7 - X 0)) 5 (X 4)) 6 (X 5)
abbrev nmA (t : Nat) (X N : Nat → Int32) : Nat → Int32 := agF t (t - 60) X (nmF X N)
theorem max60 {x : Int32} {t : Nat} (h : x.toInt = (t : Int)) (ht : t < 1000000) : (jmaxI 0 (x - 60)).toInt = ((t - 60 : Nat) : Int) := by
  have e : (x - 60).toInt = (t : Int) - 60 := I32_sub h rfl (by omega)
  unfold jmaxI
  simp only [Int32.lt_iff_toInt_lt, e]
  by_cases hc : (0 : Int32).toInt < (t : Int) - 60
  · rw [if_pos hc, e]
    have : (0 : Int32).toInt = 0 := rfl
    omega
  · rw [if_neg hc]
    have : (0 : Int32).toInt = 0 := rfl
    omega
theorem firstKept_X (h : okl l) : mX0_firstKept (some l) (WC μ z l C N X) = some (jmaxI 0 (X 8 - 60), WC μ z l C N X) := by
  unfold mX0_firstKept
  refine bind_step (iaX (n := 8) h rfl (by omega)) ?_
  rfl
theorem names_E {t : Nat} (h : okl l) (ht : (X 8).toInt = (t : Int)) (h9 : t < 1000000) : mX0_names 400 (some l) (WC μ z l C N X) = some ((), WC μ z l C (nmA t X N) X) := by
  unfold mX0_names
  refine bind_step (gR_400_6 554 (by omega) _ _) ?_
  refine bind_step (iaX (n := 0) h rfl (by omega)) ?_
  refine bind_step (iaX (n := 2) h rfl (by omega)) ?_
  refine bind_step (iasN (n := 0)  rfl (by omega)) ?_
  refine bind_step (gR_400_6 554 (by omega) _ _) ?_
  refine bind_step (iaX (n := 3) h rfl (by omega)) ?_
  refine bind_step (iasN (n := 1)  rfl (by omega)) ?_
  refine bind_step (gR_400_6 554 (by omega) _ _) ?_
  refine bind_step (iaX (n := 1) h rfl (by omega)) ?_
  refine bind_step (iasN (n := 2)  rfl (by omega)) ?_
  refine bind_step (gR_400_6 554 (by omega) _ _) ?_
  refine bind_step (iaX (n := 6) h rfl (by omega)) ?_
  refine bind_step (iasN (n := 3)  rfl (by omega)) ?_
  refine bind_step (gR_400_6 554 (by omega) _ _) ?_
  refine bind_step (iaX (n := 7) h rfl (by omega)) ?_
  refine bind_step (iaX (n := 0) h rfl (by omega)) ?_
  refine bind_step (iasN (n := 4)  rfl (by omega)) ?_
  refine bind_step (gR_400_6 554 (by omega) _ _) ?_
  refine bind_step (iaX (n := 4) h rfl (by omega)) ?_
  refine bind_step (iasN (n := 5)  rfl (by omega)) ?_
  refine bind_step (gR_400_6 554 (by omega) _ _) ?_
  refine bind_step (iaX (n := 5) h rfl (by omega)) ?_
  refine bind_step (iasN (n := 6)  rfl (by omega)) ?_
  refine bind_step (iaX (n := 8) h rfl (by omega)) ?_
  refine bind_step (cal_w (firstKept_X h)) ?_
  refine bind_step (recv_400 554 (by omega) _ _) ?_
  refine bind_step (cal_E (namesAgo_E h ht (max60 ht h9) h9 (by omega))) ?_
  rfl
end WC60
