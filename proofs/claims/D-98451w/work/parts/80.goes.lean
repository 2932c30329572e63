/-! ===== foretold ===== -/
def cmH (tx : Nat → Int32) (h : Option Int32) (X : Nat → Int32) : Int32 := match h with
  | none => 0
  | some t => handF tx t X
def itH (tx : Nat → Int32) (t4 calm : Int32) (h : Option Int32) (X0 : Nat → Int32) : Nat → Nat → Int32
  | 0 => X0
  | k + 1 => tenF tx t4 calm (itH tx t4 calm h X0 k) (cmH tx h (itH tx t4 calm h X0 k))
def awF (X : Nat → Int32) : Int32 := jabsI (X 0 - X 2)
def grF (Xs : Nat → Nat → Int32) (fr : Nat) : Nat → Int32
  | 0 => 0
  | k + 1 => if k + 1 < fr then grF Xs fr k else jmaxI (grF Xs fr k) (awF (Xs (k + 1)))
def stF (near : Int32) (Xs : Nat → Nat → Int32) : Nat → Int32
  | 0 => -1
  | k + 1 => if ¬ stF near Xs k = -1 then stF near Xs k else if hsF near (Xs (k + 1)) = 0 then stF near Xs k else Int32.ofNat (k + 1)
theorem cmH_bd {tx : Nat → Int32} {h : Option Int32} {X : Nat → Int32} : bd (cmH tx h X) (-1) 1 := by
  cases h with
  | none => exact (⟨by decide, by decide⟩ : bd 0 (-1) 1)
  | some t => exact cmd_bd
/-- a row ready for a tenth, by itself -/
def Gc (t : Nat) (X : Nat → Int32) : Prop := RBw X ∧ HB9 t X ∧ (X 8).toInt = (t : Int)
theorem Gc_next {t : Nat} {X tx : Nat → Int32} {t4 calm c : Int32} (h9 : t < 1000000) (h : Gc t X) : Gc (t + 1) (tenF tx t4 calm X c) :=
  ⟨ten_RB h.1, ten_HB h.2.2 h.1 h.2.1, by rw [ten_8]; exact inc_I h.2.2 h9⟩
theorem Gc_it {tx : Nat → Int32} {t4 calm : Int32} {h : Option Int32} {X0 : Nat → Int32} {t : Nat} (h0 : Gc t X0) : ∀ k, t + k < 1000000 → Gc (t + k) (itH tx t4 calm h X0 k) := by
  intro k
  induction k with
  | zero => intro _; exact h0
  | succ k ih => intro hk; exact Gc_next (t := t + k) (by omega) (ih (by omega))
theorem Go_Gc {t : Nat} {X A : Nat → Int32} (h : Go t X A) : Gc t X := ⟨h.1, h.2.2.1, h.2.2.2.2⟩
theorem setM_fC {μ : Mu} {l : Nat} {Y : Nat → Int32} (h : okl l) : setM μ l Y = fC μ l (μ 400) (μ 518) Y := by
  have e := fC_sX (μ := μ) (C := μ 400) (N := μ 518) (X := μ l) (Y := Y) h
  rw [fC_0] at e
  exact e
/-- a hand, as the component holds it and by its text's number -/
def hndOf (μ : Mu) (z : Zt) (h : Option Int32) (r : Option Nat) : Prop := (h = none ∧ r = none) ∨ ∃ t y, h = some t ∧ r = some y ∧ txtOf μ z t y
section WC80
variable {μ : Mu} {z : Zt} {C N X : Nat → Int32}
/-- one tenth by a hand or without: the component -/
theorem tenH_E {l t : Nat} {h : Option Int32} {y : Nat} {t9 : Int32} (hl : okl l) (hT : Tc μ z) (hy : txtOf μ z t9 y) (hg : Gc t X) (h9 : t < 1000000) : mX0_handOf 400 (some l) (some y) (WC μ z l C N X) = some (handF (μ 540) t9 X, WC μ z l C (nmA t X N) X) := handOf_E hl hT hy hg.1 hg.2.2 h9 hg.2.1
theorem goes_p91 {k27 : Wd → Option Nat → Int32 → Option Nat → Int32 → Int32 → Option (Unit × Wd)} {l1 l3 l4 : Int32} {hl : Option Nat} {s s' : Int32} {k : Nat} (hs : C 10 = s) (h4 : l4 = Int32.ofNat (k + 1)) (hs' : s' = if ¬ s = -1 then s else if hsF (μ 402 1) X = 0 then s else Int32.ofNat (k + 1)) :
    mX0_goes_p91 k27 (WC μ z 519 C N X) (some 400) l1 hl l3 l4 = k27 (WC μ z 519 (upd C 10 s') N X) (some 400) l1 hl l3 (l4 + 1) := by
  have same : ∀ v, C 10 = v → upd C 10 v = C := fun v hv => by
    funext j
    unfold upd
    by_cases hj : j = 10
    · rw [if_pos hj, hj, hv]
    · rw [if_neg hj]
  unfold mX0_goes_p91
  refine bind_step gIC_10 ?_
  rw [hs]
  by_cases h1 : ¬ s = -1
  · refine (if_pos h1).trans ?_
    rw [hs', if_pos h1, same s hs]
  · refine (if_neg h1).trans ?_
    rw [if_neg h1] at hs'
    refine bind_step (gR_400_8 554 (by omega) _ _) ?_
    refine bind_step (recv_400 554 (by omega) _ _) ?_
    refine bind_step (cal_w (hangsStill_E okl_519)) ?_
    by_cases h2 : hsF (μ 402 1) X = 0
    · refine (if_pos h2).trans ?_
      rw [hs', if_pos h2, same s hs]
    · refine (if_neg h2).trans ?_
      refine bind_step pfC_10 ?_
      rw [hs', if_neg h2, h4]
theorem goes_loop {tx : Nat → Int32} {t4 calm : Int32} {h : Option Int32} {X0 C0 : Nat → Int32} {hl : Option Nat} {t fr n : Nat} {l1 l3 : Int32} (htx : tx = μ 540) (ht4 : t4 = μ 402 3) (hT : Tc μ z) (hh : hndOf μ z h hl) (h0 : Gc t X0) (h9 : t + n < 900000) (hn : n < 1000) (h1 : l1.toInt = (n : Int)) (h3 : l3.toInt = (fr : Int)) : ∀ (d k fu : Nat) (l4 : Int32) (C N : Nat → Int32), n = k + d → l4.toInt = ((k + 1 : Nat) : Int) → d < fu → C 7 = calm → (∀ j, j ≠ 9 → j ≠ 10 → C j = C0 j) → C 9 = grF (itH tx t4 calm h X0) fr k → C 10 = stF (μ 402 1) (itH tx t4 calm h X0) k →
    ∃ C' N', mX0_goes_l27 fu (WC μ z 519 C N (itH tx t4 calm h X0 k)) (some 400) l1 hl l3 l4 = some ((), WC μ z 519 C' N' (itH tx t4 calm h X0 n)) ∧ (∀ j, j ≠ 9 → j ≠ 10 → C' j = C0 j) ∧ C' 9 = grF (itH tx t4 calm h X0) fr n ∧ C' 10 = stF (μ 402 1) (itH tx t4 calm h X0) n := by
  subst htx ht4
  intro d
  induction d with
  | zero =>
    intro k fu l4 C N hd h4 hf h7 hC h9' h10
    obtain ⟨g, rfl⟩ : ∃ g, fu = g + 1 := ⟨fu - 1, by omega⟩
    have : k = n := by omega
    subst this
    refine ⟨C, N, ?_, hC, h9', h10⟩
    show mX0_goes_b27 _ _ _ _ _ _ _ = _
    unfold mX0_goes_b27
    exact if_pos (by rw [Int32.lt_iff_toInt_lt, h1, h4]; omega)
  | succ d ih =>
    intro k fu l4 C N hd h4 hf h7 hC h9' h10
    obtain ⟨g, rfl⟩ : ∃ g, fu = g + 1 := ⟨fu - 1, by omega⟩
    have hg := Gc_it (tx := μ 540) (t4 := μ 402 3) (calm := calm) (h := h) h0 k (by omega)
    have hX1 : itH (μ 540) (μ 402 3) calm h X0 (k + 1) = tenF (μ 540) (μ 402 3) calm (itH (μ 540) (μ 402 3) calm h X0 k) (cmH (μ 540) h (itH (μ 540) (μ 402 3) calm h X0 k)) := rfl
    have tail : ∀ N2, ∃ C' N', mX0_goes_p55 (mX0_goes_l27 g) (WC μ z 519 C N2 (itH (μ 540) (μ 402 3) calm h X0 k)) (some 400) l1 hl l3 l4 (cmH (μ 540) h (itH (μ 540) (μ 402 3) calm h X0 k)) (some 519) (some 400) = some ((), WC μ z 519 C' N' (itH (μ 540) (μ 402 3) calm h X0 n)) ∧ (∀ j, j ≠ 9 → j ≠ 10 → C' j = C0 j) ∧ C' 9 = grF (itH (μ 540) (μ 402 3) calm h X0) fr n ∧ C' 10 = stF (μ 402 1) (itH (μ 540) (μ 402 3) calm h X0) n := by
      intro N2
      obtain ⟨N3, e3⟩ := tenth_E (C := C) (N := N2) okl_519 hT hg.1 hg.2.2 (by omega) hg.2.1 (cmH_bd (tx := μ 540) (h := h) (X := itH (μ 540) (μ 402 3) calm h X0 k))
      rw [h7, ← hX1] at e3
      have e4 : l4 = Int32.ofNat (k + 1) := I_nat h4
      by_cases hfr : k + 1 < fr
      · have eg : grF (itH (μ 540) (μ 402 3) calm h X0) fr (k + 1) = grF (itH (μ 540) (μ 402 3) calm h X0) fr k := if_pos hfr
        obtain ⟨C', N', e5, q1, q2, q3⟩ := ih (k + 1) g (l4 + 1) (upd C 10 (stF (μ 402 1) (itH (μ 540) (μ 402 3) calm h X0) (k + 1))) N3 (by omega) (inc_I h4 (by omega)) (by omega) (by rw [upN (by omega)]; exact h7) (fun j j9 j10 => by rw [upN j10]; exact hC j j9 j10) (by rw [upN (by omega), eg]; exact h9') upd_eq
        refine ⟨C', N', ?_, q1, q2, q3⟩
        unfold mX0_goes_p55
        refine bind_step (recv_400 554 (by omega) _ _) ?_
        refine bind_step (cal_E e3) ?_
        refine (if_pos (by rw [Int32.lt_iff_toInt_lt, h4, h3]; omega)).trans ?_
        rw [goes_p91 (s' := stF (μ 402 1) (itH (μ 540) (μ 402 3) calm h X0) (k + 1)) h10 e4 rfl]
        exact e5
      · have eg : grF (itH (μ 540) (μ 402 3) calm h X0) fr (k + 1) = jmaxI (grF (itH (μ 540) (μ 402 3) calm h X0) fr k) (awF (itH (μ 540) (μ 402 3) calm h X0 (k + 1))) := if_neg hfr
        obtain ⟨C', N', e5, q1, q2, q3⟩ := ih (k + 1) g (l4 + 1) (upd (upd C 9 (grF (itH (μ 540) (μ 402 3) calm h X0) fr (k + 1))) 10 (stF (μ 402 1) (itH (μ 540) (μ 402 3) calm h X0) (k + 1))) N3 (by omega) (inc_I h4 (by omega)) (by omega) (by rw [upN (by omega), upN (by omega)]; exact h7) (fun j j9 j10 => by rw [upN j10, upN j9]; exact hC j j9 j10) (by rw [upN (by omega), upd_eq]) upd_eq
        refine ⟨C', N', ?_, q1, q2, q3⟩
        unfold mX0_goes_p55
        refine bind_step (recv_400 554 (by omega) _ _) ?_
        refine bind_step (cal_E e3) ?_
        refine (if_neg (by rw [Int32.lt_iff_toInt_lt, h4, h3]; omega)).trans ?_
        refine bind_step gIC_9 ?_
        refine bind_step (gR_400_8 554 (by omega) _ _) ?_
        refine bind_step (iaX (n := 0) okl_519 rfl (by omega)) ?_
        refine bind_step (gR_400_8 554 (by omega) _ _) ?_
        refine bind_step (iaX (n := 2) okl_519 rfl (by omega)) ?_
        refine bind_step pfC_9 ?_
        rw [h9', show jmaxI (grF (itH (μ 540) (μ 402 3) calm h X0) fr k) (jabsI (itH (μ 540) (μ 402 3) calm h X0 (k + 1) 0 - itH (μ 540) (μ 402 3) calm h X0 (k + 1) 2)) = grF (itH (μ 540) (μ 402 3) calm h X0) fr (k + 1) from eg.symm]
        rw [goes_p91 (s' := stF (μ 402 1) (itH (μ 540) (μ 402 3) calm h X0) (k + 1)) (by rw [upN (by omega)]; exact h10) e4 rfl]
        exact e5
    rcases hh with ⟨rfl, rfl⟩ | ⟨t9, y, rfl, rfl, hy⟩
    · obtain ⟨C', N', e, q⟩ := tail N
      refine ⟨C', N', ?_, q⟩
      show mX0_goes_b27 _ _ _ _ _ _ _ = _
      unfold mX0_goes_b27
      refine (if_neg (by rw [Int32.lt_iff_toInt_lt, h1, h4]; omega)).trans ?_
      refine bind_step (gR_400_8 554 (by omega) _ _) ?_
      refine (if_neg (fun q => q rfl)).trans ?_
      exact e
    · obtain ⟨C', N', e, q⟩ := tail (nmA (t + k) (itH (μ 540) (μ 402 3) calm (some t9) X0 k) N)
      refine ⟨C', N', ?_, q⟩
      show mX0_goes_b27 _ _ _ _ _ _ _ = _
      unfold mX0_goes_b27
      refine (if_neg (by rw [Int32.lt_iff_toInt_lt, h1, h4]; omega)).trans ?_
      refine bind_step (gR_400_8 554 (by omega) _ _) ?_
      refine (if_pos (fun q => by cases q)).trans ?_
      refine bind_step (gR_400_8 554 (by omega) _ _) ?_
      refine bind_step (recv_400 554 (by omega) _ _) ?_
      refine bind_step (cal_E (tenH_E (h := some t9) okl_519 hT hy hg (by omega))) ?_
      exact e
end WC80
/-- the row that is tried, as now -/
def tri (μ : Mu) : Nat → Int32 := va_cpy (μ 403) (μ 519) 0 0 413
theorem goes_E {μ : Mu} {z : Zt} {h : Option Int32} {hl : Option Nat} {t fr n : Nat} {l1 l3 : Int32} (hT : Tc μ z) (hh : hndOf μ z h hl) (h0 : Gc t (tri μ)) (h9 : t + n < 900000) (hn : n < 1000) (h1 : l1.toInt = (n : Int)) (h3 : l3.toInt = (fr : Int)) :
    ∃ C' N', mX0_goes 400 l1 hl l3 (E μ z) = some ((), WC μ z 519 C' N' (itH (μ 540) (μ 402 3) (μ 400 7) h (tri μ) n)) ∧ (∀ j, j ≠ 9 → j ≠ 10 → C' j = μ 400 j) ∧ C' 9 = grF (itH (μ 540) (μ 402 3) (μ 400 7) h (tri μ)) fr n ∧ C' 10 = stF (μ 402 1) (itH (μ 540) (μ 402 3) (μ 400 7) h (tri μ)) n := by
  obtain ⟨C', N', e, q⟩ := goes_loop (μ := μ) (z := z) (h := h) (hl := hl) (C0 := μ 400) (tx := μ 540) (t4 := μ 402 3) (calm := μ 400 7) rfl rfl hT hh h0 h9 hn h1 h3 n 0 FU 1 (upd (upd (μ 400) 9 0) 10 (-1)) (μ 518) (by omega) rfl (by unfold FU; omega) (by rw [upN (by omega), upN (by omega)]) (fun j j9 j10 => by rw [upN j10, upN j9]) (by rw [upN (by omega), upd_eq]; rfl) (by rw [upd_eq]; rfl)
  refine ⟨C', N', ?_, q⟩
  have ec := copy_E (p := 554) (μ := μ) (z := z) isI_403 isI_519 (by omega) (by omega) (by omega)
  rw [setM_fC okl_519] at ec
  unfold mX0_goes
  refine bind_step (gR_400_0 554 (by omega) _ _) ?_
  refine bind_step (gR_401_1 554 (by omega) _ _) ?_
  refine bind_step (gR_400_8 554 (by omega) _ _) ?_
  refine bind_step (cal_E ec) ?_
  refine bind_step pfC_9 ?_
  refine bind_step pfC_10 ?_
  exact e
theorem tri_Go {μ : Mu} {t : Nat} {A : Nat → Int32} (h : Go t (μ 403) A) : Go t (tri μ) A := Go_ext (fun j hj => cpy413 hj) h
theorem max_le {a b : Int32} : (if b ≤ a then a else b) = jmaxI a b := by
  unfold jmaxI
  by_cases h : a < b
  · rw [if_pos h, if_neg (by rw [Int32.le_iff_toInt_le]; rw [Int32.lt_iff_toInt_lt] at h; omega)]
  · rw [if_neg h, if_pos (by rw [Int32.le_iff_toInt_le]; rw [Int32.lt_iff_toInt_lt] at h; omega)]
