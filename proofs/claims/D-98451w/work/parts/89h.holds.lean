/-! ===== what a yard holds, what a rope lasts: over, howFar, ofOrder ===== -/
def hdF (tx : Nat → Int32) (t4 y : Int32) : Int32 := sayF tx t4 (Int32.ofNat 3) (60 - y) 0 99 (fun _ => y) (fun _ _ => 0)
def nv4 (r w y : Int32) : Nat → Int32 := fun j => if j = 5 then r else if j = 6 then w else y
def laF (tx : Nat → Int32) (t4 r w y : Int32) : Int32 := sayF tx t4 (Int32.ofNat 4) (y / 10 + 1) 1 99 (nv4 r w y) (fun _ _ => 0)
theorem kind3 {N nv : Nat → Int32} {ag : Nat → Nat → Int32} {y : Int32} (hN : N 7 = y) (hv : nv 7 = y) (h : bd y (-1000000) 1000000) : kindOk 3 N nv ag := by
  refine ⟨fun j hj => ?_, fun q => absurd q (by omega)⟩
  have hj7 : j = 7 := by
    unfold nmOk at hj
    omega
  subst hj7
  rw [hN, hv]
  exact ⟨rfl, h⟩
theorem kind4 {N nv : Nat → Int32} {ag : Nat → Nat → Int32} {r w y : Int32} (n5 : N 5 = r) (n6 : N 6 = w) (n7 : N 7 = y) (v5 : nv 5 = r) (v6 : nv 6 = w) (v7 : nv 7 = y) (hr : bd r (-1000000) 1000000) (hw : bd w (-1000000) 1000000) (hy : bd y (-1000000) 1000000) : kindOk 4 N nv ag := by
  refine ⟨fun j hj => ?_, fun q => absurd q (by omega)⟩
  have hj7 : j = 5 ∨ j = 6 ∨ j = 7 := by
    unfold nmOk at hj
    omega
  rcases hj7 with rfl | rfl | rfl
  · rw [n5, v5]; exact ⟨rfl, hr⟩
  · rw [n6, v6]; exact ⟨rfl, hw⟩
  · rw [n7, v7]; exact ⟨rfl, hy⟩
theorem Tc_518 {μ : Mu} {z : Zt} {N : Nat → Int32} (hz : 554 ≤ z.2.2.2.1) (hT : Tc μ z) : Tc (setM μ 518 N) z := Tc_CFr (CQ_CFr (CQ_set ⟨by omega, by omega⟩ (CQ.refl μ))) hz hT
theorem holds0_E {μ : Mu} {z : Zt} {a : Int32} (hz : 554 ≤ z.2.2.2.1) (hT : Tc μ z) (ha : bd a (-1000000) 1000000) : mX0_holdsAt 400 a (E μ z) = some (hdF (μ 540) (μ 402 3) a, E (setM μ 518 (upd (μ 518) 7 a)) z) := by
  have h2 := Tc_518 (N := upd (μ 518) 7 a) hz hT
  have el := law_E (s := 3) (wo := 60 - a) (lo := 0) (hi := 99) (nv := fun _ => a) (ag := fun _ _ => 0) h2.1 (by omega) h2.2.1 h2.2.2 (kind3 (y := a) (by rw [setM_same]; exact upd_eq) rfl ha) (by decide)
  rw [setM_ne (show (540 : Nat) ≠ 518 by omega), setM_ne (show (402 : Nat) ≠ 518 by omega)] at el
  unfold mX0_holdsAt
  refine bind_step (gR_400_6 554 (by omega) _ _) ?_
  refine bind_step (ias_E (n := 7) isI_518 rfl (by omega)) ?_
  refine bind_step (recv_400 554 (by omega) _ _) ?_
  refine bind_step (cal_w el) ?_
  rfl
theorem holds2_E {μ : Mu} {z : Zt} {F A N T : Nat → Int32} {V : Nat → Int64} {a : Int32} (hT : TX TT μ z) (h4 : -1 ≤ (A 4).toInt ∧ (A 4).toInt < (μ 402 2).toInt) (ha : bd a (-1000000) 1000000) :
    ∃ T' V', mX2_holdsAt 537 a (WM μ z F A N T V) = some (hdF (μ 540) (A 4) a, WM μ z F A (upd N 7 a) T' V') := by
  have hk : kindOk 3 (fun _ => a) (upd N 7 a) (agM 0 0 A) := kind3 rfl upd_eq ha
  obtain ⟨T', V', e⟩ := says_E3 (s := 3) (wo := 60 - a) (lo := 0) (hi := 99) (F := F) (T := T) (V := V) (N := upd N 7 a) (t := 0) (f := 0) (by omega) hT h4 (Or.inr (by omega)) (by omega) hk
  rw [say_congr (by omega) hT h4 hk (kind3 (nv := fun _ => a) (ag := fun _ _ => 0) rfl rfl ha)] at e
  refine ⟨T', V', ?_⟩
  unfold mX2_holdsAt
  refine bind_step (gR_537_20 554 (by omega) _ _) ?_
  refine bind_step (iasNm (n := 7) rfl (by omega)) ?_
  refine bind_step (recv_537 554 (by omega) _ _) ?_
  refine bind_step (calM e) ?_
  rfl
theorem lasts0_E {μ : Mu} {z : Zt} {a : Int32} {o : Nat} (hz : 554 ≤ z.2.2.2.1) (hT : Tc μ z) (ha : a.toInt = (o : Int)) (ho : o < 8) (hr : bd (μ 403 4) (-1000000) 1000000) (hw : bd (μ (405 + o) 0) (-1000000) 1000000) (hy : bd (μ (405 + o) 1) (-1000000) 1000000) :
    mX0_lastsOf 400 a (E μ z) = some (laF (μ 540) (μ 402 3) (μ 403 4) (μ (405 + o) 0) (μ (405 + o) 1), E (setM μ 518 (upd (upd (upd (μ 518) 5 (μ 403 4)) 6 (μ (405 + o) 0)) 7 (μ (405 + o) 1))) z) := by
  have h2 := Tc_518 (N := upd (upd (upd (μ 518) 5 (μ 403 4)) 6 (μ (405 + o) 0)) 7 (μ (405 + o) 1)) hz hT
  have el := law_E (s := 4) (wo := μ (405 + o) 1 / 10 + 1) (lo := 1) (hi := 99) (nv := nv4 (μ 403 4) (μ (405 + o) 0) (μ (405 + o) 1)) (ag := fun _ _ => 0) h2.1 (by omega) h2.2.1 h2.2.2 (kind4 (r := μ 403 4) (w := μ (405 + o) 0) (y := μ (405 + o) 1) (by rw [setM_same, upN (by omega), upN (by omega)]; exact upd_eq) (by rw [setM_same, upN (by omega)]; exact upd_eq) (by rw [setM_same]; exact upd_eq) rfl rfl rfl hr hw hy) (by decide)
  rw [setM_ne (show (540 : Nat) ≠ 518 by omega), setM_ne (show (402 : Nat) ≠ 518 by omega)] at el
  have q4 : ∀ N : Nat → Int32, setM μ 518 N (405 + o) = μ (405 + o) := fun N => setM_ne (by omega)
  unfold mX0_lastsOf
  refine bind_step (gR_400_6 554 (by omega) _ _) ?_
  refine bind_step (gR_400_0 554 (by omega) _ _) ?_
  refine bind_step (gR_401_1 554 (by omega) _ _) ?_
  refine bind_step (ia_E (n := 4) isI_403 rfl (by omega)) ?_
  refine bind_step (ias_E (n := 5) isI_518 rfl (by omega)) ?_
  refine bind_step (gR_400_6 554 (by omega) _ _) ?_
  refine bind_step (gR_400_0 554 (by omega) _ _) ?_
  refine bind_step (gR_401_2 554 (by omega) _ _) ?_
  refine bind_step (aa_E (n := o) isA_404 ha ho) ?_
  refine bind_step (ia_E (n := 0) (isI_405 o ho) rfl (by omega)) ?_
  rw [show up μ 518 5 (μ 403 4) (405 + o) = μ (405 + o) from q4 _]
  refine bind_step (ias_E (n := 6) isI_518 rfl (by omega)) ?_
  rw [show up (up μ 518 5 (μ 403 4)) 518 6 (μ (405 + o) 0) = setM μ 518 (upd (upd (μ 518) 5 (μ 403 4)) 6 (μ (405 + o) 0)) from up_up]
  refine bind_step (gR_400_6 554 (by omega) _ _) ?_
  refine bind_step (gR_400_0 554 (by omega) _ _) ?_
  refine bind_step (gR_401_2 554 (by omega) _ _) ?_
  refine bind_step (aa_E (n := o) isA_404 ha ho) ?_
  refine bind_step (ia_E (n := 1) (isI_405 o ho) rfl (by omega)) ?_
  rw [q4]
  refine bind_step (ias_E (n := 7) isI_518 rfl (by omega)) ?_
  rw [up_up]
  refine bind_step (gR_400_0 554 (by omega) _ _) ?_
  refine bind_step (gR_401_2 554 (by omega) _ _) ?_
  refine bind_step (aa_E (n := o) isA_404 ha ho) ?_
  refine bind_step (ia_E (n := 1) (isI_405 o ho) rfl (by omega)) ?_
  rw [q4]
  refine bind_step (idvF (by decide)) ?_
  refine bind_step (recv_400 554 (by omega) _ _) ?_
  refine bind_step (cal_w el) ?_
  rfl
theorem lasts2_E {μ : Mu} {z : Zt} {F A N T : Nat → Int32} {V : Nat → Int64} {a : Int32} {o : Nat} (hT : TX TT μ z) (h4 : -1 ≤ (A 4).toInt ∧ (A 4).toInt < (μ 402 2).toInt) (ha : a.toInt = (o : Int)) (ho : o < 8) (hr : bd (A 12) (-1000000) 1000000) (hw : bd (A (20 + 6 * o)) (-1000000) 1000000) (hy : bd (A (20 + 6 * o + 1)) (-1000000) 1000000) :
    ∃ T' V', mX2_lastsOf 537 a (WM μ z F A N T V) = some (laF (μ 540) (A 4) (A 12) (A (20 + 6 * o)) (A (20 + 6 * o + 1)), WM μ z F A (upd (upd (upd N 5 (A 12)) 6 (A (20 + 6 * o))) 7 (A (20 + 6 * o + 1))) T' V') := by
  have hk : kindOk 4 (nv4 (A 12) (A (20 + 6 * o)) (A (20 + 6 * o + 1))) (upd (upd (upd N 5 (A 12)) 6 (A (20 + 6 * o))) 7 (A (20 + 6 * o + 1))) (agM 0 0 A) := kind4 rfl rfl rfl (by rw [upN (by omega), upN (by omega)]; exact upd_eq) (by rw [upN (by omega)]; exact upd_eq) upd_eq hr hw hy
  obtain ⟨T', V', e⟩ := says_E3 (s := 4) (wo := A (20 + 6 * o + 1) / 10 + 1) (lo := 1) (hi := 99) (F := F) (T := T) (V := V) (t := 0) (f := 0) (by omega) hT h4 (Or.inr (by omega)) (by omega) hk
  rw [say_congr (by omega) hT h4 hk (kind4 (nv := nv4 (A 12) (A (20 + 6 * o)) (A (20 + 6 * o + 1))) (ag := fun _ _ => 0) rfl rfl rfl rfl rfl rfl hr hw hy)] at e
  refine ⟨T', V', ?_⟩
  unfold mX2_lastsOf
  refine bind_step (gR_537_20 554 (by omega) _ _) ?_
  refine bind_step (gR_537_0 554 (by omega) _ _) ?_
  refine bind_step (iaA (n := 12) rfl (by omega)) ?_
  refine bind_step (iasNm (n := 5) rfl (by omega)) ?_
  refine bind_step (gR_537_20 554 (by omega) _ _) ?_
  refine bind_step (recv_537 554 (by omega) _ _) ?_
  refine bind_step (cal_w (get_E (w := 0) ha rfl ho (by omega))) ?_
  refine bind_step (iasNm (n := 6) rfl (by omega)) ?_
  refine bind_step (gR_537_20 554 (by omega) _ _) ?_
  refine bind_step (recv_537 554 (by omega) _ _) ?_
  refine bind_step (cal_w (get_E (w := 1) ha rfl ho (by omega))) ?_
  refine bind_step (iasNm (n := 7) rfl (by omega)) ?_
  refine bind_step (recv_537 554 (by omega) _ _) ?_
  refine bind_step (cal_w (get_E (w := 1) ha rfl ho (by omega))) ?_
  refine bind_step (idvF (by decide)) ?_
  refine bind_step (recv_537 554 (by omega) _ _) ?_
  refine bind_step (calM e) ?_
  rfl
/-- all but the names as it was -/
def Q8 (μ μ' : Mu) : Prop := ∀ q, q ≠ 518 → μ' q = μ q
theorem Q8.cq {μ μ' : Mu} (h : Q8 μ μ') : CQ μ μ' := ⟨fun k hk => h k (by omega), fun j _ => by rw [h 400 (by omega)]⟩
theorem Q8.set {μ μ' : Mu} {N : Nat → Int32} (h : Q8 μ μ') : Q8 μ (setM μ' 518 N) := fun q hq => (setM_ne hq).trans (h q hq)
theorem Q8.tc {μ μ' : Mu} {z : Zt} (h : Q8 μ μ') (hz : 554 ≤ z.2.2.2.1) (hT : Tc μ z) : Tc μ' z := Tc_CFr (CQ_CFr h.cq) hz hT
/-- over: which orders weigh more than their yard holds -/
def ovF (tx : Nat → Int32) (t4 : Int32) (od : Nat → Nat → Int32) : Nat → Int32
  | 0 => 0
  | k + 1 => if od k 0 ≤ hdF tx t4 (od k 1) then ovF tx t4 od k ||| 0 else ovF tx t4 od k ||| (1 <<< (Int32.ofNat k &&& 31))
theorem over0_loop {μ0 : Mu} {z : Zt} {n : Nat} (hz : 554 ≤ z.2.2.2.1) (hT : Tc μ0 z) (hn : (μ0 402 0).toInt = (n : Int)) (h8 : n ≤ 8) (hy : ∀ k, k < n → bd (fam μ0 405 8 k 1) (-1000000) 1000000) : ∀ (d k fu : Nat) (l2 : Int32) (μ : Mu), Q8 μ0 μ → n = k + d → l2.toInt = (k : Int) → d < fu →
    ∃ μ', Q8 μ0 μ' ∧ mX0_over_l4 fu (E μ z) (some 400) (ovF (μ0 540) (μ0 402 3) (fam μ0 405 8) k) l2 = some (ovF (μ0 540) (μ0 402 3) (fam μ0 405 8) n, E μ' z) := by
  intro d
  induction d with
  | zero =>
    intro k fu l2 μ hQ hk h2 hf
    obtain ⟨e, rfl⟩ : ∃ e, fu = e + 1 := ⟨fu - 1, by omega⟩
    have hkn : k = n := by omega
    subst hkn
    refine ⟨μ, hQ, ?_⟩
    show mX0_over_b4 _ _ _ _ _ = _
    unfold mX0_over_b4
    refine bind_step (gR_400_0 554 (by omega) _ _) ?_
    refine bind_step (gR_401_0 554 (by omega) _ _) ?_
    refine bind_step (ia_E (n := 0) isI_402 rfl (by omega)) ?_
    exact if_pos (by rw [hQ 402 (by omega), Int32.le_iff_toInt_le, hn, h2]; omega)
  | succ d ih =>
    intro k fu l2 μ hQ hk h2 hf
    obtain ⟨e, rfl⟩ : ∃ e, fu = e + 1 := ⟨fu - 1, by omega⟩
    have e5 : μ (405 + k) = fam μ0 405 8 k := (hQ _ (by omega)).trans (fam_at (by omega)).symm
    have hh := holds0_E (a := fam μ0 405 8 k 1) hz (hQ.tc hz hT) (hy k (by omega))
    rw [hQ 540 (by omega), hQ 402 (by omega)] at hh
    obtain ⟨μ', q1, q2⟩ := ih (k + 1) e (l2 + 1) (setM μ 518 (upd (μ 518) 7 (fam μ0 405 8 k 1))) hQ.set (by omega) (inc_I h2 (by omega)) (by omega)
    refine ⟨μ', q1, ?_⟩
    show mX0_over_b4 _ _ _ _ _ = _
    unfold mX0_over_b4
    refine bind_step (gR_400_0 554 (by omega) _ _) ?_
    refine bind_step (gR_401_0 554 (by omega) _ _) ?_
    refine bind_step (ia_E (n := 0) isI_402 rfl (by omega)) ?_
    refine (if_neg (by rw [hQ 402 (by omega), Int32.le_iff_toInt_le, hn, h2]; omega)).trans ?_
    refine bind_step (gR_400_0 554 (by omega) _ _) ?_
    refine bind_step (gR_401_2 554 (by omega) _ _) ?_
    refine bind_step (aa_E (n := k) isA_404 h2 (by omega)) ?_
    refine bind_step (ia_E (n := 0) (isI_405 k (by omega)) rfl (by omega)) ?_
    refine bind_step (gR_400_0 554 (by omega) _ _) ?_
    refine bind_step (gR_401_2 554 (by omega) _ _) ?_
    refine bind_step (aa_E (n := k) isA_404 h2 (by omega)) ?_
    refine bind_step (ia_E (n := 1) (isI_405 k (by omega)) rfl (by omega)) ?_
    rw [e5]
    refine bind_step (recv_400 554 (by omega) _ _) ?_
    refine bind_step (cal_E hh) ?_
    by_cases hc : fam μ0 405 8 k 0 ≤ hdF (μ0 540) (μ0 402 3) (fam μ0 405 8 k 1)
    · refine (if_pos hc).trans ?_
      rw [show ovF (μ0 540) (μ0 402 3) (fam μ0 405 8) (k + 1) = ovF (μ0 540) (μ0 402 3) (fam μ0 405 8) k ||| 0 from if_pos hc] at q2
      exact q2
    · refine (if_neg hc).trans ?_
      refine bind_step rfl ?_
      rw [show ovF (μ0 540) (μ0 402 3) (fam μ0 405 8) (k + 1) = ovF (μ0 540) (μ0 402 3) (fam μ0 405 8) k ||| (1 <<< (Int32.ofNat k &&& 31)) from if_neg hc] at q2
      rw [I_nat h2]
      rw [I_nat h2] at q2
      exact q2
theorem over2_loop {μ : Mu} {z : Zt} {F A : Nat → Int32} {tx : Nat → Int32} {t4 : Int32} {od : Nat → Nat → Int32} {n : Nat} (hT : TX TT μ z) (h4 : -1 ≤ t4.toInt ∧ t4.toInt < (μ 402 2).toInt) (hA4 : A 4 = t4) (htx : μ 540 = tx) (hn : (A 0).toInt = (n : Int)) (h8 : n ≤ 8) (ho : ∀ k, k < n → A (20 + 6 * k) = od k 0 ∧ A (20 + 6 * k + 1) = od k 1) (hy : ∀ k, k < n → bd (od k 1) (-1000000) 1000000) : ∀ (d k fu : Nat) (l2 : Int32) (N T : Nat → Int32) (V : Nat → Int64), n = k + d → l2.toInt = (k : Int) → d < fu →
    ∃ N' T' V', mX2_over_l4 fu (WM μ z F A N T V) (some 537) (ovF tx t4 od k) l2 = some (ovF tx t4 od n, WM μ z F A N' T' V') := by
  intro d
  induction d with
  | zero =>
    intro k fu l2 N T V hk h2 hf
    obtain ⟨e, rfl⟩ : ∃ e, fu = e + 1 := ⟨fu - 1, by omega⟩
    have hkn : k = n := by omega
    subst hkn
    refine ⟨N, T, V, ?_⟩
    show mX2_over_b4 _ _ _ _ _ = _
    unfold mX2_over_b4
    refine bind_step (gR_537_0 554 (by omega) _ _) ?_
    refine bind_step (iaA (n := 0) rfl (by omega)) ?_
    exact if_pos (by rw [Int32.le_iff_toInt_le, hn, h2]; omega)
  | succ d ih =>
    intro k fu l2 N T V hk h2 hf
    obtain ⟨e, rfl⟩ : ∃ e, fu = e + 1 := ⟨fu - 1, by omega⟩
    obtain ⟨o0, o1⟩ := ho k (by omega)
    obtain ⟨T1, V1, hh⟩ := holds2_E (F := F) (A := A) (N := N) (T := T) (V := V) (a := od k 1) hT (by rw [hA4]; exact h4) (hy k (by omega))
    rw [hA4, htx] at hh
    obtain ⟨N', T', V', q2⟩ := ih (k + 1) e (l2 + 1) (upd N 7 (od k 1)) T1 V1 (by omega) (inc_I h2 (by omega)) (by omega)
    refine ⟨N', T', V', ?_⟩
    show mX2_over_b4 _ _ _ _ _ = _
    unfold mX2_over_b4
    refine bind_step (gR_537_0 554 (by omega) _ _) ?_
    refine bind_step (iaA (n := 0) rfl (by omega)) ?_
    refine (if_neg (by rw [Int32.le_iff_toInt_le, hn, h2]; omega)).trans ?_
    refine bind_step (recv_537 554 (by omega) _ _) ?_
    refine bind_step (cal_w (get_E (w := 0) h2 rfl (by omega) (by omega))) ?_
    refine bind_step (recv_537 554 (by omega) _ _) ?_
    refine bind_step (cal_w (get_E (w := 1) h2 rfl (by omega) (by omega))) ?_
    rw [o1, show A (20 + 6 * k + 0) = od k 0 from o0]
    refine bind_step (recv_537 554 (by omega) _ _) ?_
    refine bind_step (calM hh) ?_
    by_cases hc : od k 0 ≤ hdF tx t4 (od k 1)
    · refine (if_pos hc).trans ?_
      rw [show ovF tx t4 od (k + 1) = ovF tx t4 od k ||| 0 from if_pos hc] at q2
      exact q2
    · refine (if_neg hc).trans ?_
      refine bind_step rfl ?_
      rw [show ovF tx t4 od (k + 1) = ovF tx t4 od k ||| (1 <<< (Int32.ofNat k &&& 31)) from if_neg hc] at q2
      rw [I_nat h2]
      rw [I_nat h2] at q2
      exact q2
/-- what the orders say, at hand -/
theorem Inv_o {L : Nat} {xs : Nat → Int32} {n : Nat} {μ : Mu} {z : Zt} (hI : Inv (TX TT) L xs n μ z) : ∃ n0 : Nat, (μ 402 0).toInt = (n0 : Int) ∧ n0 ≤ 8 ∧ μ 538 0 = μ 402 0 ∧ ∀ o, o < n0 → (∀ j, j < 5 → μ 538 (20 + 6 * o + j) = fam μ 405 8 o j) ∧ bd (fam μ 405 8 o 0) 1 99 ∧ bd (fam μ 405 8 o 1) 0 60 ∧ μ 538 (25 + 6 * o) = bitAt (μ 403 11) o := by
  have hB := Inv_Both hI
  have hp := hB.1
  obtain ⟨k, n0, -, hn0, -, h8, -⟩ := PSw_nums hp
  refine ⟨n0, hn0, h8, hp.1.1.1, fun o ho => ?_⟩
  obtain ⟨a1, a2, a3, -⟩ := hp.2.1 o (by rw [hn0]; omega)
  exact ⟨a1, a2, a3, hp.2.2.2.2.1.2.2.2.2.2.1 o (by rw [hn0]; omega)⟩
theorem ow_over (L : Nat) (xs : Nat → Int32) : Ow_over (Inv (TX TT) L xs) := by
  intro n μ z hI
  obtain ⟨t, ht, ht9, hgo, hTc, hn1, h4, h2, hc7, hf25⟩ := Inv_q hI
  obtain ⟨m, hm, hm8, e0, ho⟩ := Inv_o hI
  have hz := hI.2.2.2.1.2.1
  have hy : ∀ k, k < m → bd (fam μ 405 8 k 1) (-1000000) 1000000 := fun k hk => bd_w (ho k hk).2.2.1 (by omega) (by omega)
  obtain ⟨μ1, hQ, f1⟩ := over0_loop hz hTc hm hm8 hy m 0 FU 0 μ (fun _ _ => rfl) (by omega) rfl (by unfold FU; omega)
  have hq := hQ.cq
  have hT1 := (hQ.tc hz hTc).2.1
  have e538 : μ1 538 = μ 538 := hQ 538 (by omega)
  obtain ⟨N', T', V', f2⟩ := over2_loop (μ := μ1) (z := z) (F := μ1 537) (A := μ1 538) (tx := μ 540) (t4 := μ 402 3) (od := fam μ 405 8) (n := m) hT1 (by rw [hQ 402 (by omega)]; exact hTc.2.2) (by rw [e538]; exact h4) (hQ 540 (by omega)) (by rw [e538, e0]; exact hm) hm8 (fun k hk => by rw [e538]; exact ⟨(ho k hk).1 0 (by omega), (ho k hk).1 1 (by omega)⟩) hy m 0 FU 0 (μ1 543) (μ1 545) (z.1 544) (by omega) rfl (by unfold FU; omega)
  refine Agr_q hI ht _ f1 hq (μ2 := fM μ1 (μ1 537) (μ1 538) N' T') (z2 := zM z V') ?_ (MFr_M (fun j hj => rfl)) ?_
  · show mX2_over 537 (E μ1 z) = _
    rw [WM_0]
    exact f2
  · rw [show fM μ1 (μ1 537) (μ1 538) N' T' 538 = μ1 538 from rfl, e538]
    exact RgOk.refl _ _
/-- howFar: q yards from k on -/
def hwF (tx : Nat → Int32) (t4 w : Int32) : Nat → Nat → Int32
  | 0, k => Int32.ofNat k - 1
  | q + 1, k => if hdF tx t4 (Int32.ofNat k) < w then Int32.ofNat k - 1 else hwF tx t4 w q (k + 1)
theorem bd_nat {k : Nat} (hk : k < 61) : bd (Int32.ofNat k) (-1000000) 1000000 := ⟨by rw [tI (by omega)]; omega, by rw [tI (by omega)]; omega⟩
theorem howFar0_loop {μ0 : Mu} {z : Zt} {w : Int32} (hz : 554 ≤ z.2.2.2.1) (hT : Tc μ0 z) : ∀ (d k fu : Nat) (l2 : Int32) (μ : Mu), Q8 μ0 μ → 61 = k + d → l2.toInt = (k : Int) - 1 → d < fu →
    ∃ μ', Q8 μ0 μ' ∧ mX0_howFar_l14 fu (E μ z) (some 400) w l2 = some (hwF (μ0 540) (μ0 402 3) w d k, E μ' z) := by
  have c60 : (60 : Int32).toInt = 60 := rfl
  have c1 : (1 : Int32).toInt = 1 := rfl
  have sub1 : ∀ (k : Nat) (l2 : Int32), k < 1000 → l2.toInt = (k : Int) - 1 → l2 = Int32.ofNat k - 1 := fun k l2 hk h => I32_eq (by rw [h, I32_sub (tI (by omega)) c1 (by omega)])
  intro d
  induction d with
  | zero =>
    intro k fu l2 μ hQ hk h2 hf
    obtain ⟨e, rfl⟩ : ∃ e, fu = e + 1 := ⟨fu - 1, by omega⟩
    refine ⟨μ, hQ, ?_⟩
    show mX0_howFar_b14 _ _ _ _ _ = _
    unfold mX0_howFar_b14
    refine (if_pos (by rw [Int32.le_iff_toInt_le, c60, h2]; omega)).trans ?_
    rw [sub1 k l2 (by omega) h2]
    rfl
  | succ d ih =>
    intro k fu l2 μ hQ hk h2 hf
    obtain ⟨e, rfl⟩ : ∃ e, fu = e + 1 := ⟨fu - 1, by omega⟩
    have l21 : l2 + 1 = Int32.ofNat k := I32_eq (by rw [I32_small h2 c1 (by omega), tI (by omega)]; omega)
    have hh := holds0_E (a := Int32.ofNat k) hz (hQ.tc hz hT) (bd_nat (by omega))
    rw [hQ 540 (by omega), hQ 402 (by omega)] at hh
    obtain ⟨μ', q1, q2⟩ := ih (k + 1) e (l2 + 1) (setM μ 518 (upd (μ 518) 7 (Int32.ofNat k))) hQ.set (by omega) (by rw [l21, tI (by omega)]; omega) (by omega)
    by_cases hc : hdF (μ0 540) (μ0 402 3) (Int32.ofNat k) < w
    · refine ⟨setM μ 518 (upd (μ 518) 7 (Int32.ofNat k)), hQ.set, ?_⟩
      show mX0_howFar_b14 _ _ _ _ _ = _
      unfold mX0_howFar_b14
      refine (if_neg (by rw [Int32.le_iff_toInt_le, c60, h2]; omega)).trans ?_
      refine bind_step (recv_400 554 (by omega) _ _) ?_
      rw [l21]
      refine bind_step (cal_E hh) ?_
      refine (if_pos hc).trans ?_
      rw [show hwF (μ0 540) (μ0 402 3) w (d + 1) k = Int32.ofNat k - 1 from if_pos hc, sub1 k l2 (by omega) h2]
    · refine ⟨μ', q1, ?_⟩
      show mX0_howFar_b14 _ _ _ _ _ = _
      unfold mX0_howFar_b14
      refine (if_neg (by rw [Int32.le_iff_toInt_le, c60, h2]; omega)).trans ?_
      refine bind_step (recv_400 554 (by omega) _ _) ?_
      rw [l21] at q2 ⊢
      refine bind_step (cal_E hh) ?_
      refine (if_neg hc).trans ?_
      rw [show hwF (μ0 540) (μ0 402 3) w (d + 1) k = hwF (μ0 540) (μ0 402 3) w d (k + 1) from if_neg hc]
      exact q2
theorem howFar2_loop {μ : Mu} {z : Zt} {F A : Nat → Int32} {w : Int32} {tx : Nat → Int32} {t4 : Int32} (hT : TX TT μ z) (h4 : -1 ≤ t4.toInt ∧ t4.toInt < (μ 402 2).toInt) (hA4 : A 4 = t4) (htx : μ 540 = tx) : ∀ (d k fu : Nat) (l2 : Int32) (N T : Nat → Int32) (V : Nat → Int64), 61 = k + d → l2.toInt = (k : Int) → d < fu →
    ∃ N' T' V', mX2_howFar_l14 fu (WM μ z F A N T V) (some 537) w l2 = some (hwF tx t4 w d k, WM μ z F A N' T' V') := by
  have c61 : (61 : Int32).toInt = 61 := rfl
  intro d
  induction d with
  | zero =>
    intro k fu l2 N T V hk h2 hf
    obtain ⟨e, rfl⟩ : ∃ e, fu = e + 1 := ⟨fu - 1, by omega⟩
    refine ⟨N, T, V, ?_⟩
    show mX2_howFar_b14 _ _ _ _ _ = _
    unfold mX2_howFar_b14
    refine (if_pos (by rw [Int32.le_iff_toInt_le, c61, h2]; omega)).trans ?_
    rw [I_nat h2]
    rfl
  | succ d ih =>
    intro k fu l2 N T V hk h2 hf
    obtain ⟨e, rfl⟩ : ∃ e, fu = e + 1 := ⟨fu - 1, by omega⟩
    have l21 : l2 = Int32.ofNat k := I_nat h2
    obtain ⟨T1, V1, hh⟩ := holds2_E (F := F) (A := A) (N := N) (T := T) (V := V) (a := Int32.ofNat k) hT (by rw [hA4]; exact h4) (bd_nat (by omega))
    rw [hA4, htx] at hh
    obtain ⟨N', T', V', q2⟩ := ih (k + 1) e (l2 + 1) (upd N 7 (Int32.ofNat k)) T1 V1 (by omega) (inc_I h2 (by omega)) (by omega)
    by_cases hc : hdF tx t4 (Int32.ofNat k) < w
    · refine ⟨upd N 7 (Int32.ofNat k), T1, V1, ?_⟩
      show mX2_howFar_b14 _ _ _ _ _ = _
      unfold mX2_howFar_b14
      refine (if_neg (by rw [Int32.le_iff_toInt_le, c61, h2]; omega)).trans ?_
      refine bind_step (recv_537 554 (by omega) _ _) ?_
      rw [l21]
      refine bind_step (calM hh) ?_
      refine (if_pos hc).trans ?_
      rw [show hwF tx t4 w (d + 1) k = Int32.ofNat k - 1 from if_pos hc]
    · refine ⟨N', T', V', ?_⟩
      show mX2_howFar_b14 _ _ _ _ _ = _
      unfold mX2_howFar_b14
      refine (if_neg (by rw [Int32.le_iff_toInt_le, c61, h2]; omega)).trans ?_
      refine bind_step (recv_537 554 (by omega) _ _) ?_
      rw [l21] at q2 ⊢
      refine bind_step (calM hh) ?_
      refine (if_neg hc).trans ?_
      rw [show hwF tx t4 w (d + 1) k = hwF tx t4 w d (k + 1) from if_neg hc]
      exact q2
theorem ow_howFar (L : Nat) (xs : Nat → Int32) : Ow_howFar (Inv (TX TT) L xs) := by
  intro n μ z a hI
  obtain ⟨t, ht, ht9, hgo, hTc, hn1, h4, h2, hc7, hf25⟩ := Inv_q hI
  have hz := hI.2.2.2.1.2.1
  rcases inB_01 a 1 99 with h | h
  · refine Agr_ro hI (-1) ?_ ?_
    · show mX0_howFar 400 a (E μ z) = _
      unfold mX0_howFar
      refine bind_step (cal_w (in_E _ _ _ _)) ?_
      exact if_neg (fun q => q h)
    · show mX2_howFar 537 a (E μ z) = _
      unfold mX2_howFar
      refine bind_step (cal_w (isIn_E _ _ _ _)) ?_
      exact if_neg (fun q => q h)
  · have hq9 : ¬ inB a 1 99 = 0 := by rw [h]; exact one_ne
    obtain ⟨μ1, hQ, f1⟩ := howFar0_loop (w := a) hz hTc 61 0 FU (-1) μ (fun _ _ => rfl) (by omega) rfl (by unfold FU; omega)
    have hT1 := (hQ.tc hz hTc).2.1
    have e538 : μ1 538 = μ 538 := hQ 538 (by omega)
    obtain ⟨N', T', V', f2⟩ := howFar2_loop (μ := μ1) (z := z) (F := μ1 537) (A := μ1 538) (w := a) (tx := μ 540) (t4 := μ 402 3) hT1 (by rw [hQ 402 (by omega)]; exact hTc.2.2) (by rw [e538]; exact h4) (hQ 540 (by omega)) 61 0 FU 0 (μ1 543) (μ1 545) (z.1 544) (by omega) rfl (by unfold FU; omega)
    refine Agr_q hI ht (hwF (μ 540) (μ 402 3) a 61 0) (μ1 := μ1) ?_ hQ.cq (μ2 := fM μ1 (μ1 537) (μ1 538) N' T') (z2 := zM z V') ?_ (MFr_M (fun j hj => rfl)) ?_
    · show mX0_howFar 400 a (E μ z) = _
      unfold mX0_howFar
      refine bind_step (cal_w (in_E _ _ _ _)) ?_
      refine (if_pos hq9).trans ?_
      exact f1
    · show mX2_howFar 537 a (E μ1 z) = _
      unfold mX2_howFar
      refine bind_step (cal_w (isIn_E _ _ _ _)) ?_
      refine (if_pos hq9).trans ?_
      rw [WM_0]
      exact f2
    · rw [show fM μ1 (μ1 537) (μ1 538) N' T' 538 = μ1 538 from rfl, e538]
      exact RgOk.refl _ _
