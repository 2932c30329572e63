/-! ===== the model asks a law ===== -/
section WM66
variable {μ : Mu} {z : Zt} {F A N T : Nat → Int32} {V : Nat → Int64}
theorem calM {ρ : Type} {p p' : Nat} {μ μ' : Mu} {z : Zt} {V V' : Nat → Int64} {f : Option (ρ × Wd)} {v : ρ} (h : f = some (v, Ep p' μ' (zM z V'))) : cal (Ep p μ (zM z V)) f = some (v, Ep p' μ' (zM z V')) := cal_Z h (Nat.le_refl _) (Nat.le_refl _)
def okI (r : Option Nat) : Int32 := match r with
  | none => -1
  | some k => Int32.ofNat k
theorem clauseOf_loop {tt nc : Nat} {a s : Int32} (ha : a.toInt = (tt : Int)) (htt : tt < 4) (hnc : (μ 540 (753 * tt)).toInt = (nc : Int)) (h24 : nc ≤ 24) : ∀ (q k fu : Nat) (l3 : Int32), nc = k + q → l3.toInt = (k : Int) → q < fu →
    mX2_clauseOf_l2 fu (WM μ z F A N T V) (some 537) a s l3 = some (okI (fclA (μ 540) (753 * tt) s q k), WM μ z F A N T V) := by
  have e1 : (753 * a).toInt = ((753 * tt : Nat) : Int) := mulN (x := 753) rfl ha (by omega)
  have hneg : ¬ a < 0 := by
    rw [Int32.lt_iff_toInt_lt, ha]
    show ¬ (tt : Int) < 0
    omega
  intro q
  induction q with
  | zero =>
    intro k fu l3 hk hl hf
    obtain ⟨g, rfl⟩ : ∃ g, fu = g + 1 := ⟨fu - 1, by omega⟩
    show mX2_clauseOf_b2 _ _ _ _ _ _ = _
    unfold mX2_clauseOf_b2
    refine (if_neg hneg).trans ?_
    refine bind_step (gR_537_2 554 (by omega) _ _) ?_
    refine bind_step (iaTx e1 (by omega)) ?_
    refine (if_pos (by rw [Int32.le_iff_toInt_le, hnc, hl]; omega)).trans ?_
    rfl
  | succ q ih =>
    intro k fu l3 hk hl hf
    obtain ⟨g, rfl⟩ : ∃ g, fu = g + 1 := ⟨fu - 1, by omega⟩
    show mX2_clauseOf_b2 _ _ _ _ _ _ = _
    unfold mX2_clauseOf_b2
    refine (if_neg hneg).trans ?_
    refine bind_step (gR_537_2 554 (by omega) _ _) ?_
    refine bind_step (iaTx e1 (by omega)) ?_
    refine (if_neg (by rw [Int32.le_iff_toInt_le, hnc, hl]; omega)).trans ?_
    refine bind_step (gR_537_2 554 (by omega) _ _) ?_
    refine bind_step (iaTx (n := 753 * tt + 1 + 6 * k) (addN (addN e1 (y := 1) rfl (by omega)) (mulN (x := 6) rfl hl (by omega)) (by omega)) (by omega)) ?_
    by_cases hs : μ 540 (753 * tt + 1 + 6 * k) = s
    · refine (if_neg (fun h => h hs)).trans ?_
      have e : fclA (μ 540) (753 * tt) s (q + 1) k = some k := if_pos hs
      rw [e]
      have : l3 = Int32.ofNat k := I32_eq (by rw [hl, tI (by omega)])
      rw [this]
      rfl
    · refine (if_pos hs).trans ?_
      have e : fclA (μ 540) (753 * tt) s (q + 1) k = fclA (μ 540) (753 * tt) s q (k + 1) := if_neg hs
      rw [e]
      exact ih (k + 1) g (l3 + 1) (by omega) (inc_I hl (by omega)) (by omega)
theorem clauseOf_E {a s : Int32} (hT : TX TT μ z) (ha : -1 ≤ a.toInt ∧ a.toInt < (μ 402 2).toInt) : mX2_clauseOf 537 a s (WM μ z F A N T V) = some (okI (clsF (μ 540) a s), WM μ z F A N T V) := by
  unfold mX2_clauseOf
  by_cases h : a = -1
  · subst h
    show mX2_clauseOf_b2 (mX2_clauseOf_l2 99999) _ _ _ _ _ = _
    unfold mX2_clauseOf_b2
    rfl
  · have h0 : 0 ≤ a.toInt := by
      have : a.toInt ≠ -1 := fun q => h (I32_eq q)
      omega
    have h4 := hT.2.2.2.1.2
    obtain ⟨y, -, g1, g2, la, dl, cl, f, nc, g3, g4, g5, g6, g7, g8, g9, g10⟩ := hT.2.2.2.2.2.1 a.toInt.toNat (by omega)
    have e := clauseOf_loop (μ := μ) (z := z) (F := F) (A := A) (N := N) (T := T) (V := V) (a := a) (s := s) (tt := a.toInt.toNat) (by omega) (by omega) g7 g8 nc 0 FU 0 (by omega) rfl (by unfold FU; omega)
    rw [e]
    unfold clsF fcl
    rw [if_neg h, g7]
    rfl
theorem okI_neg {k : Nat} (h : k < 24) : 0 ≤ (Int32.ofNat k) := by
  rw [Int32.le_iff_toInt_le, tI (by omega)]
  show (0 : Int) ≤ (k : Int)
  omega
/-- what is known of a clause that is there -/
theorem cls_some {a : Int32} {s k : Nat} (hs : s < 5) (hT : TX TT μ z) (ha : -1 ≤ a.toInt ∧ a.toInt < (μ 402 2).toInt) (h : clsF (μ 540) a (Int32.ofNat s) = some k) : ∃ tt x1 x2 r : Nat, a.toInt = (tt : Int) ∧ tt < 4 ∧ k < 24 ∧ (μ 540 (753 * tt + 1 + 6 * k + 1)).toInt = (x1 : Int) ∧ (μ 540 (753 * tt + 1 + 6 * k + 2)).toInt = (x2 : Int) ∧ x1 ≤ x2 ∧ x2 ≤ 302 ∧ SumT EVD s z.2.2.1 z.2.2.2.1 r (codF (μ 540) tt k) := by
  unfold clsF at h
  by_cases hm : a = -1
  · rw [if_pos hm] at h
    cases h
  · rw [if_neg hm] at h
    have h0 : 0 ≤ a.toInt := by
      have : a.toInt ≠ -1 := fun q => hm (I32_eq q)
      omega
    have h4 := hT.2.2.2.1.2
    obtain ⟨y, -, g1, g2, la, dl, cl, f, nc, g3, g4, g5, g6, g7, g8, g9, g10⟩ := hT.2.2.2.2.2.1 a.toInt.toNat (by omega)
    rcases g9 s hs with ⟨-, c2⟩ | ⟨r, k', c1, c2, c3, ⟨x1, x2, c4, c5, c6, c7⟩, c8⟩
    · rw [c2] at h
      cases h
    · rw [c2] at h
      cases h
      exact ⟨a.toInt.toNat, x1, x2, r, by omega, by omega, c3, c4, c5, c6, c7, c8⟩
theorem worked_T {a : Int32} {s k t f : Nat} {N0 : Nat → Int32} (hs : s < 5) (hT : TX TT μ z) (ha : -1 ≤ a.toInt ∧ a.toInt < (μ 402 2).toInt) (h : clsF (μ 540) a (Int32.ofNat s) = some k) (hFE : ((F 21).toInt = (t : Int) ∧ (F 22).toInt = (f : Int)) ∨ 3 ≤ s) (ht : t < 1000000) (hk : kindOk s N0 N (agM t f A)) :
    bdJ (clV (μ 540) a.toInt.toNat k N (agM t f A)) ∧ ∃ T' V', mX2_worked 537 a (Int32.ofNat k) (WM μ z F A N T V) = some ((clV (μ 540) a.toInt.toNat k N (agM t f A)).toInt32, WM μ z F A N T' V') := by
  obtain ⟨tt, x1, x2, r, a1, a2, a3, a4, a5, a6, a7, a8⟩ := cls_some hs hT ha h
  obtain ⟨v, v1, -, v2⟩ := a8.2.2.2 EVD (fun _ => N0) z N (agM t f A) (Nat.le_refl _) (fun _ _ => rfl) hk
  have ett : a.toInt.toNat = tt := by omega
  obtain ⟨-, -, -, -, hna⟩ := a8.2.2.1
  have hr := v2 [] []
  have ev : clV (μ 540) a.toInt.toNat k N (agM t f A) = v := by
    unfold clV
    rw [ett, hr]
  rw [ev]
  refine ⟨v1, ?_⟩
  unfold codF at hr hna
  rw [show (μ 540 (753 * tt + 1 + 6 * k + 1)).toInt.toNat = x1 by omega, show (μ 540 (753 * tt + 1 + 6 * k + 2)).toInt.toNat = x2 by omega] at hr hna
  exact worked_E a1 (tI (by omega)) a2 a3 a4 a5 a6 a7 (hFE.imp id hna) ht hr
theorem says_E3 {s : Nat} {wo lo hi : Int32} {t f : Nat} {N0 : Nat → Int32} (hs : s < 5) (hT : TX TT μ z) (ha : -1 ≤ (A 4).toInt ∧ (A 4).toInt < (μ 402 2).toInt) (hFE : ((F 21).toInt = (t : Int) ∧ (F 22).toInt = (f : Int)) ∨ 3 ≤ s) (ht : t < 1000000) (hk : kindOk s N0 N (agM t f A)) :
    ∃ T' V', mX2_says 537 (Int32.ofNat s) wo lo hi (WM μ z F A N T V) = some (sayF (μ 540) (A 4) (Int32.ofNat s) wo lo hi N (agM t f A), WM μ z F A N T' V') := by
  unfold sayF mX2_says
  cases hc : clsF (μ 540) (A 4) (Int32.ofNat s) with
  | none =>
    refine ⟨T, V, ?_⟩
    refine bind_step (gR_537_0 554 (by omega) _ _) ?_
    refine bind_step (iaA (n := 4) rfl (by omega)) ?_
    refine bind_step (recv_537 554 (by omega) _ _) ?_
    refine bind_step (cal_w (clauseOf_E hT ha)) ?_
    rw [hc]
    rfl
  | some k =>
    obtain ⟨-, T', V', e⟩ := worked_T (T := T) (V := V) hs hT ha hc hFE ht hk
    obtain ⟨tt, x1, x2, r, a1, a2, a3, -⟩ := cls_some hs hT ha hc
    refine ⟨T', V', ?_⟩
    refine bind_step (gR_537_0 554 (by omega) _ _) ?_
    refine bind_step (iaA (n := 4) rfl (by omega)) ?_
    refine bind_step (recv_537 554 (by omega) _ _) ?_
    refine bind_step (cal_w (clauseOf_E hT ha)) ?_
    rw [hc]
    refine (if_pos (okI_neg a3)).trans ?_
    refine bind_step (gR_537_0 554 (by omega) _ _) ?_
    refine bind_step (iaA (n := 4) rfl (by omega)) ?_
    refine bind_step (recv_537 554 (by omega) _ _) ?_
    refine bind_step (calM e) ?_
    refine bind_step (cal_w cut_E) ?_
    rfl
theorem says_E {s : Nat} {wo lo hi : Int32} {t f : Nat} {N0 : Nat → Int32} (hs : s < 5) (hT : TX TT μ z) (ha : -1 ≤ (A 4).toInt ∧ (A 4).toInt < (μ 402 2).toInt) (hF : (F 21).toInt = (t : Int)) (hE : (F 22).toInt = (f : Int)) (ht : t < 1000000) (hk : kindOk s N0 N (agM t f A)) :
    ∃ T' V', mX2_says 537 (Int32.ofNat s) wo lo hi (WM μ z F A N T V) = some (sayF (μ 540) (A 4) (Int32.ofNat s) wo lo hi N (agM t f A), WM μ z F A N T' V') :=
  says_E3 hs hT ha (Or.inl ⟨hF, hE⟩) ht hk
theorem cmd26 {v : Int32} {w : Wd} : mX2_commandBy_p26 w v = some ((if v ≤ 0 then (if 0 ≤ v then 0 else -1) else 1), w) := by
  unfold mX2_commandBy_p26
  split
  · split <;> rfl
  · rfl
theorem commandBy2_E {a : Int32} {t f : Nat} {N0 : Nat → Int32} (hT : TX TT μ z) (ha : -1 ≤ a.toInt ∧ a.toInt < (μ 402 2).toInt) (hF : (F 21).toInt = (t : Int)) (hE : (F 22).toInt = (f : Int)) (ht : t < 1000000) (hk : kindOk 2 N0 N (agM t f A)) :
    ∃ T' V', mX2_commandBy 537 a (WM μ z F A N T V) = some (cmdF (μ 540) a N (agM t f A), WM μ z F A N T' V') := by
  unfold cmdF mX2_commandBy
  cases hc : clsF (μ 540) a 2 with
  | none =>
    refine ⟨T, V, ?_⟩
    refine bind_step (recv_537 554 (by omega) _ _) ?_
    refine bind_step (cal_w (clauseOf_E hT ha)) ?_
    rw [hc]
    refine (if_neg (show ¬ (0 : Int32) ≤ -1 by decide)).trans ?_
    refine bind_step (gR_537_20 554 (by omega) _ _) ?_
    refine bind_step (iaNm (n := 4) rfl (by omega)) ?_
    exact cmd26
  | some k =>
    obtain ⟨-, T', V', e⟩ := worked_T (s := 2) (T := T) (V := V) (by omega) hT ha hc (Or.inl ⟨hF, hE⟩) ht hk
    obtain ⟨tt, x1, x2, r, a1, a2, a3, -⟩ := cls_some (s := 2) (by omega) hT ha hc
    refine ⟨T', V', ?_⟩
    refine bind_step (recv_537 554 (by omega) _ _) ?_
    refine bind_step (cal_w (clauseOf_E hT ha)) ?_
    rw [hc]
    refine (if_pos (okI_neg a3)).trans ?_
    refine bind_step (recv_537 554 (by omega) _ _) ?_
    refine bind_step (calM e) ?_
    exact cmd26
theorem eld_I {x : Int32} {t : Nat} (h : x.toInt = (t : Int)) (ht : t < 1000000) : (eldF x).toInt = ((t - 60 : Nat) : Int) := by
  unfold eldF
  by_cases hc : 60 ≤ x
  · rw [if_pos hc]
    rw [Int32.le_iff_toInt_le, h] at hc
    have : (60 : Int32).toInt = 60 := rfl
    exact subN h rfl (by omega) (by omega)
  · rw [if_neg hc]
    rw [Int32.le_iff_toInt_le, h] at hc
    have : (60 : Int32).toInt = 60 := rfl
    show (0 : Int) = _
    omega
/-- the model's own numbers, as names are laid -/
def fNow (F A : Nat → Int32) : Nat → Int32 := upd (upd F 21 (A 16)) 22 (eldF (A 16))
theorem commandNow_E {a : Int32} {t : Nat} {N0 : Nat → Int32} (hT : TX TT μ z) (ha : -1 ≤ a.toInt ∧ a.toInt < (μ 402 2).toInt) (h16 : (A 16).toInt = (t : Int)) (ht : t < 1000000) (hk : kindOk 2 N0 (nmM A N) (agM t (t - 60) A)) :
    ∃ T' V', mX2_commandNow 537 a (WM μ z F A N T V) = some (cmdF (μ 540) a (nmM A N) (agM t (t - 60) A), WM μ z (fNow F A) A (nmM A N) T' V') := by
  obtain ⟨T', V', e⟩ := commandBy2_E (μ := μ) (z := z) (F := fNow F A) (A := A) (N := nmM A N) (T := T) (V := V) (a := a) (t := t) (f := t - 60) hT ha h16 (eld_I h16 ht) ht hk
  refine ⟨T', V', ?_⟩
  unfold mX2_commandNow
  refine bind_step (recv_537 554 (by omega) _ _) ?_
  refine bind_step (cal_E nameNow_E) ?_
  refine bind_step (recv_537 554 (by omega) _ _) ?_
  refine bind_step (calM e) ?_
  rfl
end WM66
