/-! ===== the component asks a law ===== -/
theorem toI32 {v : Int64} (h : -2147483648 ≤ v.toInt ∧ v.toInt < 2147483648) : v.toInt32.toInt = v.toInt := by
  rw [Int64.toInt_toInt32, Int.bmod_eq_of_le (by omega) (by omega)]
theorem toI64 (x : Int32) : x.toInt64.toInt = x.toInt := Int32.toInt_toInt64 x
theorem I32_eq {a b : Int32} (h : a.toInt = b.toInt) : a = b := Int32.toInt_inj.mp h
theorem held_cut {v : Int64} {lo hi : Int32} (h : -2147483648 ≤ v.toInt ∧ v.toInt < 2147483648) (hlh : lo.toInt ≤ hi.toInt) : (jmaxJ (lo.toInt64) (jminJ (hi.toInt64) v)).toInt32 = cutF v.toInt32 lo hi := by
  have e := toI32 h
  have back : ∀ x : Int32, x.toInt64.toInt32 = x := fun x => I32_eq (by rw [toI32 (by rw [toI64]; exact ⟨Int32.le_toInt x, Int32.toInt_lt x⟩), toI64])
  have e1 : jminJ (hi.toInt64) v = if v.toInt < hi.toInt then v else hi.toInt64 := by
    unfold jminJ
    simp only [Int64.lt_iff_toInt_lt, toI64]
  have e2 : ∀ m : Int64, jmaxJ (lo.toInt64) m = if m.toInt < lo.toInt then lo.toInt64 else m := fun m => by
    unfold jmaxJ
    simp only [Int64.lt_iff_toInt_lt, toI64]
  have e3 : cutF v.toInt32 lo hi = if lo.toInt ≤ v.toInt then (if v.toInt ≤ hi.toInt then v.toInt32 else hi) else lo := by
    unfold cutF
    simp only [Int32.le_iff_toInt_le, e]
  rw [e1, e2, e3]
  by_cases h1 : v.toInt < hi.toInt
  · rw [if_pos h1]
    by_cases h2 : v.toInt < lo.toInt
    · rw [if_pos h2, if_neg (show ¬ lo.toInt ≤ v.toInt by omega), back]
    · rw [if_neg h2, if_pos (show lo.toInt ≤ v.toInt by omega), if_pos (show v.toInt ≤ hi.toInt by omega)]
  · rw [if_neg h1, if_neg (show ¬ hi.toInt64.toInt < lo.toInt by rw [toI64]; omega), back, if_pos (show lo.toInt ≤ v.toInt by omega)]
    by_cases h2 : v.toInt ≤ hi.toInt
    · rw [if_pos h2]
      exact I32_eq (by rw [e]; omega)
    · rw [if_neg h2]
theorem heldC_E {v : Int64} {lo hi : Int32} {w : Wd} (h : -2147483648 ≤ v.toInt ∧ v.toInt < 2147483648) (hlh : lo.toInt ≤ hi.toInt) : mX0_held v lo hi w = some (cutF v.toInt32 lo hi, w) := by
  unfold mX0_held
  rw [held_cut h hlh]
theorem E_oth {μ : Mu} {z : Zt} {k : Nat} (h : k < 400 ∨ 554 ≤ k) : (E μ z).1 k = z.2.2.1 k := if_neg (by omega)
theorem aa_at {w : Wd} {k len n : Nat} {ty : FieldType} {f : Nat → Option Nat} {i : Int32} (h : w.1 k = some (.inl (ty, len, .inr (.inr (.inr (.inr f)))))) (ht : ty.isReference = true) (hi : i.toInt = (n : Int)) (hn : n < len) : aa w (some k) i = some (f n) := by
  obtain ⟨h1, h2⟩ := cl_of hi
  unfold aa arr
  simp only [Option.bind_some, h]
  rw [if_pos ⟨ht, by rw [h2]; exact fun q => q.elim h1 (by omega)⟩, h2]
  rfl
/-- the text at y is the text of the number t, or none -/
def txtOf (μ : Mu) (z : Zt) (t : Int32) (y : Nat) : Prop := (t = -1 ∧ y = 1) ∨ (0 ≤ t.toInt ∧ t.toInt < (μ 402 2).toInt ∧ z.2.1 458 t.toInt.toNat = some y)
def Old0 (z : Zt) : Prop := ∃ L xs, ∀ k, k < 400 → z.2.2.1 k = f0 L xs k
theorem txt_law {μ : Mu} {z : Zt} {t : Int32} {y s : Nat} (h0 : Old0 z) (hT : TX TT μ z) (h : txtOf μ z t y) (hs : s < 5) : ∃ (la : Nat) (fs : List Value) (f : Nat → Option Nat), (E μ z).1 y = some (.inr (4, .ref la :: fs)) ∧ (E μ z).1 la = some (.inl (.object "HookSwings$Sum", 5, .inr (.inr (.inr (.inr f))))) ∧
    ((f s = none ∧ clsF (μ 540) t (Int32.ofNat s) = none) ∨ ∃ r k : Nat, f s = some r ∧ clsF (μ 540) t (Int32.ofNat s) = some k ∧ SumT EVD s z.2.2.1 z.2.2.2.1 r (codF (μ 540) t.toInt.toNat k)) := by
  rcases h with ⟨rfl, rfl⟩ | ⟨h1, h2, h3⟩
  · obtain ⟨L, xs, h0⟩ := h0
    refine ⟨2, [.int 0, .ref 3], fun _ => none, ?_, ?_, Or.inl ⟨rfl, if_pos rfl⟩⟩
    · rw [E_oth (by omega), h0 1 (by omega)]; rfl
    · rw [E_oth (by omega), h0 2 (by omega)]; rfl
  · obtain ⟨y', y1, y2⟩ := hT.2.2.2.2.2.1 t.toInt.toNat (by omega)
    rw [h3] at y1
    cases y1
    obtain ⟨g1, g2, la, dl, cl, f, nc, g3, g4, g5, g6, g7, g8, g9, g10⟩ := y2
    refine ⟨la, [.int cl, .ref dl], f, by rw [E_oth (by omega)]; exact g3, by rw [E_oth (by omega)]; exact g6, ?_⟩
    have ec : clsF (μ 540) t (Int32.ofNat s) = fcl (μ 540) t.toInt.toNat (Int32.ofNat s) := if_neg (fun q => by rw [q] at h1; exact absurd h1 (by decide))
    rw [ec]
    rcases g9 s hs with c1 | ⟨r, k, c1, c2, c3, c4, c5⟩
    · exact Or.inl c1
    · exact Or.inr ⟨r, k, c1, c2, c5⟩
theorem clV_of {μ : Mu} {z : Zt} {t e s r k : Nat} {nv : Nat → Int32} {ag : Nat → Nat → Int32} (h : SumT e s z.2.2.1 z.2.2.2.1 r (codF (μ 540) t k)) (hk : kindOk s (μ 518) nv ag) (e' : Nat) (he : e ≤ e') : bdJ (clV (μ 540) t k nv ag) ∧ dSum (ev9 e').1 r (some 518) (E μ z) = some (clV (μ 540) t k nv ag, E μ z) := by
  obtain ⟨v, h1, h2, h3⟩ := h.2.2.2 e' μ z nv ag he (fun _ _ => rfl) hk
  have : clV (μ 540) t k nv ag = v := by
    unfold clV
    rw [h3]
  rw [this]
  exact ⟨h1, h2⟩
theorem rules_E {μ : Mu} {z : Zt} (hT : TX TT μ z) (ht : -1 ≤ (μ 402 3).toInt ∧ (μ 402 3).toInt < (μ 402 2).toInt) : ∃ y, txtOf μ z (μ 402 3) y ∧ mX0_rules 400 (E μ z) = some (some y, E μ z) := by
  by_cases h : μ 402 3 = -1
  · refine ⟨1, Or.inl ⟨h, rfl⟩, ?_⟩
    unfold mX0_rules
    refine bind_step (gR_400_0 554 (by omega) _ _) ?_
    refine bind_step (gR_401_0 554 (by omega) _ _) ?_
    refine bind_step (ia_E (n := 3) isI_402 rfl (by omega)) ?_
    rw [h]
    rfl
  · have h0 : 0 ≤ (μ 402 3).toInt := by
      have : (μ 402 3).toInt ≠ -1 := fun q => h (I32_eq q)
      omega
    have h4 := hT.2.2.2.1.2
    obtain ⟨y, y1, -⟩ := hT.2.2.2.2.2.1 (μ 402 3).toInt.toNat (by omega)
    refine ⟨y, Or.inr ⟨h0, ht.2, y1⟩, ?_⟩
    unfold mX0_rules
    refine bind_step (gR_400_0 554 (by omega) _ _) ?_
    refine bind_step (gR_401_0 554 (by omega) _ _) ?_
    refine bind_step (ia_E (n := 3) isI_402 rfl (by omega)) ?_
    refine (if_pos h).trans ?_
    refine bind_step (gR_400_0 554 (by omega) _ _) ?_
    refine bind_step (gR_401_6 554 (by omega) _ _) ?_
    refine bind_step (gR_400_0 554 (by omega) _ _) ?_
    refine bind_step (gR_401_0 554 (by omega) _ _) ?_
    refine bind_step (ia_E (n := 3) isI_402 rfl (by omega)) ?_
    refine bind_step (aaX_E (n := (μ 402 3).toInt.toNat) isX_458 (by omega) (by omega)) ?_
    rw [y1]
theorem law_E {μ : Mu} {z : Zt} {s : Nat} {wo lo hi : Int32} {nv : Nat → Int32} {ag : Nat → Nat → Int32} (h0 : Old0 z) (hs : s < 5) (hT : TX TT μ z) (ht : -1 ≤ (μ 402 3).toInt ∧ (μ 402 3).toInt < (μ 402 2).toInt) (hk : kindOk s (μ 518) nv ag) (hlh : lo.toInt ≤ hi.toInt) :
    mX0_law 400 (Int32.ofNat s) wo lo hi (E μ z) = some (sayF (μ 540) (μ 402 3) (Int32.ofNat s) wo lo hi nv ag, E μ z) := by
  obtain ⟨y, y1, y2⟩ := rules_E hT ht
  obtain ⟨la, fs, f, f1, f2, f3⟩ := txt_law h0 hT y1 hs
  unfold mX0_law
  refine bind_step (recv_400 554 (by omega) _ _) ?_
  refine bind_step (cal_w y2) ?_
  refine bind_step (gR_at (j := 0) (r := some la) f1 rfl) ?_
  refine bind_step (aa_at (n := s) f2 (by decide) (tI (by omega)) hs) ?_
  unfold sayF
  rcases f3 with ⟨g1, g2⟩ | ⟨r, k, g1, g2, g3⟩
  · rw [g1, g2]
    rfl
  · rw [g1, g2]
    refine (if_pos (by simp)).trans ?_
    refine bind_step (gR_400_6 554 (by omega) _ _) ?_
    refine bind_step rfl ?_
    obtain ⟨c1, c2⟩ := clV_of g3 hk EVD (Nat.le_refl _)
    refine bind_step (cal_w c2) ?_
    have := c1.1
    have := c1.2
    have hb : -2147483648 ≤ (clV (μ 540) (μ 402 3).toInt.toNat k nv ag).toInt ∧ (clV (μ 540) (μ 402 3).toInt.toNat k nv ag).toInt < 2147483648 := by omega
    refine bind_step (cal_w (heldC_E hb hlh)) ?_
    rfl
theorem cmd_tail {v : Int64} {w : Wd} (h : bdJ v) : mX0_commandBy_p34 w v = some ((if v.toInt32 ≤ 0 then (if 0 ≤ v.toInt32 then 0 else -1) else 1), w) := by
  have e : v.toInt32.toInt = v.toInt := toI32 (by have := h.1; have := h.2; omega)
  have z64 : (0 : Int64).toInt = 0 := rfl
  have z32 : (0 : Int32).toInt = 0 := rfl
  unfold mX0_commandBy_p34
  simp only [lg_cmp_le, lg_cmp_ge]
  simp only [Int64.le_iff_toInt_le, Int32.le_iff_toInt_le, e, z64, z32]
  by_cases h1 : v.toInt ≤ 0
  · simp only [if_pos h1]
    by_cases h2 : 0 ≤ v.toInt
    · simp only [if_pos h2]
    · simp only [if_neg h2]
  · simp only [if_neg h1]
theorem commandBy_E {μ : Mu} {z : Zt} {t : Int32} {y : Nat} {nv : Nat → Int32} {ag : Nat → Nat → Int32} (h0 : Old0 z) (hT : TX TT μ z) (h : txtOf μ z t y) (hk : kindOk 2 (μ 518) nv ag) : mX0_commandBy 400 (some y) (E μ z) = some (cmdF (μ 540) t nv ag, E μ z) := by
  obtain ⟨la, fs, f, f1, f2, f3⟩ := txt_law (s := 2) h0 hT h (by omega)
  unfold mX0_commandBy
  refine bind_step (gR_at (j := 0) (r := some la) f1 rfl) ?_
  refine bind_step (aa_at (n := 2) f2 (by decide) rfl (by omega)) ?_
  unfold cmdF
  rcases f3 with ⟨g1, g2⟩ | ⟨r, k, g1, g2, g3⟩
  · rw [show clsF (μ 540) t 2 = none from g2]
    rw [g1]
    refine (if_neg (by simp)).trans ?_
    refine bind_step (gR_400_6 554 (by omega) _ _) ?_
    refine bind_step (ia_E (n := 4) isI_518 rfl (by omega)) ?_
    obtain ⟨k1, k2⟩ := hk.1 4 (Or.inl ⟨by omega, by omega⟩)
    have e : (nv 4).toInt64.toInt32 = nv 4 := I32_eq (by rw [toI32 (by rw [toI64]; exact ⟨Int32.le_toInt _, Int32.toInt_lt _⟩), toI64])
    rw [k1, cmd_tail (by rw [← k1]; unfold bdJ; rw [toI64]; exact k2), e]
  · rw [show clsF (μ 540) t 2 = some k from g2]
    rw [g1]
    refine (if_pos (by simp)).trans ?_
    refine bind_step (gR_at (j := 0) (r := some la) f1 rfl) ?_
    refine bind_step (aa_at (n := 2) f2 (by decide) rfl (by omega)) ?_
    refine bind_step (gR_400_6 554 (by omega) _ _) ?_
    rw [g1]
    refine bind_step rfl ?_
    obtain ⟨c1, c2⟩ := clV_of g3 hk EVD (Nat.le_refl _)
    refine bind_step (cal_w c2) ?_
    exact cmd_tail c1
