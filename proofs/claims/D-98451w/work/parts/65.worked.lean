/-! ===== the model works a code ===== -/
noncomputable def wkAO (k40 : Wd → (Option Nat) → Int32 → Int32 → Int32 → Int32 → Int32 → Option (Int32 × Wd)) (w : Wd) (l0 : Option Nat) (l3 : Int32) (l4 : Int32) (l5 : Int32) (l6 : Int32) (l7 : Int32) (v6 : Int32) (v8 : Int32) : Option (Int32 × Wd) :=
(gR w l0 2 24).bind fun v9 =>
if ¬ v6 = 21 then (
(gR w l0 2 24).bind fun v10 =>
(ba w v10 ((l6 + (-1)) - 1)).bind fun v11 =>
if ¬ v11 = 0 then (
(bas w v9 ((l6 + (-1)) - 1) 1).bind fun w12 =>
k40 w12 l0 l3 l4 l5 (l6 + (-1)) (l7 + 1))
else (
(gR w l0 2 24).bind fun v13 =>
(ba w v13 (l6 + (-1))).bind fun v14 =>
if v14 = 0 then (
(bas w v9 ((l6 + (-1)) - 1) 0).bind fun w15 =>
k40 w15 l0 l3 l4 l5 (l6 + (-1)) (l7 + 1))
else (
(bas w v9 ((l6 + (-1)) - 1) 1).bind fun w16 =>
k40 w16 l0 l3 l4 l5 (l6 + (-1)) (l7 + 1))))
else (
(gR w l0 2 24).bind fun v17 =>
(ba w v17 ((l6 + (-1)) - 1)).bind fun v18 =>
if v18 = 0 then (
(bas w v9 ((l6 + (-1)) - 1) 0).bind fun w19 =>
k40 w19 l0 l3 l4 l5 (l6 + (-1)) (l7 + 1))
else (
(gR w l0 2 24).bind fun v20 =>
(ba w v20 (l6 + (-1))).bind fun v21 =>
if v21 = 0 then (
(bas w v9 ((l6 + (-1)) - 1) 0).bind fun w22 =>
k40 w22 l0 l3 l4 l5 (l6 + (-1)) (l7 + 1))
else (
(bas w v9 ((l6 + (-1)) - 1) 1).bind fun w23 =>
k40 w23 l0 l3 l4 l5 (l6 + (-1)) (l7 + 1))))
noncomputable def wkNot (k40 : Wd → (Option Nat) → Int32 → Int32 → Int32 → Int32 → Int32 → Option (Int32 × Wd)) (w : Wd) (l0 : Option Nat) (l3 : Int32) (l4 : Int32) (l5 : Int32) (l6 : Int32) (l7 : Int32) (v6 : Int32) (v8 : Int32) : Option (Int32 × Wd) :=
(gR w l0 2 24).bind fun v24 =>
(gR w l0 2 24).bind fun v25 =>
(ba w v25 (l6 - 1)).bind fun v26 =>
if ¬ v26 = 0 then (
(bas w v24 (l6 - 1) 0).bind fun w27 =>
k40 w27 l0 l3 l4 l5 l6 (l7 + 1))
else (
(bas w v24 (l6 - 1) 1).bind fun w28 =>
k40 w28 l0 l3 l4 l5 l6 (l7 + 1))
noncomputable def wkAsk (k40 : Wd → (Option Nat) → Int32 → Int32 → Int32 → Int32 → Int32 → Option (Int32 × Wd)) (w : Wd) (l0 : Option Nat) (l3 : Int32) (l4 : Int32) (l5 : Int32) (l6 : Int32) (l7 : Int32) (v6 : Int32) (v8 : Int32) : Option (Int32 × Wd) :=
(gR w l0 2 24).bind fun v29 =>
(gR w l0 2 23).bind fun v30 =>
(la w v30 (l5 + (-2))).bind fun v31 =>
(gR w l0 2 23).bind fun v32 =>
(la w v32 ((l5 + (-2)) + 1)).bind fun v33 =>
(cal w (mX2_isAsked v6 v31 v33 w)).bind fun r34 =>
(bas r34.2 v29 l6 r34.1).bind fun w35 =>
k40 w35 l0 l3 l4 (l5 + (-2)) (l6 + 1) (l7 + 1)
noncomputable def wkTwo (k40 : Wd → (Option Nat) → Int32 → Int32 → Int32 → Int32 → Int32 → Option (Int32 × Wd)) (w : Wd) (l0 : Option Nat) (l3 : Int32) (l4 : Int32) (l5 : Int32) (l6 : Int32) (l7 : Int32) (v6 : Int32) (v8 : Int32) : Option (Int32 × Wd) :=
(gR w l0 2 23).bind fun v36 =>
(gR w l0 2 23).bind fun v37 =>
(la w v37 ((l5 + (-1)) - 1)).bind fun v38 =>
(gR w l0 2 23).bind fun v39 =>
(la w v39 (l5 + (-1))).bind fun v40 =>
(cal w (mX2_two v6 v38 v40 w)).bind fun r41 =>
(las r41.2 v36 ((l5 + (-1)) - 1) r41.1).bind fun w42 =>
k40 w42 l0 l3 l4 (l5 + (-1)) l6 (l7 + 1)
noncomputable def wkSize (k40 : Wd → (Option Nat) → Int32 → Int32 → Int32 → Int32 → Int32 → Option (Int32 × Wd)) (w : Wd) (l0 : Option Nat) (l3 : Int32) (l4 : Int32) (l5 : Int32) (l6 : Int32) (l7 : Int32) (v6 : Int32) (v8 : Int32) : Option (Int32 × Wd) :=
(gR w l0 2 23).bind fun v43 =>
(gR w l0 2 23).bind fun v44 =>
(la w v44 (l5 - 1)).bind fun v45 =>
if 0 ≤ (lg_cmp v45 0) then (
(gR w l0 2 23).bind fun v46 =>
(la w v46 (l5 - 1)).bind fun v47 =>
(las w v43 (l5 - 1) v47).bind fun w48 =>
k40 w48 l0 l3 l4 l5 l6 (l7 + 1))
else (
(gR w l0 2 23).bind fun v49 =>
(la w v49 (l5 - 1)).bind fun v50 =>
(las w v43 (l5 - 1) (-v50)).bind fun w51 =>
k40 w51 l0 l3 l4 l5 l6 (l7 + 1))
noncomputable def wkMin (k40 : Wd → (Option Nat) → Int32 → Int32 → Int32 → Int32 → Int32 → Option (Int32 × Wd)) (w : Wd) (l0 : Option Nat) (l3 : Int32) (l4 : Int32) (l5 : Int32) (l6 : Int32) (l7 : Int32) (v6 : Int32) (v8 : Int32) : Option (Int32 × Wd) :=
(gR w l0 2 23).bind fun v52 =>
(gR w l0 2 23).bind fun v53 =>
(la w v53 (l5 - 1)).bind fun v54 =>
(las w v52 (l5 - 1) (-v54)).bind fun w55 =>
k40 w55 l0 l3 l4 l5 l6 (l7 + 1)
noncomputable def wkSel (k40 : Wd → (Option Nat) → Int32 → Int32 → Int32 → Int32 → Int32 → Option (Int32 × Wd)) (w : Wd) (l0 : Option Nat) (l3 : Int32) (l4 : Int32) (l5 : Int32) (l6 : Int32) (l7 : Int32) (v6 : Int32) (v8 : Int32) : Option (Int32 × Wd) :=
(gR w l0 2 24).bind fun v56 =>
(ba w v56 (l6 + (-1))).bind fun v57 =>
if ¬ v57 = 0 then (
k40 w l0 l3 l4 (l5 + (-1)) (l6 + (-1)) (l7 + 1))
else (
(gR w l0 2 23).bind fun v58 =>
(gR w l0 2 23).bind fun v59 =>
(la w v59 (l5 + (-1))).bind fun v60 =>
(las w v58 ((l5 + (-1)) - 1) v60).bind fun w61 =>
k40 w61 l0 l3 l4 (l5 + (-1)) (l6 + (-1)) (l7 + 1))
noncomputable def wkPush (k40 : Wd → (Option Nat) → Int32 → Int32 → Int32 → Int32 → Int32 → Option (Int32 × Wd)) (w : Wd) (l0 : Option Nat) (l3 : Int32) (l4 : Int32) (l5 : Int32) (l6 : Int32) (l7 : Int32) (v6 : Int32) (v8 : Int32) : Option (Int32 × Wd) :=
(gR w l0 2 23).bind fun v62 =>
if ¬ v6 = 0 then (
if ¬ v6 = 1 then (
(idv v8 10).bind fun v63 =>
(irm v8 10).bind fun v64 =>
(recv w l0 2).bind fun b66 =>
(cal w (mX2_agoOf b66 v63 v64 w)).bind fun r65 =>
(las r65.2 v62 l5 ((r65.1 : Int32).toInt64)).bind fun w67 =>
k40 w67 l0 l3 l4 (l5 + 1) l6 (l7 + 1))
else (
(gR w l0 2 20).bind fun v68 =>
(ia w v68 v8).bind fun v69 =>
(las w v62 l5 ((v69 : Int32).toInt64)).bind fun w70 =>
k40 w70 l0 l3 l4 (l5 + 1) l6 (l7 + 1)))
else (
(las w v62 l5 ((v8 : Int32).toInt64)).bind fun w71 =>
k40 w71 l0 l3 l4 (l5 + 1) l6 (l7 + 1))
noncomputable def wkB (k40 : Wd → (Option Nat) → Int32 → Int32 → Int32 → Int32 → Int32 → Option (Int32 × Wd)) (w : Wd) (l0 : Option Nat) (l3 : Int32) (l4 : Int32) (l5 : Int32) (l6 : Int32) (l7 : Int32) (v6 : Int32) (v8 : Int32) : Option (Int32 × Wd) :=
if 2 < v6 then (
if ¬ v6 = 3 then (
if ¬ v6 = 4 then (
if ¬ v6 = 5 then (
if 10 ≤ v6 then (
if 20 ≤ v6 then (
if ¬ v6 = 20 then (
wkAO k40 w l0 l3 l4 l5 l6 l7 v6 v8)
else (
wkNot k40 w l0 l3 l4 l5 l6 l7 v6 v8))
else (
wkAsk k40 w l0 l3 l4 l5 l6 l7 v6 v8))
else (
wkTwo k40 w l0 l3 l4 l5 l6 l7 v6 v8))
else (
wkSize k40 w l0 l3 l4 l5 l6 l7 v6 v8))
else (
wkMin k40 w l0 l3 l4 l5 l6 l7 v6 v8))
else (
wkSel k40 w l0 l3 l4 l5 l6 l7 v6 v8))
else (
wkPush k40 w l0 l3 l4 l5 l6 l7 v6 v8)
section WM65
variable {μ : Mu} {z : Zt} {F A N : Nat → Int32}
theorem decN {a : Int32} {k : Nat} (h : a.toInt = ((k + 1 : Nat) : Int)) (hk : k < 1000000) : (a - 1).toInt = (k : Int) := by
  rw [I32_sub h rfl (by show -1000000000 ≤ ((k + 1 : Nat) : Int) - 1 ∧ ((k + 1 : Nat) : Int) - 1 ≤ 1000000000; omega)]
  show ((k + 1 : Nat) : Int) - 1 = k
  omega
theorem decM {a : Int32} {k : Nat} (h : a.toInt = ((k + 1 : Nat) : Int)) (hk : k < 1000000) : (a + (-1)).toInt = (k : Int) := by
  rw [I32_small h (show (-1 : Int32).toInt = -1 from rfl) (by omega)]
  omega
theorem decM2 {a : Int32} {k : Nat} (h : a.toInt = ((k + 2 : Nat) : Int)) (hk : k < 1000000) : (a + (-2)).toInt = (k : Int) := by
  rw [I32_small h (show (-2 : Int32).toInt = -2 from rfl) (by omega)]
  omega
abbrev KW : Type := Wd → Option Nat → Int32 → Int32 → Int32 → Int32 → Int32 → Option (Int32 × Wd)
theorem worked_pre {V : Nat → Int64} {T : Nat → Int32} {i b x2 : Nat} {l3 l4 l5 l6 l7 : Int32} {k : KW} {x3 : Nat} (h3 : (l3 + 2).toInt = (x3 : Int)) (hx3 : x3 < 3012) (hx2 : (μ 540 x3).toInt = (x2 : Int)) (h4 : l4.toInt = (b : Int)) (h7 : l7.toInt = (i : Int)) (hi : i < x2) (hb : b + 2 * x2 ≤ 3012) :
    mX2_worked_b40 k (WM μ z F A N T V) (some 537) l3 l4 l5 l6 l7 = wkB k (WM μ z F A N T V) (some 537) l3 l4 l5 l6 l7 (μ 540 (b + 2 * i)) (μ 540 (b + 2 * i + 1)) := by
  have e6 : (l4 + 2 * l7).toInt = ((b + 2 * i : Nat) : Int) := addN h4 (mulN (x := 2) rfl h7 (by omega)) (by omega)
  have e8 : (l4 + 2 * l7 + 1).toInt = ((b + 2 * i + 1 : Nat) : Int) := addN e6 (y := 1) rfl (by omega)
  unfold mX2_worked_b40
  refine bind_step (gR_537_2 554 (by omega) _ _) ?_
  refine bind_step (iaTx h3 hx3) ?_
  refine (if_neg (by rw [Int32.le_iff_toInt_le, hx2, h7]; omega)).trans ?_
  refine bind_step (gR_537_2 554 (by omega) _ _) ?_
  refine bind_step (iaTx e6 (by omega)) ?_
  refine bind_step (gR_537_2 554 (by omega) _ _) ?_
  refine bind_step (iaTx e8 (by omega)) ?_
  rfl
theorem worked_end {V : Nat → Int64} {T : Nat → Int32} {i x2 : Nat} {l3 l4 l5 l6 l7 : Int32} {k : KW} {x3 : Nat} (h3 : (l3 + 2).toInt = (x3 : Int)) (hx3 : x3 < 3012) (hx2 : (μ 540 x3).toInt = (x2 : Int)) (h7 : l7.toInt = (i : Int)) (hi : x2 ≤ i) :
    mX2_worked_b40 k (WM μ z F A N T V) (some 537) l3 l4 l5 l6 l7 = some ((V 0).toInt32, WM μ z F A N T V) := by
  unfold mX2_worked_b40
  refine bind_step (gR_537_2 554 (by omega) _ _) ?_
  refine bind_step (iaTx h3 hx3) ?_
  refine (if_pos (by rw [Int32.le_iff_toInt_le, hx2, h7]; omega)).trans ?_
  refine bind_step (gR_537_23 554 (by omega) _ _) ?_
  refine bind_step (laV (n := 0) rfl (by omega)) ?_
  rfl
/-- what a step comes to -/
def WkR (μ : Mu) (z : Zt) (F A N : Nat → Int32) (n m : Nat) (k : KW) (l3 l4 l7 : Int32) (st : Sta) (r : Option (Int32 × Wd)) : Prop := ∃ (V' : Nat → Int64) (T' : Nat → Int32) (n' m' : Nat) (l5' l6' : Int32), l5'.toInt = (n' : Int) ∧ l6'.toInt = (m' : Int) ∧ n' ≤ n + 1 ∧ m' ≤ m + 1 ∧ st = (stk V' n', stk T' m') ∧ r = k (WM μ z F A N T' V') (some 537) l3 l4 l5' l6' (l7 + 1)
theorem wk_ao {V : Nat → Int64} {T : Nat → Int32} {n m : Nat} {l3 l4 l5 l6 l7 o v : Int32} {k : KW} {st : Sta}  (h5 : l5.toInt = (n : Int)) (h6 : l6.toInt = (m : Int)) (hn : n < 320) (hm : m < 320) (hs : (match stk T m with
                | b :: a :: T => some (stk V n, (if ¬ o = 21 then (if ¬ a = 0 then 1 else if b = 0 then 0 else 1) else (if a = 0 then 0 else if b = 0 then 0 else 1)) :: T)
                | _ => none) = some st) : WkR μ z F A N n m k l3 l4 l7 st (wkAO k (WM μ z F A N T V) (some 537) l3 l4 l5 l6 l7 o v) := by
  match m, T, hs, h6 with
  | 0, T, hs, _ => cases hs
  | 1, T, hs, _ => cases hs
  | k9 + 2, T, hs, h6 =>
    have hs : some (stk V n, (if ¬ o = 21 then (if ¬ T k9 = 0 then 1 else if T (k9 + 1) = 0 then 0 else 1) else (if T k9 = 0 then 0 else if T (k9 + 1) = 0 then 0 else 1)) :: stk T k9) = some st := hs
    have hs := Option.some.inj hs
    have g1 : (l6 + (-1)).toInt = ((k9 + 1 : Nat) : Int) := decM h6 (by omega)
    have g2 : (l6 + (-1) - 1).toInt = (k9 : Int) := decN g1 (by omega)
    subst hs
    unfold wkAO
    by_cases c21 : ¬ o = 21
    · by_cases ca : ¬ T k9 = 0
      · refine ⟨V, upd T k9 1, n, k9 + 1, l5, l6 + (-1), h5, g1, by omega, by omega, ?_, ?_⟩
        · rw [stk_pI, if_pos c21, if_pos ca]
        · refine bind_step (gR_537_24 554 (by omega) _ _) ?_
          refine (if_pos c21).trans ?_
          refine bind_step (gR_537_24 554 (by omega) _ _) ?_
          refine bind_step (baT g2 (by omega)) ?_
          refine (if_pos ca).trans ?_
          exact bind_step (basT g2 (by omega) (Or.inr rfl)) rfl
      · by_cases cb : T (k9 + 1) = 0
        · refine ⟨V, upd T k9 0, n, k9 + 1, l5, l6 + (-1), h5, g1, by omega, by omega, ?_, ?_⟩
          · rw [stk_pI, if_pos c21, if_neg ca, if_pos cb]
          · refine bind_step (gR_537_24 554 (by omega) _ _) ?_
            refine (if_pos c21).trans ?_
            refine bind_step (gR_537_24 554 (by omega) _ _) ?_
            refine bind_step (baT g2 (by omega)) ?_
            refine (if_neg ca).trans ?_
            refine bind_step (gR_537_24 554 (by omega) _ _) ?_
            refine bind_step (baT g1 (by omega)) ?_
            refine (if_pos cb).trans ?_
            exact bind_step (basT g2 (by omega) (Or.inl rfl)) rfl
        · refine ⟨V, upd T k9 1, n, k9 + 1, l5, l6 + (-1), h5, g1, by omega, by omega, ?_, ?_⟩
          · rw [stk_pI, if_pos c21, if_neg ca, if_neg cb]
          · refine bind_step (gR_537_24 554 (by omega) _ _) ?_
            refine (if_pos c21).trans ?_
            refine bind_step (gR_537_24 554 (by omega) _ _) ?_
            refine bind_step (baT g2 (by omega)) ?_
            refine (if_neg ca).trans ?_
            refine bind_step (gR_537_24 554 (by omega) _ _) ?_
            refine bind_step (baT g1 (by omega)) ?_
            refine (if_neg cb).trans ?_
            exact bind_step (basT g2 (by omega) (Or.inr rfl)) rfl
    · by_cases ca : T k9 = 0
      · refine ⟨V, upd T k9 0, n, k9 + 1, l5, l6 + (-1), h5, g1, by omega, by omega, ?_, ?_⟩
        · rw [stk_pI, if_neg c21, if_pos ca]
        · refine bind_step (gR_537_24 554 (by omega) _ _) ?_
          refine (if_neg c21).trans ?_
          refine bind_step (gR_537_24 554 (by omega) _ _) ?_
          refine bind_step (baT g2 (by omega)) ?_
          refine (if_pos ca).trans ?_
          exact bind_step (basT g2 (by omega) (Or.inl rfl)) rfl
      · by_cases cb : T (k9 + 1) = 0
        · refine ⟨V, upd T k9 0, n, k9 + 1, l5, l6 + (-1), h5, g1, by omega, by omega, ?_, ?_⟩
          · rw [stk_pI, if_neg c21, if_neg ca, if_pos cb]
          · refine bind_step (gR_537_24 554 (by omega) _ _) ?_
            refine (if_neg c21).trans ?_
            refine bind_step (gR_537_24 554 (by omega) _ _) ?_
            refine bind_step (baT g2 (by omega)) ?_
            refine (if_neg ca).trans ?_
            refine bind_step (gR_537_24 554 (by omega) _ _) ?_
            refine bind_step (baT g1 (by omega)) ?_
            refine (if_pos cb).trans ?_
            exact bind_step (basT g2 (by omega) (Or.inl rfl)) rfl
        · refine ⟨V, upd T k9 1, n, k9 + 1, l5, l6 + (-1), h5, g1, by omega, by omega, ?_, ?_⟩
          · rw [stk_pI, if_neg c21, if_neg ca, if_neg cb]
          · refine bind_step (gR_537_24 554 (by omega) _ _) ?_
            refine (if_neg c21).trans ?_
            refine bind_step (gR_537_24 554 (by omega) _ _) ?_
            refine bind_step (baT g2 (by omega)) ?_
            refine (if_neg ca).trans ?_
            refine bind_step (gR_537_24 554 (by omega) _ _) ?_
            refine bind_step (baT g1 (by omega)) ?_
            refine (if_neg cb).trans ?_
            exact bind_step (basT g2 (by omega) (Or.inr rfl)) rfl
theorem wk_not {V : Nat → Int64} {T : Nat → Int32} {n m : Nat} {l3 l4 l5 l6 l7 o v : Int32} {k : KW} {st : Sta}  (h5 : l5.toInt = (n : Int)) (h6 : l6.toInt = (m : Int)) (hn : n < 320) (hm : m < 320) (hs : (match stk T m with
                | a :: T => some (stk V n, (if ¬ a = 0 then 0 else 1) :: T)
                | _ => none) = some st) : WkR μ z F A N n m k l3 l4 l7 st (wkNot k (WM μ z F A N T V) (some 537) l3 l4 l5 l6 l7 o v) := by
  match m, T, hs, h6 with
  | 0, T, hs, _ => cases hs
  | k9 + 1, T, hs, h6 =>
    have hs : some (stk V n, (if ¬ T k9 = 0 then 0 else 1) :: stk T k9) = some st := hs
    have hs := Option.some.inj hs
    have g2 : (l6 - 1).toInt = (k9 : Int) := decN h6 (by omega)
    subst hs
    unfold wkNot
    by_cases ca : ¬ T k9 = 0
    · refine ⟨V, upd T k9 0, n, k9 + 1, l5, l6, h5, h6, by omega, by omega, ?_, ?_⟩
      · rw [stk_pI, if_pos ca]
      · refine bind_step (gR_537_24 554 (by omega) _ _) ?_
        refine bind_step (gR_537_24 554 (by omega) _ _) ?_
        refine bind_step (baT g2 (by omega)) ?_
        refine (if_pos ca).trans ?_
        exact bind_step (basT g2 (by omega) (Or.inl rfl)) rfl
    · refine ⟨V, upd T k9 1, n, k9 + 1, l5, l6, h5, h6, by omega, by omega, ?_, ?_⟩
      · rw [stk_pI, if_neg ca]
      · refine bind_step (gR_537_24 554 (by omega) _ _) ?_
        refine bind_step (gR_537_24 554 (by omega) _ _) ?_
        refine bind_step (baT g2 (by omega)) ?_
        refine (if_neg ca).trans ?_
        exact bind_step (basT g2 (by omega) (Or.inr rfl)) rfl
theorem wk_ask {V : Nat → Int64} {T : Nat → Int32} {n m : Nat} {l3 l4 l5 l6 l7 o v : Int32} {k : KW} {st : Sta}  (h5 : l5.toInt = (n : Int)) (h6 : l6.toInt = (m : Int)) (hn : n < 320) (hm : m < 320) (hs : (match stk V n with
              | y :: x :: S => some (S, askF o x y :: stk T m)
              | _ => none) = some st) : WkR μ z F A N n m k l3 l4 l7 st (wkAsk k (WM μ z F A N T V) (some 537) l3 l4 l5 l6 l7 o v) := by
  match n, V, hs, h5 with
  | 0, V, hs, _ => cases hs
  | 1, V, hs, _ => cases hs
  | k9 + 2, V, hs, h5 =>
    have hs : some (stk V k9, askF o (V k9) (V (k9 + 1)) :: stk T m) = some st := hs
    have hs := Option.some.inj hs
    have g1 : (l5 + (-2)).toInt = (k9 : Int) := decM2 h5 (by omega)
    have g2 : (l5 + (-2) + 1).toInt = ((k9 + 1 : Nat) : Int) := inc_I g1 (by omega)
    subst hs
    unfold wkAsk
    refine ⟨V, upd T m (askF o (V k9) (V (k9 + 1))), k9, m + 1, l5 + (-2), l6 + 1, g1, inc_I h6 (by omega), by omega, by omega, ?_, ?_⟩
    · rw [stk_pI]
    · refine bind_step (gR_537_24 554 (by omega) _ _) ?_
      refine bind_step (gR_537_23 554 (by omega) _ _) ?_
      refine bind_step (laV g1 (by omega)) ?_
      refine bind_step (gR_537_23 554 (by omega) _ _) ?_
      refine bind_step (laV g2 (by omega)) ?_
      refine bind_step (cal_w isAsked_E) ?_
      exact bind_step (basT h6 (by omega) (askF_01 _ _ _)) rfl
theorem wk_two {V : Nat → Int64} {T : Nat → Int32} {n m : Nat} {l3 l4 l5 l6 l7 o v : Int32} {k : KW} {st : Sta}  (h5 : l5.toInt = (n : Int)) (h6 : l6.toInt = (m : Int)) (hn : n < 320) (hm : m < 320) (hs : (match stk V n with
            | y :: x :: S => some (twoF o x y :: S, stk T m)
            | _ => none) = some st) : WkR μ z F A N n m k l3 l4 l7 st (wkTwo k (WM μ z F A N T V) (some 537) l3 l4 l5 l6 l7 o v) := by
  match n, V, hs, h5 with
  | 0, V, hs, _ => cases hs
  | 1, V, hs, _ => cases hs
  | k9 + 2, V, hs, h5 =>
    have hs : some (twoF o (V k9) (V (k9 + 1)) :: stk V k9, stk T m) = some st := hs
    have hs := Option.some.inj hs
    have g1 : (l5 + (-1)).toInt = ((k9 + 1 : Nat) : Int) := decM h5 (by omega)
    have g2 : (l5 + (-1) - 1).toInt = (k9 : Int) := decN g1 (by omega)
    subst hs
    unfold wkTwo
    refine ⟨vp_updL V k9 (twoF o (V k9) (V (k9 + 1))), T, k9 + 1, m, l5 + (-1), l6, g1, h6, by omega, by omega, ?_, ?_⟩
    · rw [stk_pJ]
    · refine bind_step (gR_537_23 554 (by omega) _ _) ?_
      refine bind_step (gR_537_23 554 (by omega) _ _) ?_
      refine bind_step (laV g2 (by omega)) ?_
      refine bind_step (gR_537_23 554 (by omega) _ _) ?_
      refine bind_step (laV g1 (by omega)) ?_
      refine bind_step (cal_w two_E) ?_
      exact bind_step (lasV g2 (by omega)) rfl
theorem wk_size {V : Nat → Int64} {T : Nat → Int32} {n m : Nat} {l3 l4 l5 l6 l7 o v : Int32} {k : KW} {st : Sta}  (h5 : l5.toInt = (n : Int)) (h6 : l6.toInt = (m : Int)) (hn : n < 320) (hm : m < 320) (hs : (match stk V n with
          | x :: S => some ((if 0 ≤ lg_cmp x 0 then x else -x) :: S, stk T m)
          | _ => none) = some st) : WkR μ z F A N n m k l3 l4 l7 st (wkSize k (WM μ z F A N T V) (some 537) l3 l4 l5 l6 l7 o v) := by
  match n, V, hs, h5 with
  | 0, V, hs, _ => cases hs
  | k9 + 1, V, hs, h5 =>
    have hs : some ((if 0 ≤ lg_cmp (V k9) 0 then V k9 else -V k9) :: stk V k9, stk T m) = some st := hs
    have hs := Option.some.inj hs
    have g2 : (l5 - 1).toInt = (k9 : Int) := decN h5 (by omega)
    subst hs
    unfold wkSize
    by_cases ca : 0 ≤ lg_cmp (V k9) 0
    · refine ⟨vp_updL V k9 (V k9), T, k9 + 1, m, l5, l6, h5, h6, by omega, by omega, ?_, ?_⟩
      · rw [stk_pJ, if_pos ca]
      · refine bind_step (gR_537_23 554 (by omega) _ _) ?_
        refine bind_step (gR_537_23 554 (by omega) _ _) ?_
        refine bind_step (laV g2 (by omega)) ?_
        refine (if_pos ca).trans ?_
        refine bind_step (gR_537_23 554 (by omega) _ _) ?_
        refine bind_step (laV g2 (by omega)) ?_
        exact bind_step (lasV g2 (by omega)) rfl
    · refine ⟨vp_updL V k9 (-V k9), T, k9 + 1, m, l5, l6, h5, h6, by omega, by omega, ?_, ?_⟩
      · rw [stk_pJ, if_neg ca]
      · refine bind_step (gR_537_23 554 (by omega) _ _) ?_
        refine bind_step (gR_537_23 554 (by omega) _ _) ?_
        refine bind_step (laV g2 (by omega)) ?_
        refine (if_neg ca).trans ?_
        refine bind_step (gR_537_23 554 (by omega) _ _) ?_
        refine bind_step (laV g2 (by omega)) ?_
        exact bind_step (lasV g2 (by omega)) rfl
theorem wk_min {V : Nat → Int64} {T : Nat → Int32} {n m : Nat} {l3 l4 l5 l6 l7 o v : Int32} {k : KW} {st : Sta}  (h5 : l5.toInt = (n : Int)) (h6 : l6.toInt = (m : Int)) (hn : n < 320) (hm : m < 320) (hs : (match stk V n with
        | x :: S => some (-x :: S, stk T m)
        | _ => none) = some st) : WkR μ z F A N n m k l3 l4 l7 st (wkMin k (WM μ z F A N T V) (some 537) l3 l4 l5 l6 l7 o v) := by
  match n, V, hs, h5 with
  | 0, V, hs, _ => cases hs
  | k9 + 1, V, hs, h5 =>
    have hs : some (-V k9 :: stk V k9, stk T m) = some st := hs
    have hs := Option.some.inj hs
    have g2 : (l5 - 1).toInt = (k9 : Int) := decN h5 (by omega)
    subst hs
    unfold wkMin
    refine ⟨vp_updL V k9 (-V k9), T, k9 + 1, m, l5, l6, h5, h6, by omega, by omega, ?_, ?_⟩
    · rw [stk_pJ]
    · refine bind_step (gR_537_23 554 (by omega) _ _) ?_
      refine bind_step (gR_537_23 554 (by omega) _ _) ?_
      refine bind_step (laV g2 (by omega)) ?_
      exact bind_step (lasV g2 (by omega)) rfl
theorem wk_sel {V : Nat → Int64} {T : Nat → Int32} {n m : Nat} {l3 l4 l5 l6 l7 o v : Int32} {k : KW} {st : Sta}  (h5 : l5.toInt = (n : Int)) (h6 : l6.toInt = (m : Int)) (hn : n < 320) (hm : m < 320) (hs : (match stk V n, stk T m with
      | y :: x :: S, b :: T => some ((if ¬ b = 0 then x else y) :: S, T)
      | _, _ => none) = some st) : WkR μ z F A N n m k l3 l4 l7 st (wkSel k (WM μ z F A N T V) (some 537) l3 l4 l5 l6 l7 o v) := by
  match n, V, m, T, hs, h5, h6 with
  | 0, V, _, T, hs, _, _ => cases hs
  | 1, V, _, T, hs, _, _ => cases hs
  | k9 + 2, V, 0, T, hs, _, _ => cases hs
  | k9 + 2, V, j9 + 1, T, hs, h5, h6 =>
    have hs : some ((if ¬ T j9 = 0 then V k9 else V (k9 + 1)) :: stk V k9, stk T j9) = some st := hs
    have hs := Option.some.inj hs
    have g1 : (l5 + (-1)).toInt = ((k9 + 1 : Nat) : Int) := decM h5 (by omega)
    have g2 : (l5 + (-1) - 1).toInt = (k9 : Int) := decN g1 (by omega)
    have g3 : (l6 + (-1)).toInt = (j9 : Int) := decM h6 (by omega)
    subst hs
    unfold wkSel
    by_cases ca : ¬ T j9 = 0
    · refine ⟨V, T, k9 + 1, j9, l5 + (-1), l6 + (-1), g1, g3, by omega, by omega, ?_, ?_⟩
      · rw [if_pos ca]
        rfl
      · refine bind_step (gR_537_24 554 (by omega) _ _) ?_
        refine bind_step (baT g3 (by omega)) ?_
        exact if_pos ca
    · refine ⟨vp_updL V k9 (V (k9 + 1)), T, k9 + 1, j9, l5 + (-1), l6 + (-1), g1, g3, by omega, by omega, ?_, ?_⟩
      · rw [stk_pJ, if_neg ca]
      · refine bind_step (gR_537_24 554 (by omega) _ _) ?_
        refine bind_step (baT g3 (by omega)) ?_
        refine (if_neg ca).trans ?_
        refine bind_step (gR_537_23 554 (by omega) _ _) ?_
        refine bind_step (gR_537_23 554 (by omega) _ _) ?_
        refine bind_step (laV g1 (by omega)) ?_
        exact bind_step (lasV g2 (by omega)) rfl
theorem wk_push {V : Nat → Int64} {T : Nat → Int32} {n m : Nat} {l3 l4 l5 l6 l7 o v : Int32} {k : KW} {st : Sta} {t f : Nat} (c2 : ¬ 2 < o) (hFE : ((F 21).toInt = (t : Int) ∧ (F 22).toInt = (f : Int)) ∨ (2 < o ∨ o = 0 ∨ o = 1)) (ht : t < 1000000) (h5 : l5.toInt = (n : Int)) (h6 : l6.toInt = (m : Int)) (hn : n < 320) (hm : m < 320) (hs : (if ¬ o = 0 then
      (if ¬ o = 1 then (if 10 ≤ v.toInt ∧ v.toInt ≤ 99 ∧ v.toInt.toNat % 10 < 5 then some ((agM t f A (v.toInt.toNat / 10) (v.toInt.toNat % 10)).toInt64 :: stk V n, stk T m) else none)
      else (if 0 ≤ v.toInt ∧ v.toInt < 8 then some ((N v.toInt.toNat).toInt64 :: stk V n, stk T m) else none))
    else some (v.toInt64 :: stk V n, stk T m)) = some st) : WkR μ z F A N n m k l3 l4 l7 st (wkPush k (WM μ z F A N T V) (some 537) l3 l4 l5 l6 l7 o v) := by
  unfold wkPush
  by_cases c0 : ¬ o = 0
  · rw [if_pos c0] at hs
    by_cases c1 : ¬ o = 1
    · rw [if_pos c1] at hs
      by_cases cr : 10 ≤ v.toInt ∧ v.toInt ≤ 99 ∧ v.toInt.toNat % 10 < 5
      · rw [if_pos cr] at hs
        have hs := Option.some.inj hs
        subst hs
        have hv9 : v.toInt = ((v.toInt.toNat : Nat) : Int) := by omega
        have d1 : (v / 10).toInt = ((v.toInt.toNat / 10 : Nat) : Int) := divN hv9 (b := 10) rfl (by omega)
        obtain ⟨r, r1, r2⟩ := irmN (m := 10) (b := 10) hv9 rfl (by omega) (by omega)
        refine ⟨vp_updL V n (agM t f A (v.toInt.toNat / 10) (v.toInt.toNat % 10)).toInt64, T, n + 1, m, l5 + 1, l6, inc_I h5 (by omega), h6, by omega, by omega, ?_, ?_⟩
        · rw [stk_pJ]
        · refine bind_step (gR_537_23 554 (by omega) _ _) ?_
          refine (if_pos c0).trans ?_
          refine (if_pos c1).trans ?_
          refine bind_step (if_neg (by decide)) ?_
          refine bind_step r1 ?_
          refine bind_step (recv_537 554 (by omega) _ _) ?_
          obtain ⟨hF, hE⟩ := hFE.resolve_right (fun q => (q.elim c2 (fun q => q.elim c0 c1)))
          refine bind_step (cal_w (agoOf_E hF hE d1 r2 ht (by omega) (by omega))) ?_
          exact bind_step (lasV h5 (by omega)) rfl
      · rw [if_neg cr] at hs
        cases hs
    · rw [if_neg c1] at hs
      by_cases cr : 0 ≤ v.toInt ∧ v.toInt < 8
      · rw [if_pos cr] at hs
        have hs := Option.some.inj hs
        subst hs
        refine ⟨vp_updL V n (N v.toInt.toNat).toInt64, T, n + 1, m, l5 + 1, l6, inc_I h5 (by omega), h6, by omega, by omega, ?_, ?_⟩
        · rw [stk_pJ]
        · refine bind_step (gR_537_23 554 (by omega) _ _) ?_
          refine (if_pos c0).trans ?_
          refine (if_neg c1).trans ?_
          refine bind_step (gR_537_20 554 (by omega) _ _) ?_
          refine bind_step (iaNm (n := v.toInt.toNat) (by omega) (by omega)) ?_
          exact bind_step (lasV h5 (by omega)) rfl
      · rw [if_neg cr] at hs
        cases hs
  · rw [if_neg c0] at hs
    have hs := Option.some.inj hs
    subst hs
    refine ⟨vp_updL V n v.toInt64, T, n + 1, m, l5 + 1, l6, inc_I h5 (by omega), h6, by omega, by omega, ?_, ?_⟩
    · rw [stk_pJ]
    · refine bind_step (gR_537_23 554 (by omega) _ _) ?_
      refine (if_neg c0).trans ?_
      exact bind_step (lasV h5 (by omega)) rfl
theorem wk_step {V : Nat → Int64} {T : Nat → Int32} {n m : Nat} {l3 l4 l5 l6 l7 o v : Int32} {k : KW} {st : Sta} {t f : Nat} (hFE : ((F 21).toInt = (t : Int) ∧ (F 22).toInt = (f : Int)) ∨ (2 < o ∨ o = 0 ∨ o = 1)) (ht : t < 1000000) (h5 : l5.toInt = (n : Int)) (h6 : l6.toInt = (m : Int)) (hn : n < 320) (hm : m < 320) (hs : (stp N (agM t f A) o v (stk V n, stk T m)) = some st) : WkR μ z F A N n m k l3 l4 l7 st (wkB k (WM μ z F A N T V) (some 537) l3 l4 l5 l6 l7 o v) := by
  unfold stp at hs
  unfold wkB
  by_cases c2 : 2 < o
  · rw [if_pos c2] at hs ⊢
    by_cases c3 : ¬ o = 3
    · rw [if_pos c3] at hs ⊢
      by_cases c4 : ¬ o = 4
      · rw [if_pos c4] at hs ⊢
        by_cases c5 : ¬ o = 5
        · rw [if_pos c5] at hs ⊢
          by_cases c10 : 10 ≤ o
          · rw [if_pos c10] at hs ⊢
            by_cases c20 : 20 ≤ o
            · rw [if_pos c20] at hs ⊢
              by_cases cn : ¬ o = 20
              · rw [if_pos cn] at hs ⊢
                exact wk_ao h5 h6 hn hm hs
              · rw [if_neg cn] at hs ⊢
                exact wk_not h5 h6 hn hm hs
            · rw [if_neg c20] at hs ⊢
              exact wk_ask h5 h6 hn hm hs
          · rw [if_neg c10] at hs ⊢
            exact wk_two h5 h6 hn hm hs
        · rw [if_neg c5] at hs ⊢
          exact wk_size h5 h6 hn hm hs
      · rw [if_neg c4] at hs ⊢
        exact wk_min h5 h6 hn hm hs
    · rw [if_neg c3] at hs ⊢
      exact wk_sel h5 h6 hn hm hs
  · rw [if_neg c2] at hs ⊢
    exact wk_push c2 hFE ht h5 h6 hn hm hs
/-- the code worked through -/
theorem worked_loop {b x2 x3 t f : Nat} {l3 l4 : Int32} {v : Int64} (h3 : (l3 + 2).toInt = (x3 : Int)) (hx3 : x3 < 3012) (hx2 : (μ 540 x3).toInt = (x2 : Int)) (h4 : l4.toInt = (b : Int)) (hb : b + 2 * x2 ≤ 3012) (h302 : x2 ≤ 302) (ht : t < 1000000) : ∀ (c i fu n m : Nat) (l5 l6 l7 : Int32) (V : Nat → Int64) (T : Nat → Int32), x2 = i + c → l7.toInt = (i : Int) → l5.toInt = (n : Int) → l6.toInt = (m : Int) → n ≤ i → m ≤ i → c < fu → (((F 21).toInt = (t : Int) ∧ (F 22).toInt = (f : Int)) ∨ noAgo (segL (μ 540) b i c)) → runC N (agM t f A) (segL (μ 540) b i c) (stk V n, stk T m) = some ([v], []) →
    ∃ T' V', mX2_worked_l40 fu (WM μ z F A N T V) (some 537) l3 l4 l5 l6 l7 = some (v.toInt32, WM μ z F A N T' V') := by
  intro c
  induction c with
  | zero =>
    intro i fu n m l5 l6 l7 V T hc h7 h5 h6 hn hm hfu hFE hr
    obtain ⟨g, rfl⟩ : ∃ g, fu = g + 1 := ⟨fu - 1, by omega⟩
    have hr : some (stk V n, stk T m) = some ([v], []) := hr
    have hV := congrArg Prod.fst (Option.some.inj hr)
    have hV : stk V n = v :: [] := hV
    obtain ⟨k, rfl, rfl, h9⟩ := stk_1 hV
    have hk : k = 0 := by
      match k, h9 with
      | 0, _ => rfl
      | k + 1, h9 => cases h9
    subst hk
    refine ⟨T, V, ?_⟩
    exact worked_end h3 hx3 hx2 h7 (by omega)
  | succ c ih =>
    intro i fu n m l5 l6 l7 V T hc h7 h5 h6 hn hm hfu hFE hr
    obtain ⟨g, rfl⟩ : ∃ g, fu = g + 1 := ⟨fu - 1, by omega⟩
    have hr : (stp N (agM t f A) (μ 540 (b + 2 * i)) (μ 540 (b + 2 * i + 1)) (stk V n, stk T m)).bind (runC N (agM t f A) (segL (μ 540) b (i + 1) c)) = some ([v], []) := hr
    cases hst : stp N (agM t f A) (μ 540 (b + 2 * i)) (μ 540 (b + 2 * i + 1)) (stk V n, stk T m) with
    | none => rw [hst] at hr; cases hr
    | some st =>
      rw [hst] at hr
      have hr : runC N (agM t f A) (segL (μ 540) b (i + 1) c) st = some ([v], []) := hr
      obtain ⟨V', T', n', m', l5', l6', a1, a2, a3, a4, a5, a6⟩ := wk_step (μ := μ) (z := z) (l3 := l3) (l4 := l4) (l7 := l7) (k := mX2_worked_l40 g) (hFE.imp id (fun q => q _ (List.mem_cons_self ..))) ht h5 h6 (by omega) (by omega) hst
      rw [a5] at hr
      obtain ⟨T2, V2, e⟩ := ih (i + 1) g n' m' l5' l6' (l7 + 1) V' T' (by omega) (inc_I h7 (by omega)) a1 a2 (by omega) (by omega) (by omega) (hFE.imp id (fun q x hx => q x (List.mem_cons_of_mem _ hx))) hr
      refine ⟨T2, V2, ?_⟩
      show mX2_worked_b40 _ _ _ _ _ _ _ _ = _
      rw [worked_pre h3 hx3 hx2 h4 h7 (by omega) hb, a6, e]
/-- the sum of a clause -/
theorem worked_E {V : Nat → Int64} {T : Nat → Int32} {tt k x1 x2 t f : Nat} {a b : Int32} {v : Int64} (ha : a.toInt = (tt : Int)) (hb : b.toInt = (k : Int)) (htt : tt < 4) (hk : k < 24) (hx1 : (μ 540 (753 * tt + 1 + 6 * k + 1)).toInt = (x1 : Int)) (hx2 : (μ 540 (753 * tt + 1 + 6 * k + 2)).toInt = (x2 : Int)) (h12 : x1 ≤ x2) (h302 : x2 ≤ 302) (hFE : ((F 21).toInt = (t : Int) ∧ (F 22).toInt = (f : Int)) ∨ noAgo (segL (μ 540) (753 * tt + 145) x1 (x2 - x1))) (ht : t < 1000000) (hr : runC N (agM t f A) (segL (μ 540) (753 * tt + 145) x1 (x2 - x1)) ([], []) = some ([v], [])) :
    ∃ T' V', mX2_worked 537 a b (WM μ z F A N T V) = some (v.toInt32, WM μ z F A N T' V') := by
  have e1 : (753 * a + 1 + 6 * b).toInt = ((753 * tt + 1 + 6 * k : Nat) : Int) := addN (addN (mulN (x := 753) rfl ha (by omega)) (y := 1) rfl (by omega)) (mulN (x := 6) rfl hb (by omega)) (by omega)
  have e2 : (753 * a + 1 + 6 * b + 1).toInt = ((753 * tt + 1 + 6 * k + 1 : Nat) : Int) := addN e1 (y := 1) rfl (by omega)
  have e3 : (753 * a + 1 + 6 * b + 2).toInt = ((753 * tt + 1 + 6 * k + 2 : Nat) : Int) := addN e1 (y := 2) rfl (by omega)
  have e4 : (753 * a + 145).toInt = ((753 * tt + 145 : Nat) : Int) := addN (mulN (x := 753) rfl ha (by omega)) (y := 145) rfl (by omega)
  obtain ⟨T', V', e⟩ := worked_loop (μ := μ) (z := z) (F := F) (A := A) (N := N) e3 (by omega) hx2 e4 (by omega) h302 ht (x2 - x1) x1 FU 0 0 0 0 (μ 540 (753 * tt + 1 + 6 * k + 1)) V T (by omega) hx1 rfl rfl (by omega) (by omega) (by unfold FU; omega) hFE hr
  refine ⟨T', V', ?_⟩
  unfold mX2_worked
  refine bind_step rfl ?_
  refine bind_step (gR_537_2 554 (by omega) _ _) ?_
  refine bind_step (iaTx e2 (by omega)) ?_
  exact e
end WM65
