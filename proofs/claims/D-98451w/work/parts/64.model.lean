/-! ===== the model at work: its numbers F, its row A, its names N, its stacks V and T ===== -/
def fM (μ : Mu) (F A N T : Nat → Int32) : Mu := fun k => if k = 537 then F else if k = 538 then A else if k = 543 then N else if k = 545 then T else μ k
def zM (z : Zt) (V : Nat → Int64) : Zt := (fun k => if k = 544 then V else z.1 k, z.2)
abbrev WM (μ : Mu) (z : Zt) (F A N T : Nat → Int32) (V : Nat → Int64) : Wd := E (fM μ F A N T) (zM z V)
theorem fM_0 (μ : Mu) : fM μ (μ 537) (μ 538) (μ 543) (μ 545) = μ := by
  funext k
  unfold fM
  by_cases h1 : k = 537
  · rw [if_pos h1, h1]
  · rw [if_neg h1]
    by_cases h2 : k = 538
    · rw [if_pos h2, h2]
    · rw [if_neg h2]
      by_cases h3 : k = 543
      · rw [if_pos h3, h3]
      · rw [if_neg h3]
        by_cases h4 : k = 545
        · rw [if_pos h4, h4]
        · rw [if_neg h4]
theorem zM_0 (z : Zt) : zM z (z.1 544) = z := by
  refine Prod.ext ?_ rfl
  funext k
  show (if k = 544 then z.1 544 else z.1 k) = z.1 k
  by_cases h : k = 544
  · rw [if_pos h, h]
  · rw [if_neg h]
theorem fM_o {μ : Mu} {F A N T : Nat → Int32} {k : Nat} (h : k ≠ 537 ∧ k ≠ 538 ∧ k ≠ 543 ∧ k ≠ 545) : fM μ F A N T k = μ k := by
  unfold fM
  rw [if_neg h.1, if_neg h.2.1, if_neg h.2.2.1, if_neg h.2.2.2]
theorem E_wstJ {p : Nat} {μ : Mu} {z : Zt} {k : Nat} {f : Nat → Int64} {e : Cel} (h : 400 ≤ k) (hp : k < p) (he : celA k (μ k) f (z.2.1 k) = some e) : wst (Ep p μ z) k e = Ep p μ (fun q => if q = k then f else z.1 q, z.2) := by
  unfold wst Ep
  congr 1
  funext q
  by_cases hq : q = k
  · subst hq
    simp only [if_true]
    rw [if_pos ⟨h, hp⟩, he]
  · simp only [if_neg hq]
section WM64
variable {μ : Mu} {z : Zt} {F A N T : Nat → Int32} {V : Nat → Int64}
theorem iaA {n : Nat} {i : Int32} (hi : i.toInt = (n : Int)) (hn : n < 9834) : ia (WM μ z F A N T V) (some 538) i = some (A n) := ia_E isI_538 hi hn
theorem fM_sA {Y : Nat → Int32} : setM (fM μ F A N T) 538 Y = fM μ F Y N T := by
  funext k
  unfold setM fM
  by_cases h1 : k = 538
  · rw [if_pos h1, h1]
    rfl
  · simp only [if_neg h1]
theorem iasA {n : Nat} {i v : Int32} (hi : i.toInt = (n : Int)) (hn : n < 9834) : ias (WM μ z F A N T V) (some 538) i v = some (WM μ z F (upd A n v) N T V) := by
  rw [ias_E isI_538 hi hn]
  unfold up
  rw [fM_sA]
  rfl
theorem iaNm {n : Nat} {i : Int32} (hi : i.toInt = (n : Int)) (hn : n < 8) : ia (WM μ z F A N T V) (some 543) i = some (N n) := ia_E isI_543 hi hn
theorem fM_sNm {Y : Nat → Int32} : setM (fM μ F A N T) 543 Y = fM μ F A Y T := by
  funext k
  unfold setM fM
  by_cases h1 : k = 543
  · rw [if_pos h1, h1]
    rfl
  · simp only [if_neg h1]
theorem iasNm {n : Nat} {i v : Int32} (hi : i.toInt = (n : Int)) (hn : n < 8) : ias (WM μ z F A N T V) (some 543) i v = some (WM μ z F A (upd N n v) T V) := by
  rw [ias_E isI_543 hi hn]
  unfold up
  rw [fM_sNm]
  rfl
theorem iaTx {n : Nat} {i : Int32} (hi : i.toInt = (n : Int)) (hn : n < 3012) : ia (WM μ z F A N T V) (some 540) i = some (μ 540 n) := ia_E isI_540 hi hn
theorem fM_sF {Y : Nat → Int32} : setM (fM μ F A N T) 537 Y = fM μ Y A N T := by
  funext k
  unfold setM fM
  by_cases h1 : k = 537
  · rw [if_pos h1, h1]
    rfl
  · simp only [if_neg h1]
theorem gIM_4 : gI (WM μ z F A N T V) (some 537) 2 4 = some (F 4) := gI_537_4 554 (by omega) _ _
theorem pfM_4 {v : Int32} : pf (WM μ z F A N T V) (some 537) 2 4 (.int v) = some (WM μ z (upd F 4 v) A N T V) := by
  rw [pf_E isF_537_4]
  unfold up
  rw [fM_sF]
  rfl
theorem gIM_5 : gI (WM μ z F A N T V) (some 537) 2 5 = some (F 5) := gI_537_5 554 (by omega) _ _
theorem pfM_5 {v : Int32} : pf (WM μ z F A N T V) (some 537) 2 5 (.int v) = some (WM μ z (upd F 5 v) A N T V) := by
  rw [pf_E isF_537_5]
  unfold up
  rw [fM_sF]
  rfl
theorem gIM_6 : gI (WM μ z F A N T V) (some 537) 2 6 = some (F 6) := gI_537_6 554 (by omega) _ _
theorem pfM_6 {v : Int32} : pf (WM μ z F A N T V) (some 537) 2 6 (.int v) = some (WM μ z (upd F 6 v) A N T V) := by
  rw [pf_E isF_537_6]
  unfold up
  rw [fM_sF]
  rfl
theorem gIM_7 : gI (WM μ z F A N T V) (some 537) 2 7 = some (F 7) := gI_537_7 554 (by omega) _ _
theorem pfM_7 {v : Int32} : pf (WM μ z F A N T V) (some 537) 2 7 (.int v) = some (WM μ z (upd F 7 v) A N T V) := by
  rw [pf_E isF_537_7]
  unfold up
  rw [fM_sF]
  rfl
theorem gIM_8 : gI (WM μ z F A N T V) (some 537) 2 8 = some (F 8) := gI_537_8 554 (by omega) _ _
theorem pfM_8 {v : Int32} : pf (WM μ z F A N T V) (some 537) 2 8 (.int v) = some (WM μ z (upd F 8 v) A N T V) := by
  rw [pf_E isF_537_8]
  unfold up
  rw [fM_sF]
  rfl
theorem gIM_9 : gI (WM μ z F A N T V) (some 537) 2 9 = some (F 9) := gI_537_9 554 (by omega) _ _
theorem pfM_9 {v : Int32} : pf (WM μ z F A N T V) (some 537) 2 9 (.int v) = some (WM μ z (upd F 9 v) A N T V) := by
  rw [pf_E isF_537_9]
  unfold up
  rw [fM_sF]
  rfl
theorem gIM_10 : gI (WM μ z F A N T V) (some 537) 2 10 = some (F 10) := gI_537_10 554 (by omega) _ _
theorem pfM_10 {v : Int32} : pf (WM μ z F A N T V) (some 537) 2 10 (.int v) = some (WM μ z (upd F 10 v) A N T V) := by
  rw [pf_E isF_537_10]
  unfold up
  rw [fM_sF]
  rfl
theorem gIM_12 : gI (WM μ z F A N T V) (some 537) 2 12 = some (F 12) := gI_537_12 554 (by omega) _ _
theorem pfM_12 {v : Int32} : pf (WM μ z F A N T V) (some 537) 2 12 (.int v) = some (WM μ z (upd F 12 v) A N T V) := by
  rw [pf_E isF_537_12]
  unfold up
  rw [fM_sF]
  rfl
theorem gIM_13 : gI (WM μ z F A N T V) (some 537) 2 13 = some (F 13) := gI_537_13 554 (by omega) _ _
theorem pfM_13 {v : Int32} : pf (WM μ z F A N T V) (some 537) 2 13 (.int v) = some (WM μ z (upd F 13 v) A N T V) := by
  rw [pf_E isF_537_13]
  unfold up
  rw [fM_sF]
  rfl
theorem gIM_14 : gI (WM μ z F A N T V) (some 537) 2 14 = some (F 14) := gI_537_14 554 (by omega) _ _
theorem pfM_14 {v : Int32} : pf (WM μ z F A N T V) (some 537) 2 14 (.int v) = some (WM μ z (upd F 14 v) A N T V) := by
  rw [pf_E isF_537_14]
  unfold up
  rw [fM_sF]
  rfl
theorem gIM_16 : gI (WM μ z F A N T V) (some 537) 2 16 = some (F 16) := gI_537_16 554 (by omega) _ _
theorem pfM_16 {v : Int32} : pf (WM μ z F A N T V) (some 537) 2 16 (.int v) = some (WM μ z (upd F 16 v) A N T V) := by
  rw [pf_E isF_537_16]
  unfold up
  rw [fM_sF]
  rfl
theorem gIM_17 : gI (WM μ z F A N T V) (some 537) 2 17 = some (F 17) := gI_537_17 554 (by omega) _ _
theorem pfM_17 {v : Int32} : pf (WM μ z F A N T V) (some 537) 2 17 (.int v) = some (WM μ z (upd F 17 v) A N T V) := by
  rw [pf_E isF_537_17]
  unfold up
  rw [fM_sF]
  rfl
theorem gIM_18 : gI (WM μ z F A N T V) (some 537) 2 18 = some (F 18) := gI_537_18 554 (by omega) _ _
theorem pfM_18 {v : Int32} : pf (WM μ z F A N T V) (some 537) 2 18 (.int v) = some (WM μ z (upd F 18 v) A N T V) := by
  rw [pf_E isF_537_18]
  unfold up
  rw [fM_sF]
  rfl
theorem gIM_19 : gI (WM μ z F A N T V) (some 537) 2 19 = some (F 19) := gI_537_19 554 (by omega) _ _
theorem pfM_19 {v : Int32} : pf (WM μ z F A N T V) (some 537) 2 19 (.int v) = some (WM μ z (upd F 19 v) A N T V) := by
  rw [pf_E isF_537_19]
  unfold up
  rw [fM_sF]
  rfl
theorem gIM_21 : gI (WM μ z F A N T V) (some 537) 2 21 = some (F 21) := gI_537_21 554 (by omega) _ _
theorem pfM_21 {v : Int32} : pf (WM μ z F A N T V) (some 537) 2 21 (.int v) = some (WM μ z (upd F 21 v) A N T V) := by
  rw [pf_E isF_537_21]
  unfold up
  rw [fM_sF]
  rfl
theorem gIM_22 : gI (WM μ z F A N T V) (some 537) 2 22 = some (F 22) := gI_537_22 554 (by omega) _ _
theorem pfM_22 {v : Int32} : pf (WM μ z F A N T V) (some 537) 2 22 (.int v) = some (WM μ z (upd F 22 v) A N T V) := by
  rw [pf_E isF_537_22]
  unfold up
  rw [fM_sF]
  rfl
theorem gIM_25 : gI (WM μ z F A N T V) (some 537) 2 25 = some (F 25) := gI_537_25 554 (by omega) _ _
theorem pfM_25 {v : Int32} : pf (WM μ z F A N T V) (some 537) 2 25 (.int v) = some (WM μ z (upd F 25 v) A N T V) := by
  rw [pf_E isF_537_25]
  unfold up
  rw [fM_sF]
  rfl
theorem gIM_27 : gI (WM μ z F A N T V) (some 537) 2 27 = some (F 27) := gI_537_27 554 (by omega) _ _
theorem pfM_27 {v : Int32} : pf (WM μ z F A N T V) (some 537) 2 27 (.int v) = some (WM μ z (upd F 27 v) A N T V) := by
  rw [pf_E isF_537_27]
  unfold up
  rw [fM_sF]
  rfl
theorem gIM_28 : gI (WM μ z F A N T V) (some 537) 2 28 = some (F 28) := gI_537_28 554 (by omega) _ _
theorem pfM_28 {v : Int32} : pf (WM μ z F A N T V) (some 537) 2 28 (.int v) = some (WM μ z (upd F 28 v) A N T V) := by
  rw [pf_E isF_537_28]
  unfold up
  rw [fM_sF]
  rfl
theorem gIM_34 : gI (WM μ z F A N T V) (some 537) 2 34 = some (F 34) := gI_537_34 554 (by omega) _ _
theorem pfM_34 {v : Int32} : pf (WM μ z F A N T V) (some 537) 2 34 (.int v) = some (WM μ z (upd F 34 v) A N T V) := by
  rw [pf_E isF_537_34]
  unfold up
  rw [fM_sF]
  rfl
theorem laV {n : Nat} {i : Int32} (hi : i.toInt = (n : Int)) (hn : n < 330) : la (WM μ z F A N T V) (some 544) i = some (V n) := by
  obtain ⟨h1, h2⟩ := cl_of hi
  unfold la arr
  simp only [Option.bind_some, E_at (show 400 ≤ 544 by omega) (show 544 < 554 by omega)]
  show (if (FieldType.long = .long ∧ ¬ (i < 0 ∨ 330 ≤ i.toNatClampNeg)) then some (V i.toNatClampNeg) else none) = _
  rw [if_pos ⟨rfl, by rw [h2]; exact fun q => q.elim h1 (by omega)⟩, h2]
theorem lasV {n : Nat} {i : Int32} {v : Int64} (hi : i.toInt = (n : Int)) (hn : n < 330) : las (WM μ z F A N T V) (some 544) i v = some (WM μ z F A N T (vp_updL V n v)) := by
  obtain ⟨h1, h2⟩ := cl_of hi
  unfold las arr
  simp only [Option.bind_some, E_at (show 400 ≤ 544 by omega) (show 544 < 554 by omega)]
  show (if (FieldType.long = .long ∧ nOld ≤ 544 ∧ ¬ (i < 0 ∨ 330 ≤ i.toNatClampNeg)) then some (wst (WM μ z F A N T V) 544 (.inl (.long, 330, .inr (.inl (vp_updL V i.toNatClampNeg v))))) else none) = _
  rw [if_pos ⟨rfl, by decide, by rw [h2]; exact fun q => q.elim h1 (by omega)⟩, h2, E_wstJ (by omega) (by omega) (f := vp_updL V n v) rfl]
  congr 3
  funext q
  show (if q = 544 then _ else if q = 544 then V else z.1 q) = if q = 544 then _ else z.1 q
  by_cases hq : q = 544
  · rw [if_pos hq, if_pos hq]
  · rw [if_neg hq, if_neg hq, if_neg hq]
theorem baT {n : Nat} {i : Int32} (hi : i.toInt = (n : Int)) (hn : n < 330) : ba (WM μ z F A N T V) (some 545) i = some (T n) := by
  obtain ⟨h1, h2⟩ := cl_of hi
  unfold ba arr
  simp only [Option.bind_some, E_at (show 400 ≤ 545 by omega) (show 545 < 554 by omega)]
  show (if ((FieldType.boolean = .byte ∨ FieldType.boolean = .boolean) ∧ ¬ (i < 0 ∨ 330 ≤ i.toNatClampNeg)) then some (T i.toNatClampNeg) else none) = _
  rw [if_pos ⟨Or.inr rfl, by rw [h2]; exact fun q => q.elim h1 (by omega)⟩, h2]
theorem nar0 : vp_nar .boolean 0 = 0 := by decide +kernel
theorem nar1 : vp_nar .boolean 1 = 1 := by decide +kernel
theorem fM_sT {Y : Nat → Int32} : setM (fM μ F A N T) 545 Y = fM μ F A N Y := by
  funext k
  unfold setM fM
  by_cases h1 : k = 545
  · rw [if_pos h1, h1]
    rfl
  · simp only [if_neg h1]
theorem basT {n : Nat} {i v : Int32} (hi : i.toInt = (n : Int)) (hn : n < 330) (hv : v = 0 ∨ v = 1) : bas (WM μ z F A N T V) (some 545) i v = some (WM μ z F A N (upd T n v) V) := by
  obtain ⟨h1, h2⟩ := cl_of hi
  have e : vp_nar .boolean v = v := by
    rcases hv with rfl | rfl
    · exact nar0
    · exact nar1
  unfold bas arr
  simp only [Option.bind_some, E_at (show 400 ≤ 545 by omega) (show 545 < 554 by omega)]
  show (if ((FieldType.boolean = .byte ∨ FieldType.boolean = .boolean) ∧ nOld ≤ 545 ∧ ¬ (i < 0 ∨ 330 ≤ i.toNatClampNeg)) then some (wst (WM μ z F A N T V) 545 (.inl (.boolean, 330, .inl (upd T i.toNatClampNeg (vp_nar .boolean v))))) else none) = _
  rw [if_pos ⟨Or.inr rfl, by decide, by rw [h2]; exact fun q => q.elim h1 (by omega)⟩, h2, e, E_wst (by omega) (by omega) (f := upd T n v) rfl, fM_sT]
theorem cut_E {a lo hi : Int32} {w : Wd} : mX2_cut a lo hi w = some (cutF a lo hi, w) := by
  unfold mX2_cut cutF
  split
  · split <;> rfl
  · rfl
theorem away_E : mX2_away 537 (WM μ z F A N T V) = some (A 8 - A 10, WM μ z F A N T V) := by
  unfold mX2_away
  refine bind_step (gR_537_0 554 (by omega) _ _) ?_
  refine bind_step (iaA (n := 8)  rfl (by omega)) ?_
  refine bind_step (gR_537_0 554 (by omega) _ _) ?_
  refine bind_step (iaA (n := 10)  rfl (by omega)) ?_
  rfl
def eldF (x : Int32) : Int32 := if 60 ≤ x then x - 60 else 0
def nmM (A N : Nat → Int32) : Nat → Int32 := upd (upd (upd (upd (upd (upd (upd N 0 (A 8 - A 10)) 1 (A 11)) 2 (A 9)) 3 (A 14)) 4 (A 15 - A 8)) 5 (A 12)) 6 (A 13)
theorem nameNow_E : mX2_nameNow 537 (WM μ z F A N T V) = some ((), WM μ z (upd (upd F 21 (A 16)) 22 (eldF (A 16))) A (nmM A N) T V) := by
  unfold eldF
  unfold mX2_nameNow
  refine bind_step (gR_537_20 554 (by omega) _ _) ?_
  refine bind_step (recv_537 554 (by omega) _ _) ?_
  refine bind_step (cal_w away_E) ?_
  refine bind_step (iasNm (n := 0)  rfl (by omega)) ?_
  refine bind_step (gR_537_20 554 (by omega) _ _) ?_
  refine bind_step (gR_537_0 554 (by omega) _ _) ?_
  refine bind_step (iaA (n := 11)  rfl (by omega)) ?_
  refine bind_step (iasNm (n := 1)  rfl (by omega)) ?_
  refine bind_step (gR_537_20 554 (by omega) _ _) ?_
  refine bind_step (gR_537_0 554 (by omega) _ _) ?_
  refine bind_step (iaA (n := 9)  rfl (by omega)) ?_
  refine bind_step (iasNm (n := 2)  rfl (by omega)) ?_
  refine bind_step (gR_537_20 554 (by omega) _ _) ?_
  refine bind_step (gR_537_0 554 (by omega) _ _) ?_
  refine bind_step (iaA (n := 14)  rfl (by omega)) ?_
  refine bind_step (iasNm (n := 3)  rfl (by omega)) ?_
  refine bind_step (gR_537_20 554 (by omega) _ _) ?_
  refine bind_step (gR_537_0 554 (by omega) _ _) ?_
  refine bind_step (iaA (n := 15)  rfl (by omega)) ?_
  refine bind_step (gR_537_0 554 (by omega) _ _) ?_
  refine bind_step (iaA (n := 8)  rfl (by omega)) ?_
  refine bind_step (iasNm (n := 4)  rfl (by omega)) ?_
  refine bind_step (gR_537_20 554 (by omega) _ _) ?_
  refine bind_step (gR_537_0 554 (by omega) _ _) ?_
  refine bind_step (iaA (n := 12)  rfl (by omega)) ?_
  refine bind_step (iasNm (n := 5)  rfl (by omega)) ?_
  refine bind_step (gR_537_20 554 (by omega) _ _) ?_
  refine bind_step (gR_537_0 554 (by omega) _ _) ?_
  refine bind_step (iaA (n := 13)  rfl (by omega)) ?_
  refine bind_step (iasNm (n := 6)  rfl (by omega)) ?_
  refine bind_step (gR_537_0 554 (by omega) _ _) ?_
  refine bind_step (iaA (n := 16)  rfl (by omega)) ?_
  refine bind_step (pfM_21) ?_
  refine bind_step (gR_537_0 554 (by omega) _ _) ?_
  refine bind_step (iaA (n := 16)  rfl (by omega)) ?_
  by_cases hc : 60 ≤ A 16
  · refine (if_pos (hc)).trans ?_
    refine bind_step (gR_537_0 554 (by omega) _ _) ?_
    refine bind_step (iaA (n := 16)  rfl (by omega)) ?_
    refine bind_step (pfM_22) ?_
    rw [if_pos hc]
    rfl
  · refine (if_neg (hc)).trans ?_
    refine bind_step (pfM_22) ?_
    rw [if_neg hc]
    rfl
/-- tenths ago, in the model's ring -/
def agM (t f : Nat) (A : Nat → Int32) (q j : Nat) : Int32 := if f + q ≤ t then A (602 + 6 * ((t - q) % 1536) + j) else 0
theorem pastOf_E {t j : Nat} {a b : Int32} (ha : a.toInt = (t : Int)) (hb : b.toInt = (j : Int)) (ht : t < 1000000) (hj : j < 6) : mX2_pastOf 537 a b (WM μ z F A N T V) = some (A (602 + 6 * (t % 1536) + j), WM μ z F A N T V) := by
  obtain ⟨r, r1, r2⟩ := irmN (m := 1536) (b := 1536) ha rfl (by omega) (by omega)
  have := Nat.mod_lt t (show 0 < 1536 by omega)
  unfold mX2_pastOf
  refine bind_step (gR_537_0 554 (by omega) _ _) ?_
  refine bind_step r1 ?_
  refine bind_step (iaA (n := 602 + 6 * (t % 1536) + j) (addN (addN (x := 602) rfl (mulN (x := 6) rfl r2 (by omega)) (by omega)) hb (by omega)) (by omega)) ?_
  rfl
theorem agoOf_E {t f q j : Nat} {a b : Int32} (hF : (F 21).toInt = (t : Int)) (hE : (F 22).toInt = (f : Int)) (ha : a.toInt = (q : Int)) (hb : b.toInt = (j : Int)) (ht : t < 1000000) (hq : q < 100) (hj : j < 6) : mX2_agoOf 537 a b (WM μ z F A N T V) = some (agM t f A q j, WM μ z F A N T V) := by
  have e : (F 21 - a).toInt = (t : Int) - (q : Int) := I32_sub hF ha (by omega)
  unfold mX2_agoOf agM
  refine bind_step gIM_21 ?_
  refine bind_step gIM_22 ?_
  by_cases hc : f + q ≤ t
  · refine (if_pos (by rw [Int32.le_iff_toInt_le, hE, e]; omega)).trans ?_
    rw [if_pos hc]
    refine bind_step gIM_21 ?_
    refine bind_step (recv_537 554 (by omega) _ _) ?_
    refine bind_step (cal_w (pastOf_E (t := t - q) (by rw [e]; omega) hb (by omega) hj)) ?_
    rfl
  · refine (if_neg (by rw [Int32.le_iff_toInt_le, hE, e]; omega)).trans ?_
    rw [if_neg hc]
theorem clip_E {x : Int64} {w : Wd} : mX2_clip x w = some (clipF x, w) := by
  unfold mX2_clip clipF
  split
  · split <;> rfl
  · rfl
theorem two_E {op : Int32} {x y : Int64} {w : Wd} : mX2_two op x y w = some (twoF op x y, w) := by
  unfold mX2_two twoF
  by_cases h6 : op = 6
  · rw [if_pos h6, if_pos h6]
    exact bind_step (cal_w clip_E) rfl
  · rw [if_neg h6, if_neg h6]
    by_cases h7 : op = 7
    · rw [if_pos h7, if_pos h7]
      exact bind_step (cal_w clip_E) rfl
    · rw [if_neg h7, if_neg h7]
      by_cases h8 : op = 8
      · rw [if_pos h8, if_pos h8]
        exact bind_step (cal_w clip_E) rfl
      · rw [if_neg h8, if_neg h8]
        by_cases h9 : ¬ lg_cmp y 0 = 0
        · rw [if_pos h9, if_pos h9]
          refine bind_step (if_neg (fun q => h9 (by rw [q]; exact cmp_self 0))) ?_
          exact bind_step (cal_w clip_E) rfl
        · rw [if_neg h9, if_neg h9]
theorem isAsked_E {op : Int32} {x y : Int64} {w : Wd} : mX2_isAsked op x y w = some (askF op x y, w) := by
  unfold mX2_isAsked askF
  simp only [nok0, nok1, Option.bind_some]
  repeat' split
  all_goals rfl
theorem askF_01 (op : Int32) (x y : Int64) : askF op x y = 0 ∨ askF op x y = 1 := by
  unfold askF
  repeat' split
  all_goals first | exact Or.inl rfl | exact Or.inr rfl
/-- a stack in an array, the top first -/
def stk {α : Type} (V : Nat → α) : Nat → List α
  | 0 => []
  | n + 1 => V n :: stk V n
theorem stk_ge {α : Type} {V V' : Nat → α} {n : Nat} (h : ∀ j, j < n → V' j = V j) : stk V' n = stk V n := by
  induction n with
  | zero => rfl
  | succ n ih =>
    show V' n :: stk V' n = V n :: stk V n
    rw [h n (by omega), ih (fun j hj => h j (by omega))]
theorem stk_pJ {V : Nat → Int64} {n : Nat} {x : Int64} : stk (vp_updL V n x) (n + 1) = x :: stk V n := by
  show vp_updL V n x n :: stk (vp_updL V n x) n = _
  rw [stk_ge (V := V) (V' := vp_updL V n x) (n := n) (fun j hj => if_neg (by omega))]
  congr 1
  exact if_pos rfl
theorem stk_pI {V : Nat → Int32} {n : Nat} {x : Int32} : stk (upd V n x) (n + 1) = x :: stk V n := by
  show upd V n x n :: stk (upd V n x) n = _
  rw [stk_ge (V := V) (V' := upd V n x) (n := n) (fun j hj => if_neg (by omega))]
  congr 1
  exact if_pos rfl
theorem stk_2 {α : Type} {V : Nat → α} {n : Nat} {x y : α} {S : List α} (h : stk V n = y :: x :: S) : ∃ k, n = k + 2 ∧ y = V (k + 1) ∧ x = V k ∧ S = stk V k := by
  match n, h with
  | 0, h => cases h
  | 1, h => cases h
  | k + 2, h =>
    cases h
    exact ⟨k, rfl, rfl, rfl, rfl⟩
theorem stk_1 {α : Type} {V : Nat → α} {n : Nat} {x : α} {S : List α} (h : stk V n = x :: S) : ∃ k, n = k + 1 ∧ x = V k ∧ S = stk V k := by
  match n, h with
  | 0, h => cases h
  | k + 1, h =>
    cases h
    exact ⟨k, rfl, rfl, rfl⟩
end WM64
