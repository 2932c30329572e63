/-! ===== orders one behind the other: which ones, how long each lasts ===== -/
theorem up_ne {μ : Mu} {k j q : Nat} {v : Int32} (h : q ≠ k) : up μ k j v q = μ q := setM_ne h
theorem up_eq {μ : Mu} {k j : Nat} {v : Int32} : up μ k j v k = upd (μ k) j v := setM_same _ _ _
abbrev hsB (set : Int32) (o : Nat) : Prop := ((set >>> (Int32.ofNat o &&& 31)) &&& 1) = 1
def msL (set : Int32) : Nat → List Nat
  | 0 => []
  | o + 1 => if hsB set o then msL set o ++ [o] else msL set o
def gA (l : List Nat) (j : Nat) : Nat := l.getD j 0
theorem gA_lt {l l' : List Nat} {j : Nat} (h : j < l.length) : gA (l ++ l') j = gA l j := by
  unfold gA
  rw [List.getD_eq_getElem?_getD, List.getD_eq_getElem?_getD, List.getElem?_append_left h]
theorem gA_eq {l : List Nat} {x : Nat} : gA (l ++ [x]) l.length = x := by
  unfold gA
  rw [List.getD_eq_getElem?_getD, List.getElem?_append_right (Nat.le_refl _)]
  simp
theorem msL_len (set : Int32) : ∀ n, (msL set n).length ≤ n := by
  intro n
  induction n with
  | zero => exact Nat.le_refl _
  | succ n ih =>
    unfold msL
    split
    · rw [List.length_append]
      simp
      exact ih
    · omega
theorem msL_lt (set : Int32) : ∀ n j, j < (msL set n).length → gA (msL set n) j < n := by
  intro n
  induction n with
  | zero => intro j h; exact absurd h (Nat.not_lt_zero _)
  | succ n ih =>
    intro j h
    unfold msL at h ⊢
    split at h
    · rename_i hb
      rw [if_pos hb]
      rw [List.length_append] at h
      have h' : j < (msL set n).length + 1 := h
      by_cases e : j = (msL set n).length
      · rw [e, gA_eq]
        omega
      · rw [gA_lt (by omega)]
        have := ih j (by omega)
        omega
    · rename_i hb
      rw [if_neg hb]
      have := ih j h
      omega
theorem msL_in (set : Int32) : ∀ n o, o < n → hsB set o → ∃ j, j < (msL set n).length ∧ gA (msL set n) j = o := by
  intro n
  induction n with
  | zero => intro o h; omega
  | succ n ih =>
    intro o h hb
    unfold msL
    by_cases e : o = n
    · subst e
      rw [if_pos hb]
      exact ⟨(msL set o).length, by rw [List.length_append]; exact Nat.lt_succ_self _, gA_eq⟩
    · obtain ⟨j, j1, j2⟩ := ih o (by omega) hb
      split
      · exact ⟨j, by rw [List.length_append]; omega, by rw [gA_lt j1]; exact j2⟩
      · exact ⟨j, j1, j2⟩
theorem ms_256 : ∀ (k : Fin 256) (n : Fin 9), k.val < 2 ^ n.val → msL (Int32.ofNat k.val) n.val = msL (Int32.ofNat k.val) 8 := by decide +kernel
theorem ms_pos : ∀ (k : Fin 256), 1 ≤ k.val → 1 ≤ (msL (Int32.ofNat k.val) 8).length := by decide +kernel
theorem shl_m1 : ∀ (n : Fin 9), (((1 : Int32) <<< (Int32.ofNat n.val &&& 31)) - 1).toInt = ((2 ^ n.val : Nat) : Int) - 1 := by decide +kernel
def bcF (a0 : Int32) : Int32 :=
  let x1 := a0 - ((((a0 : Int32).toUInt32 >>> ((1 : Int32).toUInt32 &&& Int32.toUInt32 31)).toInt32) &&& 1431655765)
  let x2 := (x1 &&& 858993459) + ((((x1 : Int32).toUInt32 >>> ((2 : Int32).toUInt32 &&& Int32.toUInt32 31)).toInt32) &&& 858993459)
  let x3 := (x2 + (((x2 : Int32).toUInt32 >>> ((4 : Int32).toUInt32 &&& Int32.toUInt32 31)).toInt32)) &&& 252645135
  let x4 := x3 + (((x3 : Int32).toUInt32 >>> ((8 : Int32).toUInt32 &&& Int32.toUInt32 31)).toInt32)
  let x5 := x4 + (((x4 : Int32).toUInt32 >>> ((16 : Int32).toUInt32 &&& Int32.toUInt32 31)).toInt32)
  x5 &&& 63
theorem bc_256 : ∀ (k : Fin 256), bcF (Int32.ofNat k.val) = Int32.ofNat (msL (Int32.ofNat k.val) 8).length := by decide +kernel
theorem bitCount_E {a : Int32} {w : Wd} : mJ15_bitCount a w = some (bcF a, w) := rfl
def btS (set : Int32) : Nat → Int32
  | 0 => 0
  | k + 1 => btS set k + ((set >>> (Int32.ofNat k &&& 31)) &&& 1)
theorem bt_256 : ∀ (k : Fin 256), btS (Int32.ofNat k.val) 8 = Int32.ofNat (msL (Int32.ofNat k.val) 8).length := by decide +kernel
theorem bits_E {a : Int32} {w : Wd} : mX2_bits a w = some (btS a 8, w) := by
  have h : ∀ (d k fu : Nat) (l2 : Int32), 8 = k + d → l2.toInt = (k : Int) → d < fu → mX2_bits_l4 fu w a (btS a k) l2 = some (btS a 8, w) := by
    intro d
    induction d with
    | zero =>
      intro k fu l2 hd h2 hf
      obtain ⟨g, rfl⟩ : ∃ g, fu = g + 1 := ⟨fu - 1, by omega⟩
      show mX2_bits_b4 _ _ _ _ _ = _
      unfold mX2_bits_b4
      rw [show k = 8 by omega]
      exact if_pos (by rw [Int32.le_iff_toInt_le, h2]; show (8 : Int) ≤ _; omega)
    | succ d ih =>
      intro k fu l2 hd h2 hf
      obtain ⟨g, rfl⟩ : ∃ g, fu = g + 1 := ⟨fu - 1, by omega⟩
      show mX2_bits_b4 _ _ _ _ _ = _
      unfold mX2_bits_b4
      refine (if_neg (by rw [Int32.le_iff_toInt_le, h2]; show ¬ (8 : Int) ≤ _; omega)).trans ?_
      refine bind_step (a := btS a (k + 1)) (by rw [I_nat h2]; rfl) ?_
      exact ih (k + 1) g (l2 + 1) (by omega) (inc_I h2 (by omega)) (by omega)
  exact h 8 0 FU 0 (by omega) rfl (by unfold FU; omega)
/-- how long an order lasts -/
def LV (μ : Mu) (o : Nat) : Int32 := laF (μ 540) (μ 402 3) (μ 403 4) (μ (405 + o) 0) (μ (405 + o) 1)
theorem LV_bd (μ : Mu) (o : Nat) (h : bd (μ (405 + o) 1) 0 60) : bd (LV μ o) 1 99 := by
  refine sayF_bd (lo := 1) (hi := 99) (by decide) ?_
  obtain ⟨n, hn⟩ : ∃ n : Nat, (μ (405 + o) 1).toInt = (n : Int) := ⟨(μ (405 + o) 1).toInt.toNat, by have := h.1; omega⟩
  have h2 := h.2
  have e := divN hn (m := 10) (b := 10) rfl (by omega)
  have e2 := inc_I e (by omega)
  exact ⟨by rw [e2]; show (1 : Int) ≤ _; omega, by rw [e2]; show _ ≤ (99 : Int); omega⟩
/-- whether the orders of a set can be laid out -/
def lysB (n0 set most : Int32) : Int32 := if inB set 1 ((1 <<< (n0 &&& 31)) - 1) = 0 then 0 else if bcF set ≤ most then 1 else 0
theorem lysB_01 (n0 set most : Int32) : lysB n0 set most = 0 ∨ lysB n0 set most = 1 := by
  unfold lysB
  split
  · exact Or.inl rfl
  · split
    · exact Or.inr rfl
    · exact Or.inl rfl
theorem set_of {n0I set : Int32} {n0 : Nat} (hn : n0I.toInt = (n0 : Int)) (h8 : n0 ≤ 8) (h : ¬ inB set 1 ((1 <<< (n0I &&& 31)) - 1) = 0) : ∃ k : Nat, k < 256 ∧ set = Int32.ofNat k ∧ 1 ≤ k ∧ k < 2 ^ n0 := by
  have h1 : inB set 1 ((1 <<< (n0I &&& 31)) - 1) = 1 := (inB_01 _ _ _).resolve_left h
  obtain ⟨b1, b2⟩ := inB_bd.mp h1
  have c1 : (1 : Int32).toInt = 1 := rfl
  rw [I_nat hn, shl_m1 ⟨n0, by omega⟩] at b2
  rw [c1] at b1
  have p8 : 2 ^ n0 ≤ 2 ^ 8 := Nat.pow_le_pow_right (by omega) h8
  have b2' : set.toInt ≤ ((2 ^ n0 : Nat) : Int) - 1 := b2
  exact ⟨set.toInt.toNat, by omega, I_nat (by omega), by omega, by omega⟩
/-- what is laid out -/
def Ly (set : Int32) (n0 : Nat) (ms : List Nat) : Prop := ms = msL set n0 ∧ 1 ≤ ms.length ∧ ms.length ≤ 8 ∧ ∀ j, j < ms.length → gA ms j < n0
theorem Ly_of {n0I set : Int32} {n0 : Nat} (hn : n0I.toInt = (n0 : Int)) (h8 : n0 ≤ 8) (h : ¬ inB set 1 ((1 <<< (n0I &&& 31)) - 1) = 0) : Ly set n0 (msL set n0) ∧ bcF set = Int32.ofNat (msL set n0).length ∧ btS set 8 = bcF set := by
  obtain ⟨k, k1, k2, k3, k4⟩ := set_of hn h8 h
  have e := ms_256 ⟨k, k1⟩ ⟨n0, by omega⟩ k4
  subst k2
  have hp := ms_pos ⟨k, k1⟩ k3
  refine ⟨⟨rfl, by rw [e]; exact hp, Nat.le_trans (msL_len _ _) h8, msL_lt _ _⟩, ?_, ?_⟩
  · rw [e]
    exact bc_256 ⟨k, k1⟩
  · rw [bt_256 ⟨k, k1⟩, bc_256 ⟨k, k1⟩]
section LY89
variable {μ0 : Mu} {z : Zt} {set : Int32} {n0 : Nat}
/-- the component's lists -/
def LyC (μ0 μ : Mu) (ms : List Nat) : Prop := CQ μ0 μ ∧ μ 400 20 = Int32.ofNat ms.length ∧ ∀ j, j < ms.length → μ 531 j = Int32.ofNat (gA ms j) ∧ μ 532 j = LV μ0 (gA ms j)
theorem LV_CQ {μ0 μ : Mu} {o : Nat} (h : CQ μ0 μ) (ho : o < 8) : LV μ o = LV μ0 o := by
  unfold LV
  rw [h.1 540 (by omega), h.1 402 (by omega), h.1 403 (by omega), h.1 (405 + o) (by omega)]
theorem lays_loop (hT : Tc μ0 z) (hz : 554 ≤ z.2.2.2.1) (hn : (μ0 402 0).toInt = (n0 : Int)) (h8 : n0 ≤ 8) (hr : bd (μ0 403 4) (-1000000) 1000000) (hw : ∀ o, o < n0 → bd (μ0 (405 + o) 0) (-1000000) 1000000 ∧ bd (μ0 (405 + o) 1) (-1000000) 1000000) : ∀ (q o fu : Nat) (l3 : Int32) (μ : Mu), n0 = o + q → l3.toInt = (o : Int) → q < fu → LyC μ0 μ (msL set o) →
    ∃ μ', mX0_lays_l38 fu (E μ z) (some 400) set l3 = some (1, E μ' z) ∧ LyC μ0 μ' (msL set n0) ∧ μ' 400 21 = -1 := by
  intro q
  induction q with
  | zero =>
    intro o fu l3 μ ho h3 hf hc
    obtain ⟨g, rfl⟩ : ∃ g, fu = g + 1 := ⟨fu - 1, by omega⟩
    have e : n0 = o := by omega
    subst e
    obtain ⟨c1, c2, c3⟩ := hc
    refine ⟨up μ 400 21 (-1), ?_, ⟨⟨fun k hk => (setM_ne (by omega)).trans (c1.1 k hk), fun j hj => ?_⟩, ?_, fun j hj => ?_⟩, ?_⟩
    · show mX0_lays_b38 _ _ _ _ _ = _
      unfold mX0_lays_b38
      refine bind_step (gR_400_0 554 (by omega) _ _) ?_
      refine bind_step (gR_401_0 554 (by omega) _ _) ?_
      refine bind_step (ia_E (n := 0) isI_402 rfl (by omega)) ?_
      rw [c1.1 402 (by omega)]
      refine (if_pos (by rw [Int32.le_iff_toInt_le, hn, h3]; omega)).trans ?_
      refine bind_step (pf_E isF_400_21) ?_
      exact bind_step nok1 rfl
    · show setM μ 400 _ 400 j = _
      rw [setM_same, upN (by omega)]
      exact c1.2 j hj
    · show setM μ 400 _ 400 20 = _
      rw [setM_same, upN (by omega)]
      exact c2
    · show setM μ 400 _ 531 j = _ ∧ setM μ 400 _ 532 j = _
      rw [setM_ne (by omega), setM_ne (by omega)]
      exact c3 j hj
    · show setM μ 400 _ 400 21 = _
      rw [setM_same]
      exact upd_eq
  | succ q ih =>
    intro o fu l3 μ ho h3 hf hc
    obtain ⟨g, rfl⟩ : ∃ g, fu = g + 1 := ⟨fu - 1, by omega⟩
    obtain ⟨c1, c2, c3⟩ := hc
    have e3 : l3 = Int32.ofNat o := I_nat h3
    have hlen := msL_len set o
    have pre : ∀ ρ : Option (Int32 × Wd), (if ¬ (if ((set >>> (l3 &&& 31)) &&& 1) = 1 then (1 : Int32) else 0) = 0 then (
        (gR (E μ z) (some 400) 0 14).bind fun v6 =>
        (gI (E μ z) (some 400) 0 20).bind fun v7 =>
        (ias (E μ z) v6 v7 l3).bind fun w8 =>
        (gR w8 (some 400) 0 15).bind fun v9 =>
        (gI w8 (some 400) 0 20).bind fun v10 =>
        (recv w8 (some 400) 0).bind fun b12 => (cal w8 (mX0_lastsOf b12 l3 w8)).bind fun r11 =>
        (ias r11.2 v9 v10 r11.1).bind fun w13 =>
        (gI w13 (some 400) 0 20).bind fun v14 =>
        (pf w13 (some 400) 0 20 (.int (v14 + 1))).bind fun w15 =>
        mX0_lays_l38 g w15 (some 400) set (l3 + 1)) else mX0_lays_l38 g (E μ z) (some 400) set (l3 + 1)) = ρ → mX0_lays_l38 (g + 1) (E μ z) (some 400) set l3 = ρ := by
      intro ρ hρ
      show mX0_lays_b38 _ _ _ _ _ = _
      unfold mX0_lays_b38
      refine bind_step (gR_400_0 554 (by omega) _ _) ?_
      refine bind_step (gR_401_0 554 (by omega) _ _) ?_
      refine bind_step (ia_E (n := 0) isI_402 rfl (by omega)) ?_
      rw [c1.1 402 (by omega)]
      refine (if_neg (by rw [Int32.le_iff_toInt_le, hn, h3]; omega)).trans ?_
      refine bind_step (cal_w has0_E) ?_
      exact hρ
    by_cases hb : hsB set o
    · have em : msL set (o + 1) = msL set o ++ [o] := if_pos hb
      have hj : (Int32.ofNat (msL set o).length).toInt = (((msL set o).length : Nat) : Int) := tI (by omega)
      have k1 : CQ μ0 (up μ 531 (msL set o).length l3) := CQ_set ⟨by omega, by omega⟩ c1
      have hT1 := Tc_CFr (CQ_CFr (z := z) k1) hz hT
      obtain ⟨w1, w2⟩ := hw o (by omega)
      have el := lasts0_E (μ := up μ 531 (msL set o).length l3) (z := z) hz hT1 h3 (by omega) (by rw [k1.1 403 (by omega)]; exact hr) (by rw [k1.1 (405 + o) (by omega)]; exact w1) (by rw [k1.1 (405 + o) (by omega)]; exact w2)
      have elv := LV_CQ k1 (show o < 8 by omega)
      unfold LV at elv
      rw [elv] at el
      generalize hN : upd (upd (upd (up μ 531 (msL set o).length l3 518) 5 (up μ 531 (msL set o).length l3 403 4)) 6 (up μ 531 (msL set o).length l3 (405 + o) 0)) 7 (up μ 531 (msL set o).length l3 (405 + o) 1) = N at el
      generalize hμ2 : setM (up μ 531 (msL set o).length l3) 518 N = μ2 at el
      have k2 : CQ μ0 μ2 := by rw [← hμ2]; exact CQ_set ⟨by omega, by omega⟩ k1
      have m400 : μ2 400 = μ 400 := by rw [← hμ2]; exact (setM_ne (by omega)).trans (setM_ne (by omega))
      have m531 : μ2 531 = upd (μ 531) (msL set o).length l3 := by rw [← hμ2, setM_ne (by omega)]; exact setM_same _ _ _
      have m532 : μ2 532 = μ 532 := by rw [← hμ2]; exact (setM_ne (by omega)).trans (setM_ne (by omega))
      have hnew : LyC μ0 (up (up μ2 532 (msL set o).length (LV μ0 o)) 400 20 (up μ2 532 (msL set o).length (LV μ0 o) 400 20 + 1)) (msL set (o + 1)) := by
        rw [em]
        have a400 : up μ2 532 (msL set o).length (LV μ0 o) 400 = μ 400 := (setM_ne (by omega)).trans m400
        refine ⟨⟨fun k hk => ?_, fun j hj => ?_⟩, ?_, fun j hj => ?_⟩
        · rw [up_ne (by omega), up_ne (by omega)]
          exact k2.1 k hk
        · rw [up_eq, upN (by omega), a400]
          exact c1.2 j hj
        · rw [up_eq, upd_eq, a400, c2, List.length_append]
          exact I_nat (inc_I hj (by omega))
        · have hj2 : j < (msL set o).length + 1 := by rw [List.length_append] at hj; exact hj
          rw [up_ne (show (531 : Nat) ≠ 400 by omega), up_ne (show (532 : Nat) ≠ 400 by omega), up_ne (show (531 : Nat) ≠ 532 by omega), m531, up_eq, m532]
          by_cases e : j = (msL set o).length
          · rw [e, gA_eq, upd_eq, upd_eq, e3]
            exact ⟨rfl, rfl⟩
          · rw [gA_lt (by omega), upN e, upN e]
            exact c3 j (by omega)
      obtain ⟨μ', e, w⟩ := ih (o + 1) g (l3 + 1) _ (by omega) (inc_I h3 (by omega)) (by omega) hnew
      refine ⟨μ', pre _ ?_, w⟩
      rw [if_pos (show ((set >>> (l3 &&& 31)) &&& 1) = 1 by rw [e3]; exact hb)]
      refine (if_pos one_ne).trans ?_
      refine bind_step (gR_400_14 554 (by omega) _ _) ?_
      refine bind_step ((gI_400_20 554 (by omega) _ _).trans (congrArg some c2)) ?_
      refine bind_step (ias_E (n := (msL set o).length) isI_531 hj (by omega)) ?_
      refine bind_step (gR_400_15 554 (by omega) _ _) ?_
      refine bind_step ((gI_400_20 554 (by omega) _ _).trans (congrArg some c2)) ?_
      refine bind_step (recv_400 554 (by omega) _ _) ?_
      refine bind_step (cal_E el) ?_
      refine bind_step (ias_E (n := (msL set o).length) isI_532 hj (by omega)) ?_
      refine bind_step (gI_400_20 554 (by omega) _ _) ?_
      refine bind_step (pf_E isF_400_20) ?_
      exact e
    · have em : msL set (o + 1) = msL set o := if_neg hb
      obtain ⟨μ', e, w⟩ := ih (o + 1) g (l3 + 1) μ (by omega) (inc_I h3 (by omega)) (by omega) (by rw [em]; exact ⟨c1, c2, c3⟩)
      refine ⟨μ', pre _ ?_, w⟩
      rw [if_neg (show ¬ ((set >>> (l3 &&& 31)) &&& 1) = 1 by rw [e3]; exact hb)]
      exact (if_neg (fun q => q rfl)).trans e
theorem lays_E {most : Int32} (hT : Tc μ0 z) (hz : 554 ≤ z.2.2.2.1) (hn : (μ0 402 0).toInt = (n0 : Int)) (h8 : n0 ≤ 8) (hr : bd (μ0 403 4) (-1000000) 1000000) (hw : ∀ o, o < n0 → bd (μ0 (405 + o) 0) (-1000000) 1000000 ∧ bd (μ0 (405 + o) 1) (-1000000) 1000000) :
    ∃ μ', mX0_lays 400 set most (E μ0 z) = some (lysB (μ0 402 0) set most, E μ' z) ∧ CQ μ0 μ' ∧ (lysB (μ0 402 0) set most = 1 → LyC μ0 μ' (msL set n0) ∧ μ' 400 21 = -1) := by
  unfold lysB
  by_cases c1 : inB set 1 ((1 <<< (μ0 402 0 &&& 31)) - 1) = 0
  · rw [if_pos c1]
    refine ⟨μ0, ?_, CQ.refl _, fun q => absurd q (by decide)⟩
    unfold mX0_lays
    refine bind_step (gR_400_0 554 (by omega) _ _) ?_
    refine bind_step (gR_401_0 554 (by omega) _ _) ?_
    refine bind_step (ia_E (n := 0) isI_402 rfl (by omega)) ?_
    refine bind_step (cal_w (in_E _ _ _ _)) ?_
    refine (if_pos c1).trans ?_
    exact bind_step nok0 rfl
  · rw [if_neg c1]
    by_cases c2 : bcF set ≤ most
    · rw [if_pos c2]
      have h0 : LyC μ0 (up μ0 400 20 0) (msL set 0) := by
        refine ⟨⟨fun k hk => setM_ne (by omega), fun j hj => ?_⟩, ?_, fun j hj => absurd hj (Nat.not_lt_zero _)⟩
        · show setM μ0 400 _ 400 j = _
          rw [setM_same, upN (by omega)]
        · show setM μ0 400 _ 400 20 = _
          rw [setM_same, upd_eq]
          rfl
      obtain ⟨μ', e, w1, w2⟩ := lays_loop (set := set) hT hz hn h8 hr hw n0 0 FU 0 (up μ0 400 20 0) (by omega) rfl (by unfold FU; omega) h0
      refine ⟨μ', ?_, w1.1, fun _ => ⟨w1, w2⟩⟩
      unfold mX0_lays
      refine bind_step (gR_400_0 554 (by omega) _ _) ?_
      refine bind_step (gR_401_0 554 (by omega) _ _) ?_
      refine bind_step (ia_E (n := 0) isI_402 rfl (by omega)) ?_
      refine bind_step (cal_w (in_E _ _ _ _)) ?_
      refine (if_neg c1).trans ?_
      refine bind_step (cal_w bitCount_E) ?_
      refine (if_pos c2).trans ?_
      refine bind_step (pf_E isF_400_20) ?_
      exact e
    · rw [if_neg c2]
      refine ⟨μ0, ?_, CQ.refl _, fun q => absurd q (by decide)⟩
      unfold mX0_lays
      refine bind_step (gR_400_0 554 (by omega) _ _) ?_
      refine bind_step (gR_401_0 554 (by omega) _ _) ?_
      refine bind_step (ia_E (n := 0) isI_402 rfl (by omega)) ?_
      refine bind_step (cal_w (in_E _ _ _ _)) ?_
      refine (if_neg c1).trans ?_
      refine bind_step (cal_w bitCount_E) ?_
      refine (if_neg c2).trans ?_
      exact bind_step nok0 rfl
/-- the model's lists -/
def LyM (μ0 : Mu) (z0 : Zt) (A0 : Nat → Int32) (lv : Nat → Int32) (μ : Mu) (z : Zt) (ms : List Nat) : Prop := MFr μ0 z0 μ z ∧ μ 538 = A0 ∧ μ 537 34 = Int32.ofNat ms.length ∧ ∀ j, j < ms.length → μ 548 j = Int32.ofNat (gA ms j) ∧ μ 549 j = lv (gA ms j) ∧ μ 550 j = Int32.ofNat j
theorem MFr_up {μ0 μ : Mu} {z0 z : Zt} {k j : Nat} {v : Int32} (hk : 541 < k) (h : MFr μ0 z0 μ z) : MFr μ0 z0 (up μ k j v) z := MFr.trans h ⟨fun q hq => setM_ne (by omega), fun q hq => by rw [show up μ k j v 537 = μ 537 from setM_ne (by omega)], rfl⟩
theorem MFr_F {μ0 μ : Mu} {z0 z : Zt} {j : Nat} {v : Int32} (hj : j ≠ 4 ∧ j ≠ 5 ∧ j ≠ 6 ∧ j ≠ 25) (h : MFr μ0 z0 μ z) : MFr μ0 z0 (up μ 537 j v) z := MFr.trans h ⟨fun q hq => setM_ne (by omega), fun q hq => by rw [show up μ 537 j v 537 = upd (μ 537) j v from setM_same _ _ _, upN (by omega)], rfl⟩
theorem layM_loop {z0 : Zt} {A0 : Nat → Int32} (hT : TX TT μ0 z0) (ha : -1 ≤ (A0 4).toInt ∧ (A0 4).toInt < (μ0 402 2).toInt) (hn : (A0 0).toInt = (n0 : Int)) (h8 : n0 ≤ 8) (hr : bd (A0 12) (-1000000) 1000000) (hw : ∀ o, o < n0 → bd (A0 (20 + 6 * o)) (-1000000) 1000000 ∧ bd (A0 (20 + 6 * o + 1)) (-1000000) 1000000) : ∀ (q o fu : Nat) (l3 : Int32) (μ : Mu) (z : Zt), n0 = o + q → l3.toInt = (o : Int) → q < fu → LyM μ0 z0 A0 (fun o => laF (μ0 540) (A0 4) (A0 12) (A0 (20 + 6 * o)) (A0 (20 + 6 * o + 1))) μ z (msL set o) →
    ∃ μ' z', mX2_layMembers_l35 fu (E μ z) (some 537) set l3 = some (1, E μ' z') ∧ LyM μ0 z0 A0 (fun o => laF (μ0 540) (A0 4) (A0 12) (A0 (20 + 6 * o)) (A0 (20 + 6 * o + 1))) μ' z' (msL set n0) := by
  intro q
  induction q with
  | zero =>
    intro o fu l3 μ z ho h3 hf hc
    obtain ⟨g, rfl⟩ : ∃ g, fu = g + 1 := ⟨fu - 1, by omega⟩
    have e : n0 = o := by omega
    subst e
    refine ⟨μ, z, ?_, hc⟩
    show mX2_layMembers_b35 _ _ _ _ _ = _
    unfold mX2_layMembers_b35
    refine bind_step (gR_537_0 554 (by omega) _ _) ?_
    refine bind_step (ia_E (n := 0) isI_538 rfl (by omega)) ?_
    rw [hc.2.1]
    refine (if_pos (by rw [Int32.le_iff_toInt_le, hn, h3]; omega)).trans ?_
    exact bind_step nok1 rfl
  | succ q ih =>
    intro o fu l3 μ z ho h3 hf hc
    obtain ⟨g, rfl⟩ : ∃ g, fu = g + 1 := ⟨fu - 1, by omega⟩
    obtain ⟨c1, c2, c3, c4⟩ := hc
    have e3 : l3 = Int32.ofNat o := I_nat h3
    have hlen := msL_len set o
    have pre : ∀ ρ : Option (Int32 × Wd), (if ¬ (if ((set >>> (l3 &&& 31)) &&& 1) = 1 then (1 : Int32) else 0) = 0 then (
        (gR (E μ z) (some 537) 2 30).bind fun v4 =>
        (gI (E μ z) (some 537) 2 34).bind fun v5 =>
        (ias (E μ z) v4 v5 l3).bind fun w6 =>
        (gR w6 (some 537) 2 31).bind fun v7 =>
        (gI w6 (some 537) 2 34).bind fun v8 =>
        (recv w6 (some 537) 2).bind fun b10 => (cal w6 (mX2_lastsOf b10 l3 w6)).bind fun r9 =>
        (ias r9.2 v7 v8 r9.1).bind fun w11 =>
        (gR w11 (some 537) 2 32).bind fun v12 =>
        (gI w11 (some 537) 2 34).bind fun v13 =>
        (gI w11 (some 537) 2 34).bind fun v14 =>
        (ias w11 v12 v13 v14).bind fun w15 =>
        (gI w15 (some 537) 2 34).bind fun v16 =>
        (pf w15 (some 537) 2 34 (.int (v16 + 1))).bind fun w17 =>
        mX2_layMembers_l35 g w17 (some 537) set (l3 + 1)) else mX2_layMembers_l35 g (E μ z) (some 537) set (l3 + 1)) = ρ → mX2_layMembers_l35 (g + 1) (E μ z) (some 537) set l3 = ρ := by
      intro ρ hρ
      show mX2_layMembers_b35 _ _ _ _ _ = _
      unfold mX2_layMembers_b35
      refine bind_step (gR_537_0 554 (by omega) _ _) ?_
      refine bind_step (ia_E (n := 0) isI_538 rfl (by omega)) ?_
      rw [c2]
      refine (if_neg (by rw [Int32.le_iff_toInt_le, hn, h3]; omega)).trans ?_
      refine bind_step (cal_w has2_E) ?_
      exact hρ
    by_cases hb : hsB set o
    · have em : msL set (o + 1) = msL set o ++ [o] := if_pos hb
      have hj : (Int32.ofNat (msL set o).length).toInt = (((msL set o).length : Nat) : Int) := tI (by omega)
      have k1 : MFr μ0 z0 (up μ 548 (msL set o).length l3) z := MFr_up (by omega) c1
      have a538 : up μ 548 (msL set o).length l3 538 = A0 := (setM_ne (by omega)).trans c2
      obtain ⟨w1, w2⟩ := hw o (by omega)
      obtain ⟨T', V', el⟩ := lasts2_E (μ := up μ 548 (msL set o).length l3) (z := z) (F := up μ 548 (msL set o).length l3 537) (A := A0) (N := up μ 548 (msL set o).length l3 543) (T := up μ 548 (msL set o).length l3 545) (V := z.1 544) (TX_MFr k1 hT) (by rw [k1.1 402 (by omega)]; exact ha) h3 (by omega) hr w1 w2
      rw [← a538, ← WM_0, a538, k1.1 540 (by omega)] at el
      generalize hN : upd (upd (upd (up μ 548 (msL set o).length l3 543) 5 (A0 12)) 6 (A0 (20 + 6 * o))) 7 (A0 (20 + 6 * o + 1)) = N at el
      have k2 : MFr μ0 z0 (fM (up μ 548 (msL set o).length l3) (up μ 548 (msL set o).length l3 537) A0 N T') (zM z V') := MFr.trans k1 (MFr_M (fun _ _ => rfl))
      obtain ⟨μ2, hμ2⟩ : ∃ m, m = fM (up μ 548 (msL set o).length l3) (up μ 548 (msL set o).length l3 537) A0 N T' := ⟨_, rfl⟩
      obtain ⟨z2, hz2⟩ : ∃ y, y = zM z V' := ⟨_, rfl⟩
      have el' : mX2_lastsOf 537 l3 (E (up μ 548 (msL set o).length l3) z) = some (laF (μ0 540) (A0 4) (A0 12) (A0 (20 + 6 * o)) (A0 (20 + 6 * o + 1)), E μ2 z2) := by rw [hμ2, hz2]; exact el
      rw [← hμ2, ← hz2] at k2
      have m537 : μ2 537 = μ 537 := by rw [hμ2]; exact up_ne (μ := μ) (k := 548) (j := (msL set o).length) (v := l3) (q := 537) (by omega)
      have m538 : μ2 538 = A0 := by rw [hμ2]; rfl
      have m548 : μ2 548 = upd (μ 548) (msL set o).length l3 := by rw [hμ2, fM_o ⟨by omega, by omega, by omega, by omega⟩, up_eq]
      have m549 : μ2 549 = μ 549 := by rw [hμ2, fM_o ⟨by omega, by omega, by omega, by omega⟩, up_ne (by omega)]
      have m550 : μ2 550 = μ 550 := by rw [hμ2, fM_o ⟨by omega, by omega, by omega, by omega⟩, up_ne (by omega)]
      have b34 : ∀ (j : Nat) (v : Int32), up μ2 549 j v 537 34 = Int32.ofNat (msL set o).length := fun j v => by rw [show up μ2 549 j v 537 = μ2 537 from setM_ne (by omega), m537]; exact c3
      have c34 : ∀ (j j' : Nat) (v v' : Int32), up (up μ2 549 j v) 550 j' v' 537 34 = Int32.ofNat (msL set o).length := fun j j' v v' => by rw [show up (up μ2 549 j v) 550 j' v' 537 = up μ2 549 j v 537 from setM_ne (by omega)]; exact b34 j v
      have hnew : LyM μ0 z0 A0 (fun o => laF (μ0 540) (A0 4) (A0 12) (A0 (20 + 6 * o)) (A0 (20 + 6 * o + 1))) (up (up (up μ2 549 (msL set o).length (laF (μ0 540) (A0 4) (A0 12) (A0 (20 + 6 * o)) (A0 (20 + 6 * o + 1)))) 550 (msL set o).length (Int32.ofNat (msL set o).length)) 537 34 (Int32.ofNat (msL set o).length + 1)) z2 (msL set (o + 1)) := by
        rw [em]
        refine ⟨MFr_F ⟨by omega, by omega, by omega, by omega⟩ (MFr_up (by omega) (MFr_up (by omega) k2)), ?_, ?_, fun j hj => ?_⟩
        · rw [up_ne (by omega), up_ne (by omega), up_ne (by omega)]
          exact m538
        · rw [up_eq, upd_eq, List.length_append]
          exact I_nat (inc_I hj (by omega))
        · have hj2 : j < (msL set o).length + 1 := by rw [List.length_append] at hj; exact hj
          rw [up_ne (show (548 : Nat) ≠ 537 by omega), up_ne (show (549 : Nat) ≠ 537 by omega), up_ne (show (550 : Nat) ≠ 537 by omega), up_ne (show (548 : Nat) ≠ 550 by omega), up_ne (show (549 : Nat) ≠ 550 by omega), up_ne (show (548 : Nat) ≠ 549 by omega), m548]
          rw [show ∀ x : Int32, up μ2 549 (msL set o).length x 549 = upd (μ2 549) (msL set o).length x from fun _ => up_eq, m549, show ∀ (x y : Int32), up (up μ2 549 (msL set o).length x) 550 (msL set o).length y 550 = upd (μ 550) (msL set o).length y from fun x y => by rw [up_eq, up_ne (by omega), m550]]
          by_cases e : j = (msL set o).length
          · rw [e, gA_eq, upd_eq, upd_eq, upd_eq, e3]
            exact ⟨rfl, rfl, rfl⟩
          · rw [gA_lt (by omega), upN e, upN e, upN e]
            exact c4 j (by omega)
      obtain ⟨μ', z', e, w⟩ := ih (o + 1) g (l3 + 1) _ z2 (by omega) (inc_I h3 (by omega)) (by omega) hnew
      refine ⟨μ', z', pre _ ?_, w⟩
      rw [if_pos (show ((set >>> (l3 &&& 31)) &&& 1) = 1 by rw [e3]; exact hb)]
      refine (if_pos one_ne).trans ?_
      refine bind_step (gR_537_30 554 (by omega) _ _) ?_
      refine bind_step ((gI_537_34 554 (by omega) _ _).trans (congrArg some c3)) ?_
      refine bind_step (ias_E (n := (msL set o).length) isI_548 hj (by omega)) ?_
      refine bind_step (gR_537_31 554 (by omega) _ _) ?_
      refine bind_step ((gI_537_34 554 (by omega) _ _).trans (congrArg some c3)) ?_
      refine bind_step (recv_537 554 (by omega) _ _) ?_
      refine bind_step (cal_Z el' (by rw [hz2]; exact Nat.le_refl _) (by rw [hz2]; exact Nat.le_refl _)) ?_
      refine bind_step (ias_E (n := (msL set o).length) isI_549 hj (by omega)) ?_
      refine bind_step (gR_537_32 554 (by omega) _ _) ?_
      refine bind_step ((gI_537_34 554 (by omega) _ _).trans (congrArg some (b34 _ _))) ?_
      refine bind_step ((gI_537_34 554 (by omega) _ _).trans (congrArg some (b34 _ _))) ?_
      refine bind_step (ias_E (n := (msL set o).length) isI_550 hj (by omega)) ?_
      refine bind_step ((gI_537_34 554 (by omega) _ _).trans (congrArg some (c34 _ _ _ _))) ?_
      refine bind_step (pf_E isF_537_34) ?_
      exact e
    · have em : msL set (o + 1) = msL set o := if_neg hb
      obtain ⟨μ', z', e, w⟩ := ih (o + 1) g (l3 + 1) μ z (by omega) (inc_I h3 (by omega)) (by omega) (by rw [em]; exact ⟨c1, c2, c3, c4⟩)
      refine ⟨μ', z', pre _ ?_, w⟩
      rw [if_neg (show ¬ ((set >>> (l3 &&& 31)) &&& 1) = 1 by rw [e3]; exact hb)]
      exact (if_neg (fun q => q rfl)).trans e
theorem layM_E {A0 : Nat → Int32} {most : Int32} (hA : μ0 538 = A0) (hT : TX TT μ0 z) (ha : -1 ≤ (A0 4).toInt ∧ (A0 4).toInt < (μ0 402 2).toInt) (hn : (A0 0).toInt = (n0 : Int)) (h8 : n0 ≤ 8) (hr : bd (A0 12) (-1000000) 1000000) (hw : ∀ o, o < n0 → bd (A0 (20 + 6 * o)) (-1000000) 1000000 ∧ bd (A0 (20 + 6 * o + 1)) (-1000000) 1000000) :
    ∃ μ' z', mX2_layMembers 537 set most (E μ0 z) = some (lysB (A0 0) set most, E μ' z') ∧ MFr μ0 z μ' z' ∧ μ' 538 = A0 ∧ (lysB (A0 0) set most = 1 → LyM μ0 z A0 (fun o => laF (μ0 540) (A0 4) (A0 12) (A0 (20 + 6 * o)) (A0 (20 + 6 * o + 1))) μ' z' (msL set n0)) := by
  unfold lysB
  by_cases c1 : inB set 1 ((1 <<< (A0 0 &&& 31)) - 1) = 0
  · rw [if_pos c1]
    refine ⟨μ0, z, ?_, MFr.refl _ _, hA, fun q => absurd q (by decide)⟩
    unfold mX2_layMembers
    refine bind_step (gR_537_0 554 (by omega) _ _) ?_
    refine bind_step (ia_E (n := 0) isI_538 rfl (by omega)) ?_
    rw [hA]
    refine bind_step (cal_w (isIn_E _ _ _ _)) ?_
    refine (if_pos c1).trans ?_
    exact bind_step nok0 rfl
  · rw [if_neg c1]
    have hbt := (Ly_of hn h8 c1).2.2
    by_cases c2 : bcF set ≤ most
    · rw [if_pos c2]
      have h0 : LyM μ0 z A0 (fun o => laF (μ0 540) (A0 4) (A0 12) (A0 (20 + 6 * o)) (A0 (20 + 6 * o + 1))) (up μ0 537 34 0) z (msL set 0) := by
        refine ⟨MFr_F ⟨by omega, by omega, by omega, by omega⟩ (MFr.refl _ _), (setM_ne (by omega)).trans hA, ?_, fun j hj => absurd hj (Nat.not_lt_zero _)⟩
        show setM μ0 537 _ 537 34 = _
        rw [setM_same, upd_eq]
        rfl
      obtain ⟨μ', z', e, w⟩ := layM_loop (set := set) hT ha hn h8 hr hw n0 0 FU 0 (up μ0 537 34 0) z (by omega) rfl (by unfold FU; omega) h0
      refine ⟨μ', z', ?_, w.1, w.2.1, fun _ => w⟩
      unfold mX2_layMembers
      refine bind_step (gR_537_0 554 (by omega) _ _) ?_
      refine bind_step (ia_E (n := 0) isI_538 rfl (by omega)) ?_
      rw [hA]
      refine bind_step (cal_w (isIn_E _ _ _ _)) ?_
      refine (if_neg c1).trans ?_
      refine bind_step (cal_w bits_E) ?_
      rw [hbt]
      refine (if_pos c2).trans ?_
      refine bind_step (pf_E isF_537_34) ?_
      exact e
    · rw [if_neg c2]
      refine ⟨μ0, z, ?_, MFr.refl _ _, hA, fun q => absurd q (by decide)⟩
      unfold mX2_layMembers
      refine bind_step (gR_537_0 554 (by omega) _ _) ?_
      refine bind_step (ia_E (n := 0) isI_538 rfl (by omega)) ?_
      rw [hA]
      refine bind_step (cal_w (isIn_E _ _ _ _)) ?_
      refine (if_neg c1).trans ?_
      refine bind_step (cal_w bits_E) ?_
      rw [hbt]
      refine (if_neg c2).trans ?_
      exact bind_step nok0 rfl
end LY89
