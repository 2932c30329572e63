/-! ===== the component goes through a tenth of a row ===== -/
def nvX (X : Nat → Int32) : Nat → Int32 := nmF X (fun _ => 0)
def agX (t f : Nat) (X : Nat → Int32) (q j : Nat) : Int32 := if f + q ≤ t ∧ j < 5 then X (53 + 6 * ((t - q) % 60) + j) else 0
/-- a row's numbers within their bounds, but for the tenth -/
def RBw (X : Nat → Int32) : Prop := bd (X 0) 0 600 ∧ bd (X 1) (-9) 9 ∧ bd (X 2) (-9999) 9999 ∧ bd (X 3) (-99) 99 ∧ bd (X 4) 1 24 ∧ bd (X 5) 0 99 ∧ bd (X 6) 0 9 ∧ bd (X 7) 0 600 ∧ bd (X 9) 0 30252
/-- bounds of what is kept of the last nine tenths -/
def HB9 (t : Nat) (X : Nat → Int32) : Prop := ∀ q j, 1 ≤ q → q ≤ 9 → q ≤ t → j < 5 → bd (X (53 + 6 * ((t - q) % 60) + j)) (-1000000) 1000000
/-- what the text in force rests on -/
def Tc (μ : Mu) (z : Zt) : Prop := Old0 z ∧ TX TT μ z ∧ (-1 ≤ (μ 402 3).toInt ∧ (μ 402 3).toInt < (μ 402 2).toInt)
theorem bd_sub {a b : Int32} {x y u v : Int} (ha : bd a x y) (hb : bd b u v) (h : -1000000000 ≤ x - v ∧ y - u ≤ 1000000000) : bd (a - b) (x - v) (y - u) := by
  obtain ⟨a1, a2⟩ := ha
  obtain ⟨b1, b2⟩ := hb
  unfold bd
  rw [I32_sub rfl rfl (by omega)]
  omega
theorem bd_w {a : Int32} {x y u v : Int} (h : bd a x y) (h1 : u ≤ x) (h2 : y ≤ v) : bd a u v := ⟨Int.le_trans h1 h.1, Int.le_trans h.2 h2⟩
theorem nm_j {X N : Nat → Int32} {j : Nat} (h : j < 7) : nmF X N j = nvX X j := by
  match j, h with
  | 0, _ => rfl
  | 1, _ => rfl
  | 2, _ => rfl
  | 3, _ => rfl
  | 4, _ => rfl
  | 5, _ => rfl
  | 6, _ => rfl
theorem nv_bd {X : Nat → Int32} (h : RBw X) {j : Nat} (hj : j < 7) : bd (nvX X j) (-1000000) 1000000 := by
  obtain ⟨h0, h1, h2, h3, h4, h5, h6, h7, h9⟩ := h
  match j, hj with
  | 0, _ => exact bd_w (bd_sub h0 h2 (by omega)) (by omega) (by omega)
  | 1, _ => exact bd_w h3 (by omega) (by omega)
  | 2, _ => exact bd_w h1 (by omega) (by omega)
  | 3, _ => exact bd_w h6 (by omega) (by omega)
  | 4, _ => exact bd_w (bd_sub h7 h0 (by omega)) (by omega) (by omega)
  | 5, _ => exact bd_w h4 (by omega) (by omega)
  | 6, _ => exact bd_w h5 (by omega) (by omega)
theorem bd0 : bd 0 (-1000000) 1000000 := ⟨by decide, by decide⟩
theorem kind_now {t s : Nat} {X N : Nat → Int32} (hs : s < 3) (h : RBw X) (hb : HB9 t X) : kindOk s (nmA t X N) (nvX X) (agX t (t - 60) X) := by
  refine ⟨fun j hj => ?_, fun _ q j h1 h2 h3 => ?_⟩
  · have hj7 : j < 7 := by
      rcases hj with hj | hj | hj <;> omega
    have e : nmA t X N j = nvX X j := by
      show agP 9 t (t - 60) X (nmF X N) j = _
      unfold agP
      rw [if_neg (by omega), nm_j hj7]
    rw [e]
    exact ⟨rfl, nv_bd h hj7⟩
  · have e : nmA t X N (3 + 5 * q + j) = agX t (t - 60) X q j := by
      show agP 9 t (t - 60) X (nmF X N) (3 + 5 * q + j) = _
      unfold agP agX
      rw [if_pos (by omega), show (3 + 5 * q + j - 8) / 5 + 1 = q by omega, show (3 + 5 * q + j - 8) % 5 = j by omega]
      by_cases hc : t - 60 + q ≤ t
      · rw [if_pos hc, if_pos ⟨hc, h3⟩]
      · rw [if_neg hc, if_neg (fun w => hc w.1)]
    rw [e]
    refine ⟨rfl, ?_⟩
    unfold agX
    by_cases hc : t - 60 + q ≤ t ∧ j < 5
    · rw [if_pos hc]
      exact hb q j h1 h2 (by omega) h3
    · rw [if_neg hc]
      exact bd0
theorem cutF_bd {a lo hi : Int32} (h : lo.toInt ≤ hi.toInt) : bd (cutF a lo hi) lo.toInt hi.toInt := by
  unfold cutF bd
  simp only [Int32.le_iff_toInt_le]
  split
  · split
    · omega
    · omega
  · omega
theorem sayF_bd {tx : Nat → Int32} {t s wo lo hi : Int32} {nv : Nat → Int32} {ag : Nat → Nat → Int32} (h : lo.toInt ≤ hi.toInt) (hw : bd wo lo.toInt hi.toInt) : bd (sayF tx t s wo lo hi nv ag) lo.toInt hi.toInt := by
  unfold sayF
  split
  · exact hw
  · exact cutF_bd h
theorem I32_neg {a : Int32} {x : Int} (h : a.toInt = x) (hx : -1000000000 ≤ x ∧ x ≤ 1000000000) : (-a).toInt = -x := by
  rw [Int32.toInt_neg, h, Int.bmod_eq_of_le (by omega) (by omega)]
theorem back32 (x : Int32) : x.toInt64.toInt32 = x := I32_eq (by rw [toI32 (by rw [toI64]; exact ⟨Int32.le_toInt x, Int32.toInt_lt x⟩), toI64])
theorem add64 {x c : Int32} (h : -1000000000 ≤ x.toInt + c.toInt ∧ x.toInt + c.toInt ≤ 1000000000) : (x.toInt64 + c.toInt64).toInt = x.toInt + c.toInt := by
  rw [Int64.toInt_add, toI64, toI64, Int.bmod_eq_of_le (by omega) (by omega)]
theorem add32 {x c : Int32} (h : -1000000000 ≤ x.toInt + c.toInt ∧ x.toInt + c.toInt ≤ 1000000000) : (x.toInt64 + c.toInt64).toInt32 = x + c :=
  I32_eq (by rw [toI32 (by rw [add64 h]; omega), add64 h, I32_small rfl rfl h])
theorem heldA {x c lo hi : Int32} {w : Wd} (h : -1000000000 ≤ x.toInt + c.toInt ∧ x.toInt + c.toInt ≤ 1000000000) (hlh : lo.toInt ≤ hi.toInt) : mX0_held (x.toInt64 + c.toInt64) lo hi w = some (cutF (x + c) lo hi, w) := by
  rw [heldC_E (by rw [add64 h]; omega) hlh, add32 h]
theorem heldB {x lo hi : Int32} {w : Wd} (hlh : lo.toInt ≤ hi.toInt) : mX0_held (x.toInt64) lo hi w = some (cutF x lo hi, w) := by
  rw [heldC_E (by rw [toI64]; exact ⟨Int32.le_toInt x, Int32.toInt_lt x⟩) hlh, back32]
def remF (x m : Int32) : Int32 := x - x / m * m
theorem irmF {x m : Int32} (h : m ≠ 0) : irm x m = some (remF x m) := if_neg h
theorem idvF {x m : Int32} (h : m ≠ 0) : idv x m = some (x / m) := if_neg h
/-- what a swing adds, and the load behind it -/
def swF (tx : Nat → Int32) (t4 : Int32) (t : Nat) (X : Nat → Int32) : Nat → Int32 :=
  let s := cutF (X 3 + sayF tx t4 1 (cutF ((X 0 - X 2) / X 4) (-99) 99) (-99) 99 (nvX X) (agX t (t - 60) X)) (-99) 99
  upd (upd X 3 s) 2 (cutF (X 2 + s) (-9999) 9999)
def blF (X : Nat → Int32) : Nat → Int32 := if ¬ remF (X 8 + 1) 40 = 0 then upd X 6 (jmaxI 0 (X 6 - 1)) else upd (upd X 6 (remF (X 9) 10)) 9 (remF (X 9 * 263 + 157) 30253)
/-- what is kept of a tenth -/
def slotF (a : Nat) (nv X : Nat → Int32) (c : Int32) : Nat → Int32 := upd (va_cpy nv X 0 a 5) (a + 5) c
/-- moved, ahead of the swing -/
def mvF (tx : Nat → Int32) (t4 : Int32) (t : Nat) (X : Nat → Int32) (c : Int32) : Nat → Int32 :=
  let p := sayF tx t4 0 3 0 9 (nvX X) (agX t (t - 60) X)
  let Y := upd (slotF (53 + 6 * (t % 60)) (nvX X) X c) 1 (cutF (X 1 + c) (-p) p)
  let Z := upd Y 0 (X 0 + Y 1)
  if ¬ inB (Z 0) 0 600 = 0 then Z else upd (upd Z 0 (cutF (Z 0) 0 600)) 1 0
def windF (calm : Int32) (X : Nat → Int32) : Nat → Int32 := if ¬ calm = 0 then X else blF X
/-- a tenth of a row -/
def tenF (tx : Nat → Int32) (t4 calm : Int32) (X : Nat → Int32) (c : Int32) : Nat → Int32 :=
  let t := (X 8).toInt.toNat
  let Y := windF calm (swF tx t4 t (mvF tx t4 t X c))
  upd Y 8 (Y 8 + 1)
theorem slot_lo {a j : Nat} {nv X : Nat → Int32} {c : Int32} (h : j < a) : slotF a nv X c j = X j := by
  exact (upN (by omega)).trans (if_neg (by omega))
theorem mv_hi {tx : Nat → Int32} {t4 c : Int32} {t j : Nat} {X : Nat → Int32} (h : 2 ≤ j) : mvF tx t4 t X c j = slotF (53 + 6 * (t % 60)) (nvX X) X c j := by
  unfold mvF
  split
  · rw [upN (by omega), upN (by omega)]
  · rw [upN (by omega), upN (by omega), upN (by omega), upN (by omega)]
theorem sw_hi {tx : Nat → Int32} {t4 : Int32} {t j : Nat} {X : Nat → Int32} (h2 : j ≠ 2) (h3 : j ≠ 3) : swF tx t4 t X j = X j := by
  unfold swF
  rw [upN h2, upN h3]
theorem wind_hi {calm : Int32} {j : Nat} {X : Nat → Int32} (h6 : j ≠ 6) (h9 : j ≠ 9) : windF calm X j = X j := by
  unfold windF blF
  split
  · rfl
  · split
    · rw [upN h6]
    · rw [upN h9, upN h6]
/-- a tenth leaves all but its own numbers and its own slot -/
theorem ten_else {tx : Nat → Int32} {t4 calm c : Int32} {X : Nat → Int32} {t j : Nat} (ht : (X 8).toInt = (t : Int)) (h : ¬ (j ≤ 3 ∨ j = 6 ∨ j = 8 ∨ j = 9)) (h2 : ¬ (53 + 6 * (t % 60) ≤ j ∧ j < 53 + 6 * (t % 60) + 6)) : tenF tx t4 calm X c j = X j := by
  unfold tenF
  rw [upN (by omega), wind_hi (by omega) (by omega), sw_hi (by omega) (by omega), mv_hi (by omega), show (X 8).toInt.toNat = t by omega]
  exact (upN (by omega)).trans (if_neg (by omega))
theorem ten_slot {tx : Nat → Int32} {t4 calm c : Int32} {X : Nat → Int32} {t j : Nat} (ht : (X 8).toInt = (t : Int)) (hj : j < 6) : tenF tx t4 calm X c (53 + 6 * (t % 60) + j) = if j < 5 then nvX X j else c := by
  unfold tenF
  rw [upN (by omega), wind_hi (by omega) (by omega), sw_hi (by omega) (by omega), mv_hi (by omega), show (X 8).toInt.toNat = t by omega]
  by_cases h5 : j < 5
  · rw [if_pos h5]
    refine (upN (by omega)).trans ((if_pos (by omega)).trans ?_)
    congr 1
    omega
  · rw [if_neg h5, show j = 5 by omega]
    exact upd_eq
theorem ten_8 {tx : Nat → Int32} {t4 calm c : Int32} {X : Nat → Int32} : tenF tx t4 calm X c 8 = X 8 + 1 := by
  unfold tenF
  rw [upd_eq, wind_hi (by omega) (by omega), sw_hi (by omega) (by omega), mv_hi (by omega), slot_lo (by omega)]
section WC63
variable {μ : Mu} {z : Zt} {l : Nat} {C N X : Nat → Int32}
theorem fC_540 {h : okl l} : fC μ l C N X 540 = μ 540 := fC_o (by omega) (by omega) (by have := h.2.2.2.2; have := h.1; intro q; rw [← q] at this; have e := this.2 (fun _ => 0) (fun _ => 0) (fun _ => none); rw [isI_540.2] at e; cases e)
theorem fC_402 (h : okl l) : fC μ l C N X 402 = μ 402 := fC_o (by omega) (by omega) (by have := h.2.2.2.2; omega)
theorem fC_460 (h : okl l) : fC μ l C N X 460 = μ 460 := fC_o (by omega) (by omega) (by have := h.2.2.2.2; omega)
theorem Tc_C (h : okl l) (hT : Tc μ z) : Tc (fC μ l C N X) z := by
  obtain ⟨h0, h1, h2⟩ := hT
  refine ⟨h0, TX_f TT _ _ _ (fC_540 (h := h)) (fun k hk => ?_) h1, by rw [fC_402 h]; exact h2⟩
  rcases hk with rfl | rfl
  · rw [fC_402 h]; exact ⟨rfl, rfl⟩
  · rw [fC_460 h]; exact ⟨rfl, rfl⟩
theorem lawW {s : Nat} {wo lo hi : Int32} {nv : Nat → Int32} {ag : Nat → Nat → Int32} (h : okl l) (hT : Tc μ z) (hs : s < 5) (hk : kindOk s N nv ag) (hlh : lo.toInt ≤ hi.toInt) : mX0_law 400 (Int32.ofNat s) wo lo hi (WC μ z l C N X) = some (sayF (μ 540) (μ 402 3) (Int32.ofNat s) wo lo hi nv ag, WC μ z l C N X) := by
  have hT2 := Tc_C (C := C) (N := N) (X := X) h hT
  rw [law_E (s := s) (nv := nv) (ag := ag) hT2.1 hs hT2.2.1 hT2.2.2 hk hlh, fC_540 (h := h), fC_402 h]
theorem commandByW {t : Int32} {y : Nat} {nv : Nat → Int32} {ag : Nat → Nat → Int32} (h : okl l) (hT : Tc μ z) (ht : txtOf μ z t y) (hk : kindOk 2 N nv ag) : mX0_commandBy 400 (some y) (WC μ z l C N X) = some (cmdF (μ 540) t nv ag, WC μ z l C N X) := by
  have hT2 := Tc_C (C := C) (N := N) (X := X) h hT
  have e : txtOf (fC μ l C N X) z t y := by
    unfold txtOf at ht ⊢
    rw [fC_402 h]
    exact ht
  rw [commandBy_E (nv := nv) (ag := ag) hT2.1 hT2.2.1 e hk, fC_540 (h := h)]
/-- the command of a hand, of a row -/
def handF (tx : Nat → Int32) (t : Int32) (X : Nat → Int32) : Int32 := cmdF tx t (nvX X) (agX (X 8).toInt.toNat ((X 8).toInt.toNat - 60) X)
theorem handOf_E {t : Nat} {t9 : Int32} {y : Nat} (h : okl l) (hT : Tc μ z) (hy : txtOf μ z t9 y) (hr : RBw X) (ht : (X 8).toInt = (t : Int)) (h9 : t < 1000000) (hb : HB9 t X) : mX0_handOf 400 (some l) (some y) (WC μ z l C N X) = some (handF (μ 540) t9 X, WC μ z l C (nmA t X N) X) := by
  unfold mX0_handOf
  refine bind_step (recv_400 554 (by omega) _ _) ?_
  refine bind_step (cal_E (names_E h ht h9)) ?_
  refine bind_step (recv_400 554 (by omega) _ _) ?_
  refine bind_step (cal_E (commandByW h hT hy (kind_now (by omega) hr hb))) ?_
  unfold handF
  rw [show (X 8).toInt.toNat = t by omega]
theorem sw_bd {tx : Nat → Int32} {t4 x : Int32} {nv : Nat → Int32} {ag : Nat → Nat → Int32} : bd (sayF tx t4 1 (cutF x (-99) 99) (-99) 99 nv ag) (-99) 99 := sayF_bd (lo := -99) (hi := 99) (by decide) (cutF_bd (by decide))
theorem ne0 {x : Int32} {a b : Int} (h : bd x a b) (ha : 1 ≤ a) : x ≠ 0 := fun q => by
  rw [q] at h
  have := h.1
  have : (0 : Int32).toInt = 0 := rfl
  omega
theorem swings_E {t : Nat} (h : okl l) (hT : Tc μ z) (hr : RBw X) (ht : (X 8).toInt = (t : Int)) (h9 : t < 1000000) (hb : HB9 t X) : mX0_swings 400 (some l) (WC μ z l C N X) = some ((), WC μ z l C (nmA t X N) (swF (μ 540) (μ 402 3) t X)) := by
  have k1 := kind_now (N := N) (s := 1) (by omega) hr hb
  have b1 : bd (sayF (μ 540) (μ 402 3) 1 (cutF ((X 0 - X 2) / X 4) (-99) 99) (-99) 99 (nvX X) (agX t (t - 60) X)) (-99) 99 := sw_bd
  have e0 : nmA t X N 0 = X 0 - X 2 := rfl
  obtain ⟨r0, r1, r2, r3, r4, r5, r6, r7, r9⟩ := hr
  have n4 : X 4 ≠ 0 := ne0 r4 (by omega)
  have b2 : bd (cutF (X 3 + sayF (μ 540) (μ 402 3) 1 (cutF ((X 0 - X 2) / X 4) (-99) 99) (-99) 99 (nvX X) (agX t (t - 60) X)) (-99) 99) (-99) 99 := cutF_bd (lo := -99) (hi := 99) (by decide)
  have q1 : -1000000000 ≤ (X 3).toInt + (sayF (μ 540) (μ 402 3) 1 (cutF ((X 0 - X 2) / X 4) (-99) 99) (-99) 99 (nvX X) (agX t (t - 60) X)).toInt ∧ (X 3).toInt + (sayF (μ 540) (μ 402 3) 1 (cutF ((X 0 - X 2) / X 4) (-99) 99) (-99) 99 (nvX X) (agX t (t - 60) X)).toInt ≤ 1000000000 := by
    have := r3.1; have := r3.2; have := b1.1; have := b1.2; omega
  have q2 : -1000000000 ≤ (X 2).toInt + (cutF (X 3 + sayF (μ 540) (μ 402 3) 1 (cutF ((X 0 - X 2) / X 4) (-99) 99) (-99) 99 (nvX X) (agX t (t - 60) X)) (-99) 99).toInt ∧ (X 2).toInt + (cutF (X 3 + sayF (μ 540) (μ 402 3) 1 (cutF ((X 0 - X 2) / X 4) (-99) 99) (-99) 99 (nvX X) (agX t (t - 60) X)) (-99) 99).toInt ≤ 1000000000 := by
    have := r2.1; have := r2.2; have := b2.1; have := b2.2; omega
  unfold mX0_swings
  refine bind_step (recv_400 554 (by omega) _ _) ?_
  refine bind_step (cal_E (names_E h ht h9)) ?_
  refine bind_step (gR_400_6 554 (by omega) _ _) ?_
  refine bind_step (iaN (n := 0)  rfl (by omega)) ?_
  refine bind_step (iaX (n := 4) h rfl (by omega)) ?_
  refine bind_step (idvF n4) ?_
  refine bind_step (cal_w (heldB (by decide))) ?_
  refine bind_step (recv_400 554 (by omega) _ _) ?_
  refine bind_step (cal_w (lawW (s := 1) (nv := nvX X) (ag := agX t (t - 60) X) h hT (by omega) k1 (by decide))) ?_
  refine bind_step (iaX (n := 3) h rfl (by omega)) ?_
  refine bind_step (cal_w (heldA q1 (by decide))) ?_
  refine bind_step (iasX (n := 3) h rfl (by omega)) ?_
  refine bind_step (iaX (n := 2) h rfl (by omega)) ?_
  refine bind_step (iaX (n := 3) h rfl (by omega)) ?_
  refine bind_step (cal_w (heldA q2 (by decide))) ?_
  refine bind_step (iasX (n := 2) h rfl (by omega)) ?_
  rfl
theorem draws_E (h : okl l) : mX0_draws (some l) (WC μ z l C N X) = some ((), WC μ z l C N (upd X 9 (remF (X 9 * 263 + 157) 30253))) := by
  unfold mX0_draws
  refine bind_step (iaX (n := 9) h rfl (by omega)) ?_
  refine bind_step (irmF (by decide)) ?_
  refine bind_step (iasX (n := 9) h rfl (by omega)) ?_
  rfl
theorem blows_E (h : okl l) : mX0_blows 400 (some l) (WC μ z l C N X) = some ((), WC μ z l C N (blF X)) := by
  unfold blF
  unfold mX0_blows
  refine bind_step (iaX (n := 8) h rfl (by omega)) ?_
  refine bind_step (irmF (by decide)) ?_
  by_cases hc : ¬ remF (X 8 + 1) 40 = 0
  · refine (if_pos (hc)).trans ?_
    refine bind_step (iaX (n := 6) h rfl (by omega)) ?_
    refine bind_step (iasX (n := 6) h rfl (by omega)) ?_
    rw [if_pos hc]
  · refine (if_neg (hc)).trans ?_
    refine bind_step (iaX (n := 9) h rfl (by omega)) ?_
    refine bind_step (irmF (by decide)) ?_
    refine bind_step (iasX (n := 6) h rfl (by omega)) ?_
    refine bind_step (cal_E (draws_E h)) ?_
    rw [if_neg hc]
    rfl
theorem ten_p99 {t : Nat} (h : okl l) (hT : Tc μ z) (hr : RBw X) (ht : (X 8).toInt = (t : Int)) (h9 : t < 1000000) (hb : HB9 t X) : mX0_tenth_p99 (WC μ z l C N X) (some 400) (some l) = some ((), WC μ z l C (nmA t X N) (upd (windF (C 7) (swF (μ 540) (μ 402 3) t X)) 8 (windF (C 7) (swF (μ 540) (μ 402 3) t X) 8 + 1))) := by
  unfold windF
  unfold mX0_tenth_p99
  refine bind_step (recv_400 554 (by omega) _ _) ?_
  refine bind_step (cal_E (swings_E h hT hr ht h9 hb)) ?_
  refine bind_step (gIC_7) ?_
  by_cases hc : ¬ C 7 = 0
  · refine (if_pos (hc)).trans ?_
    refine bind_step (iaX (n := 8) h rfl (by omega)) ?_
    refine bind_step (iasX (n := 8) h rfl (by omega)) ?_
    rw [if_pos hc]
  · refine (if_neg (hc)).trans ?_
    refine bind_step (recv_400 554 (by omega) _ _) ?_
    refine bind_step (cal_E (blows_E h)) ?_
    refine bind_step (iaX (n := 8) h rfl (by omega)) ?_
    refine bind_step (iasX (n := 8) h rfl (by omega)) ?_
    rw [if_neg hc]
theorem slot_N {t a : Nat} {c : Int32} : slotF a (nmA t X N) X c = slotF a (nvX X) X c := by
  funext j
  unfold slotF upd va_cpy
  by_cases h1 : j = a + 5
  · rw [if_pos h1, if_pos h1]
  · rw [if_neg h1, if_neg h1]
    by_cases h2 : a ≤ j ∧ j < a + 5
    · rw [if_pos h2, if_pos h2]
      have e : nmA t X N (0 + (j - a)) = nmF X N (0 + (j - a)) := if_neg (by omega)
      rw [e, nm_j (by omega)]
    · rw [if_neg h2, if_neg h2]
theorem sixty (t : Nat) : t % 60 < 60 := Nat.mod_lt _ (by omega)
theorem RBw_lo {X Y : Nat → Int32} (h : ∀ j, j < 10 → j ≠ 0 → j ≠ 1 → Y j = X j) (h0 : bd (Y 0) 0 600) (h1 : bd (Y 1) (-9) 9) (hr : RBw X) : RBw Y := by
  obtain ⟨r0, r1, r2, r3, r4, r5, r6, r7, r9⟩ := hr
  exact ⟨h0, h1, by rw [h 2 (by omega) (by omega) (by omega)]; exact r2, by rw [h 3 (by omega) (by omega) (by omega)]; exact r3, by rw [h 4 (by omega) (by omega) (by omega)]; exact r4, by rw [h 5 (by omega) (by omega) (by omega)]; exact r5, by rw [h 6 (by omega) (by omega) (by omega)]; exact r6, by rw [h 7 (by omega) (by omega) (by omega)]; exact r7, by rw [h 9 (by omega) (by omega) (by omega)]; exact r9⟩
theorem pace_bd {p x c : Int32} (hp : bd p 0 9) : bd (cutF (x + c) (-p) p) (-9) 9 := by
  have e : (-p).toInt = -p.toInt := I32_neg rfl (by have := hp.1; have := hp.2; omega)
  have h := cutF_bd (a := x + c) (lo := -p) (hi := p) (by rw [e]; have := hp.1; omega)
  rw [e] at h
  exact bd_w h (by have := hp.2; omega) hp.2
theorem inB_ne {a lo hi : Int32} : ¬ inB a lo hi = 0 ↔ bd a lo.toInt hi.toInt := by
  rw [← inB_bd]
  rcases inB_01 a lo hi with h | h <;> rw [h] <;> decide
theorem mv_0 {tx : Nat → Int32} {t4 c : Int32} {t : Nat} {X : Nat → Int32} (hr : RBw X) : bd (mvF tx t4 t X c 0) 0 600 ∧ bd (mvF tx t4 t X c 1) (-9) 9 := by
  have hp : bd (sayF tx t4 0 3 0 9 (nvX X) (agX t (t - 60) X)) 0 9 := sayF_bd (lo := 0) (hi := 9) (by decide) ⟨by decide, by decide⟩
  unfold mvF
  generalize sayF tx t4 0 3 0 9 (nvX X) (agX t (t - 60) X) = p at hp
  have hq := pace_bd (x := X 1) (c := c) hp
  by_cases hc : ¬ inB ((upd (upd (slotF (53 + 6 * (t % 60)) (nvX X) X c) 1 (cutF (X 1 + c) (-p) p)) 0 (X 0 + (upd (slotF (53 + 6 * (t % 60)) (nvX X) X c) 1 (cutF (X 1 + c) (-p) p)) 1)) 0) 0 600 = 0
  · rw [if_pos hc]
    refine ⟨inB_ne.mp hc, ?_⟩
    rw [upN (by omega), upd_eq]
    exact hq
  · rw [if_neg hc]
    refine ⟨?_, by rw [upd_eq]; exact ⟨by decide, by decide⟩⟩
    rw [upN (by omega), upd_eq]
    exact cutF_bd (lo := 0) (hi := 600) (by decide)
theorem mv_RB {tx : Nat → Int32} {t4 c : Int32} {t : Nat} {X : Nat → Int32} (hr : RBw X) : RBw (mvF tx t4 t X c) := by
  obtain ⟨h0, h1⟩ := mv_0 (tx := tx) (t4 := t4) (c := c) (t := t) hr
  exact RBw_lo (fun j hj j0 j1 => by rw [mv_hi (by omega), slot_lo (by omega)]) h0 h1 hr
theorem mod60 {t q : Nat} (h1 : 1 ≤ q) (h2 : q ≤ 59) (h3 : q ≤ t) : (t - q) % 60 ≠ t % 60 := by omega
theorem mv_ago {tx : Nat → Int32} {t4 c : Int32} {t q j : Nat} {X : Nat → Int32} (h1 : 1 ≤ q) (h2 : q ≤ 9) (h3 : q ≤ t) (hj : j < 5) : mvF tx t4 t X c (53 + 6 * ((t - q) % 60) + j) = X (53 + 6 * ((t - q) % 60) + j) := by
  have := mod60 (t := t) h1 (by omega) h3
  rw [mv_hi (by omega)]
  exact (upN (by omega)).trans (if_neg (by omega))
theorem mv_HB {tx : Nat → Int32} {t4 c : Int32} {t : Nat} {X : Nat → Int32} (hb : HB9 t X) : HB9 t (mvF tx t4 t X c) := fun q j h1 h2 h3 hj => by
  rw [mv_ago h1 h2 h3 hj]
  exact hb q j h1 h2 h3 hj
theorem tenth_E {t : Nat} {c : Int32} (h : okl l) (hT : Tc μ z) (hr : RBw X) (ht : (X 8).toInt = (t : Int)) (h9 : t < 1000000) (hb : HB9 t X) (hc : bd c (-1) 1) : ∃ N', mX0_tenth 400 (some l) c (WC μ z l C N X) = some ((), WC μ z l C N' (tenF (μ 540) (μ 402 3) (C 7) X c)) := by
  have k0 := kind_now (N := N) (s := 0) (by omega) hr hb
  have hp : bd (sayF (μ 540) (μ 402 3) 0 3 0 9 (nvX X) (agX t (t - 60) X)) 0 9 := sayF_bd (lo := 0) (hi := 9) (by decide) ⟨by decide, by decide⟩
  have hm0 := mv_0 (tx := μ 540) (t4 := μ 402 3) (c := c) (t := t) hr
  have hmR := mv_RB (tx := μ 540) (t4 := μ 402 3) (c := c) (t := t) hr
  have hmH := mv_HB (tx := μ 540) (t4 := μ 402 3) (c := c) hb
  have hm8 : (mvF (μ 540) (μ 402 3) t X c 8).toInt = (t : Int) := by rw [mv_hi (by omega), slot_lo (by omega)]; exact ht
  have q1 : -1000000000 ≤ (X 1).toInt + c.toInt ∧ (X 1).toInt + c.toInt ≤ 1000000000 := by have := hr.2.1.1; have := hr.2.1.2; have := hc.1; have := hc.2; omega
  have hpn : (-(sayF (μ 540) (μ 402 3) 0 3 0 9 (nvX X) (agX t (t - 60) X))).toInt ≤ (sayF (μ 540) (μ 402 3) 0 3 0 9 (nvX X) (agX t (t - 60) X)).toInt := by
    rw [I32_neg rfl (by have := hp.1; have := hp.2; omega)]
    have := hp.1
    omega
  obtain ⟨r, r1, r2⟩ := tenthAt_E (T := X 8) (w := WC μ z l C (nmA t X N) X) ht h9
  have h60 := sixty t
  have ea : tenF (μ 540) (μ 402 3) (C 7) X c = upd (windF (C 7) (swF (μ 540) (μ 402 3) t (mvF (μ 540) (μ 402 3) t X c))) 8 (windF (C 7) (swF (μ 540) (μ 402 3) t (mvF (μ 540) (μ 402 3) t X c)) 8 + 1) := by
    unfold tenF
    rw [show (X 8).toInt.toNat = t by omega]
  rw [ea]
  have e1 : ∀ {v : Int32}, va_cpy (nmA t X N) X 0 (53 + 6 * (t % 60)) 5 1 = X 1 := fun {v} => if_neg (by omega)
  refine ⟨nmA t (mvF (μ 540) (μ 402 3) t X c) (nmA t X N), ?_⟩
  have hY1 : slotF (53 + 6 * (t % 60)) (nvX X) X c 1 = X 1 := slot_lo (by omega)
  have hY0 : ∀ v, upd (slotF (53 + 6 * (t % 60)) (nvX X) X c) 1 v 0 = X 0 := fun v => (upN (by omega)).trans (slot_lo (by omega))
  have es : upd (va_cpy (nmA t X N) X 0 (53 + 6 * (t % 60)) 5) (53 + 6 * (t % 60) + 5) c = slotF (53 + 6 * (t % 60)) (nvX X) X c := slot_N
  unfold mX0_tenth
  refine bind_step (recv_400 554 (by omega) _ _) ?_
  refine bind_step (cal_E (names_E h ht h9)) ?_
  refine bind_step (recv_400 554 (by omega) _ _) ?_
  refine bind_step (cal_w (lawW (s := 0) (nv := nvX X) (ag := agX t (t - 60) X) h hT (by omega) k0 (by decide))) ?_
  refine bind_step (iaX (n := 8) h rfl (by omega)) ?_
  refine bind_step (cal_w r1) ?_
  refine bind_step (gR_400_6 554 (by omega) _ _) ?_
  refine bind_step (acpNX (n := 5) (p := 0) h rfl r2 rfl (by omega) (by omega)) ?_
  refine bind_step (iasX (n := 53 + 6 * (t % 60) + 5) h (addN r2 (y := 5) rfl (by omega)) (by omega)) ?_
  rw [es]
  refine bind_step (iaX (n := 1) h rfl (by omega)) ?_
  rw [hY1]
  refine bind_step (cal_w (heldA q1 hpn)) ?_
  refine bind_step (iasX (n := 1) h rfl (by omega)) ?_
  refine bind_step (iaX (n := 0) h rfl (by omega)) ?_
  rw [hY0]
  refine bind_step (iaX (n := 1) h rfl (by omega)) ?_
  refine bind_step (iasX (n := 0) h rfl (by omega)) ?_
  refine bind_step (iaX (n := 0) h rfl (by omega)) ?_
  refine bind_step (cal_w (in_E _ _ _ _)) ?_
  by_cases hx : ¬ inB ((upd (upd (slotF (53 + 6 * (t % 60)) (nvX X) X c) 1 (cutF (X 1 + c) (-(sayF (μ 540) (μ 402 3) 0 3 0 9 (nvX X) (agX t (t - 60) X))) (sayF (μ 540) (μ 402 3) 0 3 0 9 (nvX X) (agX t (t - 60) X)))) 0 (X 0 + (upd (slotF (53 + 6 * (t % 60)) (nvX X) X c) 1 (cutF (X 1 + c) (-(sayF (μ 540) (μ 402 3) 0 3 0 9 (nvX X) (agX t (t - 60) X))) (sayF (μ 540) (μ 402 3) 0 3 0 9 (nvX X) (agX t (t - 60) X)))) 1)) 0) 0 600 = 0
  · refine (if_pos hx).trans ?_
    have em2 : mvF (μ 540) (μ 402 3) t X c = upd (upd (slotF (53 + 6 * (t % 60)) (nvX X) X c) 1 (cutF (X 1 + c) (-(sayF (μ 540) (μ 402 3) 0 3 0 9 (nvX X) (agX t (t - 60) X))) (sayF (μ 540) (μ 402 3) 0 3 0 9 (nvX X) (agX t (t - 60) X)))) 0 (X 0 + (upd (slotF (53 + 6 * (t % 60)) (nvX X) X c) 1 (cutF (X 1 + c) (-(sayF (μ 540) (μ 402 3) 0 3 0 9 (nvX X) (agX t (t - 60) X))) (sayF (μ 540) (μ 402 3) 0 3 0 9 (nvX X) (agX t (t - 60) X)))) 1) := by
      unfold mvF
      exact if_pos hx
    have g := ten_p99 (C := C) (N := nmA t X N) h hT hmR hm8 h9 hmH
    rw [em2] at g ⊢
    exact g
  · refine (if_neg hx).trans ?_
    refine bind_step (iaX (n := 0) h rfl (by omega)) ?_
    refine bind_step (cal_w (heldB (by decide))) ?_
    refine bind_step (iasX (n := 0) h rfl (by omega)) ?_
    refine bind_step (iasX (n := 1) h rfl (by omega)) ?_
    have em2 : mvF (μ 540) (μ 402 3) t X c = upd (upd (upd (upd (slotF (53 + 6 * (t % 60)) (nvX X) X c) 1 (cutF (X 1 + c) (-(sayF (μ 540) (μ 402 3) 0 3 0 9 (nvX X) (agX t (t - 60) X))) (sayF (μ 540) (μ 402 3) 0 3 0 9 (nvX X) (agX t (t - 60) X)))) 0 (X 0 + (upd (slotF (53 + 6 * (t % 60)) (nvX X) X c) 1 (cutF (X 1 + c) (-(sayF (μ 540) (μ 402 3) 0 3 0 9 (nvX X) (agX t (t - 60) X))) (sayF (μ 540) (μ 402 3) 0 3 0 9 (nvX X) (agX t (t - 60) X)))) 1)) 0 (cutF (upd (upd (slotF (53 + 6 * (t % 60)) (nvX X) X c) 1 (cutF (X 1 + c) (-(sayF (μ 540) (μ 402 3) 0 3 0 9 (nvX X) (agX t (t - 60) X))) (sayF (μ 540) (μ 402 3) 0 3 0 9 (nvX X) (agX t (t - 60) X)))) 0 (X 0 + (upd (slotF (53 + 6 * (t % 60)) (nvX X) X c) 1 (cutF (X 1 + c) (-(sayF (μ 540) (μ 402 3) 0 3 0 9 (nvX X) (agX t (t - 60) X))) (sayF (μ 540) (μ 402 3) 0 3 0 9 (nvX X) (agX t (t - 60) X)))) 1) 0) 0 600)) 1 0 := by
      unfold mvF
      exact if_neg hx
    have g := ten_p99 (C := C) (N := nmA t X N) h hT hmR hm8 h9 hmH
    rw [em2] at g ⊢
    exact g
/-- whether a row hangs still -/
def hsF (near : Int32) (X : Nat → Int32) : Int32 := if ¬ X 1 = 0 then 0 else if near < jabsI (X 0 - X 7) then 0 else if near < jabsI (X 0 - X 2) then 0 else if 1 < jabsI (X 3) then 0 else 1
theorem hangsStill_E (h : okl l) : mX0_hangsStill 400 (some l) (WC μ z l C N X) = some (hsF (μ 402 1) X, WC μ z l C N X) := by
  have e : fC μ l C N X 402 1 = μ 402 1 := by rw [fC_402 h]
  unfold mX0_hangsStill hsF
  refine bind_step (gR_400_0 554 (by omega) _ _) ?_
  refine bind_step (gR_401_0 554 (by omega) _ _) ?_
  refine bind_step (ia_E (n := 1) isI_402 rfl (by omega)) ?_
  rw [e]
  refine bind_step (iaX (n := 1) h rfl (by omega)) ?_
  by_cases h1 : ¬ X 1 = 0
  · rw [if_pos h1, if_pos h1]
    exact bind_step nok0 rfl
  · rw [if_neg h1, if_neg h1]
    refine bind_step (iaX (n := 0) h rfl (by omega)) ?_
    refine bind_step (iaX (n := 7) h rfl (by omega)) ?_
    by_cases h2 : μ 402 1 < jabsI (X 0 - X 7)
    · rw [if_pos h2, if_pos h2]
      exact bind_step nok0 rfl
    · rw [if_neg h2, if_neg h2]
      refine bind_step (iaX (n := 0) h rfl (by omega)) ?_
      refine bind_step (iaX (n := 2) h rfl (by omega)) ?_
      by_cases h3 : μ 402 1 < jabsI (X 0 - X 2)
      · rw [if_pos h3, if_pos h3]
        exact bind_step nok0 rfl
      · rw [if_neg h3, if_neg h3]
        refine bind_step (iaX (n := 3) h rfl (by omega)) ?_
        by_cases h4 : 1 < jabsI (X 3)
        · rw [if_pos h4, if_pos h4]
          exact bind_step nok0 rfl
        · rw [if_neg h4, if_neg h4]
          exact bind_step nok1 rfl
end WC63
