/-! ===== a tenth: the component's row against the model's ===== -/
def RM (X A : Nat → Int32) : Prop := ∀ j, j < 9 → A (8 + j) = X j
def Nr (t : Nat) (X A : Nat → Int32) : Prop := ∀ q j, 1 ≤ q → q ≤ 9 → q ≤ t → j < 5 → A (602 + 6 * ((t - q) % 1536) + j) = X (53 + 6 * ((t - q) % 60) + j)
theorem nmM_j {X A N : Nat → Int32} (h : RM X A) {j : Nat} (hj : j < 7) : nmM A N j = nvX X j := by
  have h0 : A 8 = X 0 := h 0 (by omega)
  have h1 : A 9 = X 1 := h 1 (by omega)
  have h2 : A 10 = X 2 := h 2 (by omega)
  have h3 : A 11 = X 3 := h 3 (by omega)
  have h4 : A 12 = X 4 := h 4 (by omega)
  have h5 : A 13 = X 5 := h 5 (by omega)
  have h6 : A 14 = X 6 := h 6 (by omega)
  have h7 : A 15 = X 7 := h 7 (by omega)
  unfold nmM
  rw [h0, h1, h2, h3, h4, h5, h6, h7]
  match j, hj with
  | 0, _ => rfl
  | 1, _ => rfl
  | 2, _ => rfl
  | 3, _ => rfl
  | 4, _ => rfl
  | 5, _ => rfl
  | 6, _ => rfl
theorem kind_M {t s : Nat} {X A N N0 : Nat → Int32} (hs : s < 3) (hr : RBw X) (hm : RM X A) (hb : HB9 t X) (hn : Nr t X A) : kindOk s (nmA t X N0) (nmM A N) (agM t (t - 60) A) := by
  obtain ⟨k1, k2⟩ := kind_now (N := N0) hs hr hb
  refine ⟨fun j hj => ?_, fun h3 q j q1 q2 q3 => ?_⟩
  · have hj7 : j < 7 := by
      rcases hj with hj | hj | hj <;> omega
    rw [nmM_j hm hj7]
    exact k1 j hj
  · have e : agM t (t - 60) A q j = agX t (t - 60) X q j := by
      unfold agM agX
      by_cases hc : t - 60 + q ≤ t
      · rw [if_pos hc, if_pos ⟨hc, q3⟩]
        exact hn q j q1 q2 (by omega) q3
      · rw [if_neg hc, if_neg (fun w => hc w.1)]
    rw [e]
    exact k2 h3 q j q1 q2 q3
theorem clV_congr {μ : Mu} {z : Zt} {a : Int32} {s k : Nat} {N0 nv nv' : Nat → Int32} {ag ag' : Nat → Nat → Int32} (hs : s < 5) (hT : TX TT μ z) (ha : -1 ≤ a.toInt ∧ a.toInt < (μ 402 2).toInt) (h : clsF (μ 540) a (Int32.ofNat s) = some k) (h1 : kindOk s N0 nv ag) (h2 : kindOk s N0 nv' ag') : clV (μ 540) a.toInt.toNat k nv ag = clV (μ 540) a.toInt.toNat k nv' ag' := by
  obtain ⟨tt, x1, x2, r, a1, a2, a3, a4, a5, a6, a7, a8⟩ := cls_some hs hT ha h
  have e := a8.val (z := z) (fun _ _ => rfl) h1 h2 [] []
  unfold clV
  rw [show a.toInt.toNat = tt by omega, e]
theorem say_congr {μ : Mu} {z : Zt} {a wo lo hi : Int32} {s : Nat} {N0 nv nv' : Nat → Int32} {ag ag' : Nat → Nat → Int32} (hs : s < 5) (hT : TX TT μ z) (ha : -1 ≤ a.toInt ∧ a.toInt < (μ 402 2).toInt) (h1 : kindOk s N0 nv ag) (h2 : kindOk s N0 nv' ag') : sayF (μ 540) a (Int32.ofNat s) wo lo hi nv ag = sayF (μ 540) a (Int32.ofNat s) wo lo hi nv' ag' := by
  unfold sayF
  cases hc : clsF (μ 540) a (Int32.ofNat s) with
  | none => rfl
  | some k =>
    show cutF _ _ _ = cutF _ _ _
    rw [clV_congr hs hT ha hc h1 h2]
theorem cmd_congr {μ : Mu} {z : Zt} {a : Int32} {N0 nv nv' : Nat → Int32} {ag ag' : Nat → Nat → Int32} (hT : TX TT μ z) (ha : -1 ≤ a.toInt ∧ a.toInt < (μ 402 2).toInt) (h1 : kindOk 2 N0 nv ag) (h2 : kindOk 2 N0 nv' ag') : cmdF (μ 540) a nv ag = cmdF (μ 540) a nv' ag' := by
  unfold cmdF
  cases hc : clsF (μ 540) a 2 with
  | none =>
    have e1 := (h1.1 4 (Or.inl ⟨by omega, by omega⟩)).1
    have e2 := (h2.1 4 (Or.inl ⟨by omega, by omega⟩)).1
    simp only [← e1, ← e2]
  | some k => simp only [clV_congr (s := 2) (by omega) hT ha hc h1 h2]
/-- the hand's command, of the model's row -/
theorem hand_rel {μ : Mu} {z : Zt} {F A N T : Nat → Int32} {V : Nat → Int64} {X : Nat → Int32} {t : Nat} {a : Int32} (hT : TX TT μ z) (ha : -1 ≤ a.toInt ∧ a.toInt < (μ 402 2).toInt) (hr : RBw X) (hm : RM X A) (ht : (X 8).toInt = (t : Int)) (h9 : t < 1000000) (hb : HB9 t X) (hn : Nr t X A) :
    ∃ T' V', mX2_commandNow 537 a (WM μ z F A N T V) = some (handF (μ 540) a X, WM μ z (fNow F A) A (nmM A N) T' V') := by
  have h16 : (A 16).toInt = (t : Int) := by rw [hm 8 (by omega)]; exact ht
  have k2 := kind_M (s := 2) (N := N) (N0 := fun _ => 0) (by omega) hr hm hb hn
  obtain ⟨T', V', e⟩ := commandNow_E (z := z) (F := F) (T := T) (V := V) hT ha h16 h9 k2
  refine ⟨T', V', ?_⟩
  rw [e]
  unfold handF
  rw [show (X 8).toInt.toNat = t by omega, cmd_congr hT ha k2 (kind_now (N := fun _ => 0) (s := 2) (by omega) hr hb)]
theorem mvF_eq {tx : Nat → Int32} {t4 c p : Int32} {t : Nat} {X : Nat → Int32} (hp : p = sayF tx t4 0 3 0 9 (nvX X) (agX t (t - 60) X)) : mvF tx t4 t X c 0 = (if ¬ inB (X 0 + cutF (X 1 + c) (-p) p) 0 600 = 0 then X 0 + cutF (X 1 + c) (-p) p else cutF (X 0 + cutF (X 1 + c) (-p) p) 0 600) ∧
    mvF tx t4 t X c 1 = if ¬ inB (X 0 + cutF (X 1 + c) (-p) p) 0 600 = 0 then cutF (X 1 + c) (-p) p else 0 := by
  unfold mvF
  rw [← hp]
  have e1 : upd (slotF (53 + 6 * (t % 60)) (nvX X) X c) 1 (cutF (X 1 + c) (-p) p) 1 = cutF (X 1 + c) (-p) p := upd_eq
  rw [e1]
  have e0 : ∀ v, upd (upd (slotF (53 + 6 * (t % 60)) (nvX X) X c) 1 (cutF (X 1 + c) (-p) p)) 0 v 0 = v := fun v => upd_eq
  rw [e0]
  by_cases hc : ¬ inB (X 0 + cutF (X 1 + c) (-p) p) 0 600 = 0
  · rw [if_pos hc, if_pos hc, if_pos hc]
    exact ⟨upd_eq, (upN (by omega)).trans upd_eq⟩
  · rw [if_neg hc, if_neg hc, if_neg hc]
    exact ⟨(upN (by omega)).trans upd_eq, upd_eq⟩
theorem mvM_else {a i : Nat} {A : Nat → Int32} {c p : Int32} (h8 : i ≠ 8) (h9 : i ≠ 9) : mvM a A c p i = slotM a A c i := by
  unfold mvM
  split
  · rw [upN h9, upN h8, upN h8, upN h9]
  · split
    · rw [upN h8, upN h9]
    · rw [upN h9, upN h8, upN h8, upN h9]
theorem mvM_eq {a : Nat} {A : Nat → Int32} {c p : Int32} (ha : 602 ≤ a) : mvM a A c p 8 = (if ¬ inB (A 8 + cutF (A 9 + c) (-p) p) 0 600 = 0 then A 8 + cutF (A 9 + c) (-p) p else cutF (A 8 + cutF (A 9 + c) (-p) p) 0 600) ∧
    mvM a A c p 9 = if ¬ inB (A 8 + cutF (A 9 + c) (-p) p) 0 600 = 0 then cutF (A 9 + c) (-p) p else 0 := by
  unfold mvM
  have s8 : slotM a A c 8 = A 8 := slotM_lo (by omega)
  have s9 : slotM a A c 9 = A 9 := slotM_lo (by omega)
  generalize slotM a A c = B at s8 s9
  rw [s9]
  have e1 : upd B 9 (cutF (A 9 + c) (-p) p) 9 = cutF (A 9 + c) (-p) p := upd_eq
  have e2 : upd B 9 (cutF (A 9 + c) (-p) p) 8 = A 8 := (upN (by omega)).trans s8
  rw [e1, e2]
  have e0 : ∀ v, upd (upd B 9 (cutF (A 9 + c) (-p) p)) 8 v 8 = v := fun v => upd_eq
  rw [e0]
  unfold inB
  by_cases h1 : A 8 + cutF (A 9 + c) (-p) p < 0
  · rw [if_pos h1, if_pos h1, if_neg (by decide), if_neg (by decide)]
    exact ⟨(upN (by omega)).trans upd_eq, upd_eq⟩
  · rw [if_neg h1, if_neg h1]
    by_cases h2 : A 8 + cutF (A 9 + c) (-p) p ≤ 600
    · rw [if_pos h2, if_neg (show ¬ (600 : Int32) < A 8 + cutF (A 9 + c) (-p) p by rw [Int32.lt_iff_toInt_lt]; rw [Int32.le_iff_toInt_le] at h2; omega), if_pos (by decide), if_pos (by decide)]
      exact ⟨upd_eq, (upN (by omega)).trans upd_eq⟩
    · rw [if_neg h2, if_pos (show (600 : Int32) < A 8 + cutF (A 9 + c) (-p) p by rw [Int32.lt_iff_toInt_lt]; rw [Int32.le_iff_toInt_le] at h2; omega), if_neg (by decide), if_neg (by decide)]
      exact ⟨(upN (by omega)).trans upd_eq, upd_eq⟩
theorem remN {x m : Int32} {a b : Nat} (hx : x.toInt = (a : Int)) (hm : m.toInt = (b : Int)) (ha : a < 1000000000) (hb : 0 < b) : (remF x m).toInt = ((a % b : Nat) : Int) := by
  obtain ⟨r, h1, h2⟩ := irmN hx hm ha hb
  have : m ≠ 0 := fun q => by
    rw [q] at hm
    have : (0 : Int32).toInt = 0 := rfl
    omega
  rw [irmF this] at h1
  cases h1
  exact h2
theorem J64_mul {a b : Int64} {x y : Nat} (ha : a.toInt = (x : Int)) (hb : b.toInt = (y : Int)) (h : x * y < 1000000000000) : (a * b).toInt = ((x * y : Nat) : Int) := by
  have e : ((x * y : Nat) : Int) = (x : Int) * (y : Int) := Int.natCast_mul x y
  rw [Int64.toInt_mul, ha, hb, ← e, Int.bmod_eq_of_le (by omega) (by omega)]
theorem J64_add {a b : Int64} {x y : Nat} (ha : a.toInt = (x : Int)) (hb : b.toInt = (y : Int)) (h : x + y < 1000000000000) : (a + b).toInt = ((x + y : Nat) : Int) := by
  rw [Int64.toInt_add, ha, hb, Int.bmod_eq_of_le (by omega) (by omega)]
  omega
theorem J64_sub {a b : Int64} {x y : Nat} (ha : a.toInt = (x : Int)) (hb : b.toInt = (y : Int)) (h : y ≤ x) (hx : x < 1000000000000) : (a - b).toInt = ((x - y : Nat) : Int) := by
  rw [Int64.toInt_sub, ha, hb, Int.bmod_eq_of_le (by omega) (by omega)]
  omega
theorem J64_div {a b : Int64} {x y : Nat} (ha : a.toInt = (x : Int)) (hb : b.toInt = (y : Int)) (hx : x < 1000000000000) : (a / b).toInt = ((x / y : Nat) : Int) := by
  have h1 := Nat.div_le_self x y
  rw [Int64.toInt_div, ha, hb, ← Int.ofNat_tdiv]
  generalize x / y = q at h1
  rw [Int.bmod_eq_of_le (by omega) (by omega)]
theorem J64_rem {a b : Int64} {x y : Nat} (ha : a.toInt = (x : Int)) (hb : b.toInt = (y : Int)) (hx : x < 1000000000000) : (a - a / b * b).toInt = ((x % y : Nat) : Int) := by
  have hle := Nat.div_mul_le_self x y
  rw [J64_sub ha (J64_mul (J64_div ha hb hx) hb (by omega)) hle hx, Nat.mod_eq_sub_mul_div (x := x) (k := y), Nat.mul_comm]
theorem anew_eq {x : Int32} (h : bd x 0 30252) : anewF x = remF (x * 263 + 157) 30253 ∧ bd (anewF x) 0 30252 := by
  obtain ⟨a, ha⟩ : ∃ a : Nat, x.toInt = (a : Int) := ⟨x.toInt.toNat, by have := h.1; omega⟩
  have ha2 : a ≤ 30252 := by have := h.2; omega
  have e1 : (remF (x * 263 + 157) 30253).toInt = (((a * 263 + 157) % 30253 : Nat) : Int) := remN (addN (mulN ha (y := 263) rfl (by omega)) (y := 157) rfl (by omega)) (b := 30253) rfl (by omega) (by omega)
  have e2 := J64_rem (J64_add (J64_mul (by rw [toI64]; exact ha) (b := 263) (y := 263) rfl (by omega)) (b := 157) (y := 157) rfl (by omega)) (b := 30253) (y := 30253) rfl (by omega)
  have hm := Nat.mod_lt (a * 263 + 157) (show 0 < 30253 by omega)
  have e3 : (anewF x).toInt = (((a * 263 + 157) % 30253 : Nat) : Int) := by
    unfold anewF
    rw [toI32 (by rw [e2]; omega), e2]
  exact ⟨I32_eq (by rw [e3, e1]), by rw [e3]; omega, by rw [e3]; omega⟩
theorem wind_dec {x : Int32} (h : bd x 0 9) : (if x ≤ 0 then 0 else x - 1) = jmaxI 0 (x - 1) ∧ bd (jmaxI 0 (x - 1)) 0 9 := by
  have e : (x - 1).toInt = x.toInt - 1 := I32_sub rfl rfl (by have := h.1; have := h.2; show -1000000000 ≤ x.toInt - 1 ∧ x.toInt - 1 ≤ 1000000000; omega)
  have z0 : (0 : Int32).toInt = 0 := rfl
  have ej : jmaxI 0 (x - 1) = if 0 < x.toInt - 1 then x - 1 else 0 := by
    unfold jmaxI
    simp only [Int32.lt_iff_toInt_lt, e, z0]
  rw [ej]
  by_cases h1 : x ≤ 0
  · rw [if_pos h1]
    rw [Int32.le_iff_toInt_le, z0] at h1
    rw [if_neg (by omega)]
    exact ⟨rfl, by decide, by decide⟩
  · rw [if_neg h1]
    rw [Int32.le_iff_toInt_le, z0] at h1
    by_cases h2 : 0 < x.toInt - 1
    · rw [if_pos h2]
      exact ⟨rfl, by rw [e]; omega, by rw [e]; have := h.2; omega⟩
    · rw [if_neg h2]
      exact ⟨I32_eq (by rw [e, z0]; omega), by decide, by decide⟩
