/-! ===== the model goes through a tenth ===== -/
/-- what is kept of a tenth, as the model writes it -/
def slotM (a : Nat) (A : Nat → Int32) (c : Int32) : Nat → Int32 :=
  let A1 := upd A a (A 8 - A 10)
  let A2 := upd A1 (a + 1) (A1 11)
  let A3 := upd A2 (a + 2) (A2 9)
  let A4 := upd A3 (a + 3) (A3 14)
  let A5 := upd A4 (a + 4) (A4 15 - A4 8)
  upd A5 (a + 5) c
theorem slotM_lo {a i : Nat} {A : Nat → Int32} {c : Int32} (h : i < a ∨ a + 6 ≤ i) : slotM a A c i = A i := by
  unfold slotM
  rw [upN (by omega), upN (by omega), upN (by omega), upN (by omega), upN (by omega), upN (by omega)]
theorem slotM_at {a : Nat} {A : Nat → Int32} {c : Int32} (ha : 602 ≤ a) : slotM a A c a = A 8 - A 10 ∧ slotM a A c (a + 1) = A 11 ∧ slotM a A c (a + 2) = A 9 ∧ slotM a A c (a + 3) = A 14 ∧ slotM a A c (a + 4) = A 15 - A 8 ∧ slotM a A c (a + 5) = c := by
  unfold slotM
  refine ⟨?_, ?_, ?_, ?_, ?_, upd_eq⟩
  · rw [upN (by omega), upN (by omega), upN (by omega), upN (by omega), upN (by omega), upd_eq]
  · rw [upN (by omega), upN (by omega), upN (by omega), upN (by omega), upd_eq, upN (by omega)]
  · rw [upN (by omega), upN (by omega), upN (by omega), upd_eq, upN (by omega), upN (by omega)]
  · rw [upN (by omega), upN (by omega), upd_eq, upN (by omega), upN (by omega), upN (by omega)]
  · rw [upN (by omega), upd_eq, upN (by omega), upN (by omega), upN (by omega), upN (by omega), upN (by omega), upN (by omega), upN (by omega), upN (by omega)]
/-- moved, ahead of the swing -/
def mvM (a : Nat) (A : Nat → Int32) (c p : Int32) : Nat → Int32 :=
  let B := slotM a A c
  let B1 := upd B 9 (cutF (B 9 + c) (-p) p)
  let B2 := upd B1 8 (B1 8 + B1 9)
  if B2 8 < 0 then upd (upd B2 8 (cutF (B2 8) 0 600)) 9 0 else if B2 8 ≤ 600 then B2 else upd (upd B2 8 (cutF (B2 8) 0 600)) 9 0
def swM (A : Nat → Int32) (b : Int32) : Nat → Int32 :=
  let A1 := upd A 11 (cutF (A 11 + b) (-99) 99)
  upd A1 10 (cutF (A1 10 + A1 11) (-9999) 9999)
def anewF (x : Int32) : Int32 := (x.toInt64 * 263 + 157 - (x.toInt64 * 263 + 157) / 30253 * 30253).toInt32
def windM (calm : Int32) (A : Nat → Int32) : Nat → Int32 := if ¬ calm = 0 then A else if ¬ remF (A 16 + 1) 40 = 0 then (if A 14 ≤ 0 then upd A 14 0 else upd A 14 (A 14 - 1)) else upd (upd A 2 (anewF (A 2))) 14 (remF (A 2) 10)
section WM67
variable {μ : Mu} {z : Zt} {F A N T : Nat → Int32} {V : Nat → Int64}
theorem layPast_E {t : Nat} {c : Int32} (h16 : (A 16).toInt = (t : Int)) (ht : t < 1000000) : mX2_layPast 537 c (WM μ z F A N T V) = some ((), WM μ z F (slotM (602 + 6 * (t % 1536)) A c) N T V) := by
  obtain ⟨r, r1, r2⟩ := irmN (m := 1536) (b := 1536) h16 rfl (by omega) (by omega)
  have h15 := Nat.mod_lt t (show 0 < 1536 by omega)
  have e0 : (602 + 6 * r).toInt = ((602 + 6 * (t % 1536) : Nat) : Int) := addN (x := 602) rfl (mulN (x := 6) rfl r2 (by omega)) (by omega)
  unfold mX2_layPast
  refine bind_step (gR_537_0 554 (by omega) _ _) ?_
  refine bind_step (iaA (n := 16)  rfl (by omega)) ?_
  refine bind_step (r1) ?_
  refine bind_step (gR_537_0 554 (by omega) _ _) ?_
  refine bind_step (recv_537 554 (by omega) _ _) ?_
  refine bind_step (cal_w away_E) ?_
  refine bind_step (iasA (n := 602 + 6 * (t % 1536))  e0 (by omega)) ?_
  refine bind_step (gR_537_0 554 (by omega) _ _) ?_
  refine bind_step (gR_537_0 554 (by omega) _ _) ?_
  refine bind_step (iaA (n := 11)  rfl (by omega)) ?_
  refine bind_step (iasA (n := 602 + 6 * (t % 1536) + 1)  (addN e0 (y := 1) rfl (by omega)) (by omega)) ?_
  refine bind_step (gR_537_0 554 (by omega) _ _) ?_
  refine bind_step (gR_537_0 554 (by omega) _ _) ?_
  refine bind_step (iaA (n := 9)  rfl (by omega)) ?_
  refine bind_step (iasA (n := 602 + 6 * (t % 1536) + 2)  (addN e0 (y := 2) rfl (by omega)) (by omega)) ?_
  refine bind_step (gR_537_0 554 (by omega) _ _) ?_
  refine bind_step (gR_537_0 554 (by omega) _ _) ?_
  refine bind_step (iaA (n := 14)  rfl (by omega)) ?_
  refine bind_step (iasA (n := 602 + 6 * (t % 1536) + 3)  (addN e0 (y := 3) rfl (by omega)) (by omega)) ?_
  refine bind_step (gR_537_0 554 (by omega) _ _) ?_
  refine bind_step (gR_537_0 554 (by omega) _ _) ?_
  refine bind_step (iaA (n := 15)  rfl (by omega)) ?_
  refine bind_step (gR_537_0 554 (by omega) _ _) ?_
  refine bind_step (iaA (n := 8)  rfl (by omega)) ?_
  refine bind_step (iasA (n := 602 + 6 * (t % 1536) + 4)  (addN e0 (y := 4) rfl (by omega)) (by omega)) ?_
  refine bind_step (gR_537_0 554 (by omega) _ _) ?_
  refine bind_step (iasA (n := 602 + 6 * (t % 1536) + 5)  (addN e0 (y := 5) rfl (by omega)) (by omega)) ?_
  rfl
theorem anew_E : mX2_anew 537 (WM μ z F A N T V) = some ((), WM μ z F (upd A 2 (anewF (A 2))) N T V) := by
  unfold mX2_anew
  refine bind_step (gR_537_0 554 (by omega) _ _) ?_
  refine bind_step (gR_537_0 554 (by omega) _ _) ?_
  refine bind_step (iaA (n := 2)  rfl (by omega)) ?_
  refine bind_step (if_neg (by decide)) ?_
  refine bind_step (iasA (n := 2)  rfl (by omega)) ?_
  rfl
theorem drawn_E {m : Int32} (hm : m ≠ 0) : mX2_drawn 537 m (WM μ z F A N T V) = some (remF (A 2) m, WM μ z F (upd A 2 (anewF (A 2))) N T V) := by
  unfold mX2_drawn
  refine bind_step (gR_537_0 554 (by omega) _ _) ?_
  refine bind_step (iaA (n := 2)  rfl (by omega)) ?_
  refine bind_step (irmF hm) ?_
  refine bind_step (recv_537 554 (by omega) _ _) ?_
  refine bind_step (cal_E anew_E) ?_
  rfl
theorem p255_E {v : Int32} : mX2_pass_p255 (WM μ z F A N T V) (some 537) v 14 (some 538) = some ((), WM μ z F (upd (upd A 14 v) 16 (upd A 14 v 16 + 1)) N T V) := by
  unfold mX2_pass_p255
  refine bind_step (iasA (n := 14)  rfl (by omega)) ?_
  refine bind_step (gR_537_0 554 (by omega) _ _) ?_
  refine bind_step (iaA (n := 16)  rfl (by omega)) ?_
  refine bind_step (iasA (n := 16)  rfl (by omega)) ?_
  rfl
/-- behind the moving -/
theorem p110_E {t : Nat} {N0 : Nat → Int32} (hT : TX TT μ z) (ha : -1 ≤ (A 4).toInt ∧ (A 4).toInt < (μ 402 2).toInt) (h16 : (A 16).toInt = (t : Int)) (ht : t < 1000000) (h12 : A 12 ≠ 0) (hk : kindOk 1 N0 (nmM A N) (agM t (t - 60) A)) :
    ∃ T' V', mX2_pass_p110 (WM μ z F A N T V) (some 537) = some ((), WM μ z (fNow F A) (upd (windM (F 25) (swM A (sayF (μ 540) (A 4) 1 (cutF ((A 8 - A 10) / A 12) (-99) 99) (-99) 99 (nmM A N) (agM t (t - 60) A)))) 16 (windM (F 25) (swM A (sayF (μ 540) (A 4) 1 (cutF ((A 8 - A 10) / A 12) (-99) 99) (-99) 99 (nmM A N) (agM t (t - 60) A))) 16 + 1)) (nmM A N) T' V') := by
  obtain ⟨T', V', e⟩ := says_E (μ := μ) (z := z) (F := fNow F A) (A := A) (N := nmM A N) (T := T) (V := V) (s := 1) (wo := cutF ((A 8 - A 10) / A 12) (-99) 99) (lo := -99) (hi := 99) (t := t) (f := t - 60) (by omega) hT ha h16 (eld_I h16 ht) ht hk
  refine ⟨T', V', ?_⟩
  have e : mX2_says 537 1 (cutF ((A 8 - A 10) / A 12) (-99) 99) (-99) 99 (WM μ z (fNow F A) A (nmM A N) T V) = some (sayF (μ 540) (A 4) 1 (cutF ((A 8 - A 10) / A 12) (-99) 99) (-99) 99 (nmM A N) (agM t (t - 60) A), WM μ z (fNow F A) A (nmM A N) T' V') := e
  generalize sayF (μ 540) (A 4) 1 (cutF ((A 8 - A 10) / A 12) (-99) 99) (-99) 99 (nmM A N) (agM t (t - 60) A) = b at e
  have e25 : fNow F A 25 = F 25 := rfl
  unfold windM
  unfold mX2_pass_p110
  refine bind_step (recv_537 554 (by omega) _ _) ?_
  refine bind_step (cal_E nameNow_E) ?_
  refine bind_step (gR_537_0 554 (by omega) _ _) ?_
  refine bind_step (gR_537_0 554 (by omega) _ _) ?_
  refine bind_step (iaA (n := 11)  rfl (by omega)) ?_
  refine bind_step (recv_537 554 (by omega) _ _) ?_
  refine bind_step (cal_w away_E) ?_
  refine bind_step (gR_537_0 554 (by omega) _ _) ?_
  refine bind_step (iaA (n := 12)  rfl (by omega)) ?_
  refine bind_step (idvF h12) ?_
  refine bind_step (cal_w cut_E) ?_
  refine bind_step (recv_537 554 (by omega) _ _) ?_
  refine bind_step (calM e) ?_
  refine bind_step (cal_w cut_E) ?_
  refine bind_step (iasA (n := 11)  rfl (by omega)) ?_
  refine bind_step (gR_537_0 554 (by omega) _ _) ?_
  refine bind_step (gR_537_0 554 (by omega) _ _) ?_
  refine bind_step (iaA (n := 10)  rfl (by omega)) ?_
  refine bind_step (gR_537_0 554 (by omega) _ _) ?_
  refine bind_step (iaA (n := 11)  rfl (by omega)) ?_
  refine bind_step (cal_w cut_E) ?_
  refine bind_step (iasA (n := 10)  rfl (by omega)) ?_
  refine bind_step (gIM_25) ?_
  by_cases hc : ¬ F 25 = 0
  · refine (if_pos hc).trans ?_
    rw [if_pos hc]
    refine bind_step (gR_537_0 554 (by omega) _ _) ?_
    refine bind_step (iaA (n := 16) rfl (by omega)) ?_
    refine bind_step (iasA (n := 16) rfl (by omega)) ?_
    rfl
  · refine (if_neg hc).trans ?_
    rw [if_neg hc]
    refine bind_step (gR_537_0 554 (by omega) _ _) ?_
    refine bind_step (gR_537_0 554 (by omega) _ _) ?_
    refine bind_step (iaA (n := 16) rfl (by omega)) ?_
    refine bind_step (irmF (by decide)) ?_
    by_cases hd : ¬ remF (swM A b 16 + 1) 40 = 0
    · refine (if_pos hd).trans ?_
      rw [if_pos hd]
      refine bind_step (gR_537_0 554 (by omega) _ _) ?_
      refine bind_step (iaA (n := 14) rfl (by omega)) ?_
      by_cases hf : swM A b 14 ≤ 0
      · refine (if_pos hf).trans ?_
        rw [if_pos hf]
        exact p255_E
      · refine (if_neg hf).trans ?_
        rw [if_neg hf]
        refine bind_step (gR_537_0 554 (by omega) _ _) ?_
        refine bind_step (iaA (n := 14) rfl (by omega)) ?_
        exact p255_E
    · refine (if_neg hd).trans ?_
      rw [if_neg hd]
      refine bind_step (recv_537 554 (by omega) _ _) ?_
      refine bind_step (cal_E (drawn_E (by decide))) ?_
      exact p255_E
theorem p81_E : mX2_pass_p81 (WM μ z F A N T V) (some 537) = mX2_pass_p110 (WM μ z F (upd (upd A 8 (cutF (A 8) 0 600)) 9 0) N T V) (some 537) := by
  unfold mX2_pass_p81
  refine bind_step (gR_537_0 554 (by omega) _ _) ?_
  refine bind_step (gR_537_0 554 (by omega) _ _) ?_
  refine bind_step (iaA (n := 8)  rfl (by omega)) ?_
  refine bind_step (cal_w cut_E) ?_
  refine bind_step (iasA (n := 8)  rfl (by omega)) ?_
  refine bind_step (gR_537_0 554 (by omega) _ _) ?_
  refine bind_step (iasA (n := 9)  rfl (by omega)) ?_
  rfl
theorem pass_mv {t : Nat} {c : Int32} {N0 : Nat → Int32} (hT : TX TT μ z) (ha : -1 ≤ (A 4).toInt ∧ (A 4).toInt < (μ 402 2).toInt) (h16 : (A 16).toInt = (t : Int)) (ht : t < 1000000) (hk : kindOk 0 N0 (nmM (slotM (602 + 6 * (t % 1536)) A c) N) (agM t (t - 60) (slotM (602 + 6 * (t % 1536)) A c))) :
    ∃ T' V', mX2_pass 537 c (WM μ z F A N T V) = mX2_pass_p110 (WM μ z (fNow F (slotM (602 + 6 * (t % 1536)) A c)) (mvM (602 + 6 * (t % 1536)) A c (sayF (μ 540) (A 4) 0 3 0 9 (nmM (slotM (602 + 6 * (t % 1536)) A c) N) (agM t (t - 60) (slotM (602 + 6 * (t % 1536)) A c)))) (nmM (slotM (602 + 6 * (t % 1536)) A c) N) T' V') (some 537) := by
  have hB4 : slotM (602 + 6 * (t % 1536)) A c 4 = A 4 := slotM_lo (by omega)
  have hB16 : slotM (602 + 6 * (t % 1536)) A c 16 = A 16 := slotM_lo (by omega)
  have elp := layPast_E (μ := μ) (z := z) (F := F) (A := A) (N := N) (T := T) (V := V) (c := c) h16 ht
  unfold mvM
  generalize slotM (602 + 6 * (t % 1536)) A c = B at hk hB4 hB16 elp
  rw [← hB4] at ha
  rw [← hB16] at h16
  obtain ⟨T', V', e⟩ := says_E (μ := μ) (z := z) (F := fNow F B) (A := B) (N := nmM B N) (T := T) (V := V) (s := 0) (wo := 3) (lo := 0) (hi := 9) (t := t) (f := t - 60) (by omega) hT ha h16 (eld_I h16 ht) ht hk
  refine ⟨T', V', ?_⟩
  have e : mX2_says 537 0 3 0 9 (WM μ z (fNow F B) B (nmM B N) T V) = some (sayF (μ 540) (A 4) 0 3 0 9 (nmM B N) (agM t (t - 60) B), WM μ z (fNow F B) B (nmM B N) T' V') := by
    rw [← hB4]
    exact e
  generalize sayF (μ 540) (A 4) 0 3 0 9 (nmM B N) (agM t (t - 60) B) = p at e
  unfold mX2_pass
  refine bind_step (recv_537 554 (by omega) _ _) ?_
  refine bind_step (cal_E elp) ?_
  refine bind_step (recv_537 554 (by omega) _ _) ?_
  refine bind_step (cal_E nameNow_E) ?_
  refine bind_step (recv_537 554 (by omega) _ _) ?_
  refine bind_step (calM e) ?_
  refine bind_step (gR_537_0 554 (by omega) _ _) ?_
  refine bind_step (gR_537_0 554 (by omega) _ _) ?_
  refine bind_step (iaA (n := 9)  rfl (by omega)) ?_
  refine bind_step (cal_w cut_E) ?_
  refine bind_step (iasA (n := 9)  rfl (by omega)) ?_
  refine bind_step (gR_537_0 554 (by omega) _ _) ?_
  refine bind_step (iaA (n := 8)  rfl (by omega)) ?_
  refine bind_step (gR_537_0 554 (by omega) _ _) ?_
  refine bind_step (iaA (n := 9)  rfl (by omega)) ?_
  refine bind_step (iasA (n := 8)  rfl (by omega)) ?_
  refine bind_step (gR_537_0 554 (by omega) _ _) ?_
  refine bind_step (iaA (n := 8)  rfl (by omega)) ?_
  by_cases h1 : (upd (upd B 9 (cutF (B 9 + c) (-p) p)) 8 ((upd B 9 (cutF (B 9 + c) (-p) p)) 8 + (upd B 9 (cutF (B 9 + c) (-p) p)) 9)) 8 < 0
  · refine (if_pos h1).trans ?_
    rw [if_pos h1]
    exact p81_E
  · refine (if_neg h1).trans ?_
    rw [if_neg h1]
    refine bind_step (gR_537_0 554 (by omega) _ _) ?_
    refine bind_step (iaA (n := 8) rfl (by omega)) ?_
    by_cases h2 : (upd (upd B 9 (cutF (B 9 + c) (-p) p)) 8 ((upd B 9 (cutF (B 9 + c) (-p) p)) 8 + (upd B 9 (cutF (B 9 + c) (-p) p)) 9)) 8 ≤ 600
    · refine (if_pos h2).trans ?_
      rw [if_pos h2]
    · refine (if_neg h2).trans ?_
      rw [if_neg h2]
      exact p81_E
end WM67
