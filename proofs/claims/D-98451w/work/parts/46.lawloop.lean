/-! ===== the law's loop, over what is owed of each call ===== -/
/-- the component answers as the model, and what holds ahead of a call holds behind it -/
def Agr (ρ : Type) (Inv : Nat → Mu → Zt → Prop) (n : Nat) (μ : Mu) (z : Zt) (f g : Wd → Option (ρ × Wd)) : Prop := ∃ (r : ρ) (μ1 : Mu) (z1 : Zt) (μ2 : Mu) (z2 : Zt), f (E μ z) = some (r, E μ1 z1) ∧ g (E μ1 z1) = some (r, E μ2 z2) ∧
  (z.2.2.2.1 ≤ z1.2.2.2.1 ∧ z.2.2.2.2 ≤ z1.2.2.2.2) ∧ (z1.2.2.2.1 ≤ z2.2.2.2.1 ∧ z1.2.2.2.2 ≤ z2.2.2.2.2) ∧ z1.2.2.1 0 = z.2.2.1 0 ∧ Inv (n + 1) μ2 z2
theorem cmp_self (x : Int64) : lg_cmp x x = 0 := by
  unfold lg_cmp
  simp
theorem scr_E {μ : Mu} {z : Zt} {L n : Nat} {xs : Nat → Int32} {i : Int32} (h : z.2.2.1 0 = some (.inl (.int, L, .inl xs))) (hi : i.toInt = (n : Int)) (hn : n < L) : ia (E μ z) (some 0) i = some (xs n) := by
  obtain ⟨h1, h2⟩ := cl_of hi
  have e : (E μ z).1 0 = some (.inl (.int, L, .inl xs)) := h
  unfold ia arr
  simp only [Option.bind_some, e]
  rw [if_pos ⟨by first | rfl | trivial, by rw [h2]; exact fun q => q.elim h1 (by omega)⟩, h2]
  rfl
theorem scr_len {μ : Mu} {z : Zt} {L : Nat} {xs : Nat → Int32} (h : z.2.2.1 0 = some (.inl (.int, L, .inl xs))) : alen (E μ z) (some 0) = some (Int32.ofNat L) := by
  have e : (E μ z).1 0 = some (.inl (.int, L, .inl xs)) := h
  unfold alen arr
  simp only [Option.bind_some, e]
theorem add_I {i : Int32} {n k : Nat} {kk : Int32} (h : i.toInt = (n : Int)) (hk : kk.toInt = (k : Int)) (hn : n + k < 1000000) : (i + kk).toInt = ((n + k : Nat) : Int) := by
  rw [Int32.toInt_add, h, hk, Int.bmod_eq_of_le (by omega) (by omega)]
  omega
/-- what is owed of each call of the law -/
def Ow_order (Inv : Nat → Mu → Zt → Prop) : Prop := ∀ (n : Nat) (μ : Mu) (z : Zt) (a0 : Int32) (a1 : Int32) (a2 : Int32) (a3 : Int32) (a4 : Int32), Inv n μ z → Agr Int32 Inv n μ z (fun w => mX0_order 400 a0 a1 a2 a3 a4 w) (fun w => mX2_order 537 a0 a1 a2 a3 a4 w)
def Ow_near (Inv : Nat → Mu → Zt → Prop) : Prop := ∀ (n : Nat) (μ : Mu) (z : Zt) (a0 : Int32), Inv n μ z → Agr Int32 Inv n μ z (fun w => mX0_near 400 a0 w) (fun w => mX2_near 537 a0 w)
def Ow_feed (Inv : Nat → Mu → Zt → Prop) : Prop := ∀ (n : Nat) (μ : Mu) (z : Zt) (a0 : Int32) (a1 : Int32) (a2 : Int32) (a3 : Int32) (a4 : Int32), Inv n μ z → Agr Int32 Inv n μ z (fun w => mX0_feed 400 a0 a1 a2 a3 a4 w) (fun w => mX2_feed 537 a0 a1 a2 a3 a4 w)
def Ow_end (Inv : Nat → Mu → Zt → Prop) : Prop := ∀ (n : Nat) (μ : Mu) (z : Zt) (a0 : Int32), Inv n μ z → Agr Int32 Inv n μ z (fun w => mX0_end 400 a0 w) (fun w => mX2_end 537 a0 w)
def Ow_text (Inv : Nat → Mu → Zt → Prop) : Prop := ∀ (n : Nat) (μ : Mu) (z : Zt), Inv n μ z → Agr Int32 Inv n μ z (fun w => mX0_text 400 w) (fun w => mX2_text 537 w)
def Ow_fault (Inv : Nat → Mu → Zt → Prop) : Prop := ∀ (n : Nat) (μ : Mu) (z : Zt) (a0 : Int32), Inv n μ z → Agr Int32 Inv n μ z (fun w => mX0_fault 400 a0 w) (fun w => mX2_fault 537 a0 w)
def Ow_by (Inv : Nat → Mu → Zt → Prop) : Prop := ∀ (n : Nat) (μ : Mu) (z : Zt) (a0 : Int32), Inv n μ z → Agr Int32 Inv n μ z (fun w => mX0_by 400 a0 w) (fun w => mX2_by 537 a0 w)
def Ow_move (Inv : Nat → Mu → Zt → Prop) : Prop := ∀ (n : Nat) (μ : Mu) (z : Zt) (a0 : Int32), Inv n μ z → Agr Int32 Inv n μ z (fun w => mX0_move 400 a0 w) (fun w => mX2_move 537 a0 w)
def Ow_run (Inv : Nat → Mu → Zt → Prop) : Prop := ∀ (n : Nat) (μ : Mu) (z : Zt) (a0 : Int32), Inv n μ z → Agr Int32 Inv n μ z (fun w => mX0_run 400 a0 w) (fun w => mX2_run 537 a0 w)
def Ow_hoist (Inv : Nat → Mu → Zt → Prop) : Prop := ∀ (n : Nat) (μ : Mu) (z : Zt) (a0 : Int32), Inv n μ z → Agr Int32 Inv n μ z (fun w => mX0_hoist 400 a0 w) (fun w => mX2_hoist 537 a0 w)
def Ow_aim (Inv : Nat → Mu → Zt → Prop) : Prop := ∀ (n : Nat) (μ : Mu) (z : Zt) (a0 : Int32), Inv n μ z → Agr Int32 Inv n μ z (fun w => mX0_aim 400 a0 w) (fun w => mX2_aim 537 a0 w)
def Ow_hook (Inv : Nat → Mu → Zt → Prop) : Prop := ∀ (n : Nat) (μ : Mu) (z : Zt) (a0 : Int32), Inv n μ z → Agr Int32 Inv n μ z (fun w => mX0_hook 400 a0 w) (fun w => mX2_hook 537 a0 w)
def Ow_land (Inv : Nat → Mu → Zt → Prop) : Prop := ∀ (n : Nat) (μ : Mu) (z : Zt), Inv n μ z → Agr Int32 Inv n μ z (fun w => mX0_land 400 w) (fun w => mX2_land 537 w)
def Ow_played (Inv : Nat → Mu → Zt → Prop) : Prop := ∀ (n : Nat) (μ : Mu) (z : Zt) (a0 : Int32), Inv n μ z → Agr Int32 Inv n μ z (fun w => mX0_played 400 a0 w) (fun w => mX2_played 537 a0 w)
def Ow_storm (Inv : Nat → Mu → Zt → Prop) : Prop := ∀ (n : Nat) (μ : Mu) (z : Zt) (a0 : Int32) (a1 : Int32), Inv n μ z → Agr Int32 Inv n μ z (fun w => mX0_storm 400 a0 a1 w) (fun w => mX2_storm 537 a0 a1 w)
def Ow_undo (Inv : Nat → Mu → Zt → Prop) : Prop := ∀ (n : Nat) (μ : Mu) (z : Zt), Inv n μ z → Agr Int32 Inv n μ z (fun w => mX0_undo 400 w) (fun w => mX2_undo 537 w)
def Ow_jib (Inv : Nat → Mu → Zt → Prop) : Prop := ∀ (n : Nat) (μ : Mu) (z : Zt) (a0 : Int32), Inv n μ z → Agr Int32 Inv n μ z (fun w => mX0_jib 400 a0 w) (fun w => mX2_jib 537 a0 w)
def Ow_ofOrder (Inv : Nat → Mu → Zt → Prop) : Prop := ∀ (n : Nat) (μ : Mu) (z : Zt) (a0 : Int32) (a1 : Int32), Inv n μ z → Agr Int32 Inv n μ z (fun w => mX0_ofOrder 400 a0 a1 w) (fun w => mX2_ofOrder 537 a0 a1 w)
def Ow_ago (Inv : Nat → Mu → Zt → Prop) : Prop := ∀ (n : Nat) (μ : Mu) (z : Zt) (a0 : Int32) (a1 : Int32), Inv n μ z → Agr Int32 Inv n μ z (fun w => mX0_ago 400 a0 a1 w) (fun w => mX2_ago 537 a0 a1 w)
def Ow_foretold (Inv : Nat → Mu → Zt → Prop) : Prop := ∀ (n : Nat) (μ : Mu) (z : Zt) (a0 : Int32) (a1 : Int32) (a2 : Int32), (a1 = 0 ∨ a1 = 1) → Inv n μ z → Agr Int32 Inv n μ z (fun w => mX0_foretold 400 a0 a1 a2 w) (fun w => mX2_foretold 537 a0 a1 a2 w)
def Ow_soonest (Inv : Nat → Mu → Zt → Prop) : Prop := ∀ (n : Nat) (μ : Mu) (z : Zt) (a0 : Int32), Inv n μ z → Agr Int32 Inv n μ z (fun w => mX0_soonest 400 a0 w) (fun w => mX2_soonest 537 a0 w)
def Ow_fewest (Inv : Nat → Mu → Zt → Prop) : Prop := ∀ (n : Nat) (μ : Mu) (z : Zt) (a0 : Int32), Inv n μ z → Agr Int32 Inv n μ z (fun w => mX0_fewest 400 a0 w) (fun w => mX2_fewest 537 a0 w)
def Ow_toAndFro (Inv : Nat → Mu → Zt → Prop) : Prop := ∀ (n : Nat) (μ : Mu) (z : Zt) (a0 : Int32), Inv n μ z → Agr Int32 Inv n μ z (fun w => mX0_toAndFro 400 a0 w) (fun w => mX2_toAndFro 537 a0 w)
def Ow_calm (Inv : Nat → Mu → Zt → Prop) : Prop := ∀ (n : Nat) (μ : Mu) (z : Zt) (a0 : Int32) (a1 : Int32) (a2 : Int32), (a2 = 0 ∨ a2 = 1) → Inv n μ z → Agr Int64 Inv n μ z (fun w => mX0_calm 400 a0 a1 a2 w) (fun w => mX2_calm 537 a0 a1 a2 w)
def Ow_dies (Inv : Nat → Mu → Zt → Prop) : Prop := ∀ (n : Nat) (μ : Mu) (z : Zt) (a0 : Int32) (a1 : Int32), Inv n μ z → Agr Int32 Inv n μ z (fun w => mX0_dies 400 a0 a1 w) (fun w => mX2_dies 537 a0 a1 w)
def Ow_calmest (Inv : Nat → Mu → Zt → Prop) : Prop := ∀ (n : Nat) (μ : Mu) (z : Zt) (a0 : Int32), Inv n μ z → Agr Int32 Inv n μ z (fun w => mX0_calmest 400 a0 w) (fun w => mX2_calmest 537 a0 w)
def Ow_whoseHand (Inv : Nat → Mu → Zt → Prop) : Prop := ∀ (n : Nat) (μ : Mu) (z : Zt), Inv n μ z → Agr Int32 Inv n μ z (fun w => mX0_whoseHand 400 w) (fun w => mX2_whoseHand 537 w)
def Ow_dayEnds (Inv : Nat → Mu → Zt → Prop) : Prop := ∀ (n : Nat) (μ : Mu) (z : Zt) (a0 : Int32) (a1 : Int32), Inv n μ z → Agr Int32 Inv n μ z (fun w => mX0_dayEnds 400 a0 a1 w) (fun w => mX2_dayEnds 537 a0 a1 w)
def Ow_saves (Inv : Nat → Mu → Zt → Prop) : Prop := ∀ (n : Nat) (μ : Mu) (z : Zt) (a0 : Int32) (a1 : Int32) (a2 : Int32), Inv n μ z → Agr Int32 Inv n μ z (fun w => mX0_saves 400 a0 a1 a2 w) (fun w => mX2_saves 537 a0 a1 a2 w)
def Ow_whenToGo (Inv : Nat → Mu → Zt → Prop) : Prop := ∀ (n : Nat) (μ : Mu) (z : Zt), Inv n μ z → Agr Int32 Inv n μ z (fun w => mX0_whenToGo 400 w) (fun w => mX2_whenToGo 537 w)
def Ow_whichRope (Inv : Nat → Mu → Zt → Prop) : Prop := ∀ (n : Nat) (μ : Mu) (z : Zt), Inv n μ z → Agr Int32 Inv n μ z (fun w => mX0_whichRope 400 w) (fun w => mX2_whichRope 537 w)
def Ow_bar (Inv : Nat → Mu → Zt → Prop) : Prop := ∀ (n : Nat) (μ : Mu) (z : Zt) (a0 : Int32) (a1 : Int32) (a2 : Int32) (a3 : Int32), Inv n μ z → Agr Int32 Inv n μ z (fun w => mX0_bar 400 a0 a1 a2 a3 w) (fun w => mX2_bar 537 a0 a1 a2 a3 w)
def Ow_barred (Inv : Nat → Mu → Zt → Prop) : Prop := ∀ (n : Nat) (μ : Mu) (z : Zt) (a0 : Int32) (a1 : Int32), (a1 = 0 ∨ a1 = 1) → Inv n μ z → Agr Int32 Inv n μ z (fun w => mX0_barred 400 a0 a1 w) (fun w => mX2_barred 537 a0 a1 w)
def Ow_howFar (Inv : Nat → Mu → Zt → Prop) : Prop := ∀ (n : Nat) (μ : Mu) (z : Zt) (a0 : Int32), Inv n μ z → Agr Int32 Inv n μ z (fun w => mX0_howFar 400 a0 w) (fun w => mX2_howFar 537 a0 w)
def Ow_over (Inv : Nat → Mu → Zt → Prop) : Prop := ∀ (n : Nat) (μ : Mu) (z : Zt), Inv n μ z → Agr Int32 Inv n μ z (fun w => mX0_over 400 w) (fun w => mX2_over 537 w)
def Ow_first (Inv : Nat → Mu → Zt → Prop) : Prop := ∀ (n : Nat) (μ : Mu) (z : Zt) (a0 : Int32) (a1 : Int32), Inv n μ z → Agr Int32 Inv n μ z (fun w => mX0_first 400 a0 a1 w) (fun w => mX2_first 537 a0 a1 w)
def Ow_twoJibs (Inv : Nat → Mu → Zt → Prop) : Prop := ∀ (n : Nat) (μ : Mu) (z : Zt) (a0 : Int32) (a1 : Int32), Inv n μ z → Agr Int32 Inv n μ z (fun w => mX0_twoJibs 400 a0 a1 w) (fun w => mX2_twoJibs 537 a0 a1 w)
def Ow_said (Inv : Nat → Mu → Zt → Prop) : Prop := ∀ (n : Nat) (μ : Mu) (z : Zt) (a0 : Int32) (a1 : Int32), (a1 = 0 ∨ a1 = 1) → Inv n μ z → Agr Int32 Inv n μ z (fun w => mX0_said 400 a0 a1 w) (fun w => mX2_said 537 a0 a1 w)
def Ow_left (Inv : Nat → Mu → Zt → Prop) : Prop := ∀ (n : Nat) (μ : Mu) (z : Zt) (a0 : Int32), (a0 = 0 ∨ a0 = 1) → Inv n μ z → Agr Int64 Inv n μ z (fun w => mX0_left 400 a0 w) (fun w => mX2_left 537 a0 w)
def Ow_landed (Inv : Nat → Mu → Zt → Prop) : Prop := ∀ (n : Nat) (μ : Mu) (z : Zt) (a0 : Int32) (a1 : Int32), Inv n μ z → Agr Int32 Inv n μ z (fun w => mX0_landed 400 a0 a1 w) (fun w => mX2_landed 537 a0 a1 w)
def Ow_hour (Inv : Nat → Mu → Zt → Prop) : Prop := ∀ (n : Nat) (μ : Mu) (z : Zt) (a0 : Int32), Inv n μ z → Agr Int32 Inv n μ z (fun w => mX0_hour 400 a0 w) (fun w => mX2_hour 537 a0 w)
def Ow_mean (Inv : Nat → Mu → Zt → Prop) : Prop := ∀ (n : Nat) (μ : Mu) (z : Zt) (a0 : Int32), (a0 = 0 ∨ a0 = 1) → Inv n μ z → Agr Int32 Inv n μ z (fun w => mX0_mean 400 a0 w) (fun w => mX2_mean 537 a0 w)
def Ow_image (Inv : Nat → Mu → Zt → Prop) : Prop := ∀ (n : Nat) (μ : Mu) (z : Zt), Inv n μ z → Agr Int32 Inv n μ z (fun w => mX0_image 400 w) (fun w => mX2_image 537 w)
def Ow_back (Inv : Nat → Mu → Zt → Prop) : Prop := ∀ (n : Nat) (μ : Mu) (z : Zt), Inv n μ z → Agr Int32 Inv n μ z (fun w => mX0_back 400 w) (fun w => mX2_back 537 w)
def Ow_about (Inv : Nat → Mu → Zt → Prop) : Prop := ∀ (n : Nat) (μ : Mu) (z : Zt) (a0 : Int32), Inv n μ z → Agr Int32 Inv n μ z (fun w => mX0_about 400 a0 w) (fun w => mX2_about 537 a0 w)
def Owed (Inv : Nat → Mu → Zt → Prop) (L : Nat) (xs : Nat → Int32) : Prop := (∀ n μ z, Inv n μ z → n ≤ 64 → z.2.2.1 0 = some (.inl (.int, L, .inl xs)) ∧ z.2.2.2.1 ≤ 1200528 ∧ z.2.2.2.2 ≤ 5501098) ∧ (∀ n μ z, Inv n μ z → Inv (n + 1) μ z) ∧
  Ow_order Inv ∧ Ow_near Inv ∧ Ow_feed Inv ∧ Ow_end Inv ∧ Ow_text Inv ∧ Ow_fault Inv ∧ Ow_by Inv ∧ Ow_move Inv ∧ Ow_run Inv ∧ Ow_hoist Inv ∧ Ow_aim Inv ∧ Ow_hook Inv ∧ Ow_land Inv ∧ Ow_played Inv ∧ Ow_storm Inv ∧ Ow_undo Inv ∧ Ow_jib Inv ∧ Ow_ofOrder Inv ∧ Ow_ago Inv ∧ Ow_foretold Inv ∧ Ow_soonest Inv ∧ Ow_fewest Inv ∧ Ow_toAndFro Inv ∧ Ow_calm Inv ∧ Ow_dies Inv ∧ Ow_calmest Inv ∧ Ow_whoseHand Inv ∧ Ow_dayEnds Inv ∧ Ow_saves Inv ∧ Ow_whenToGo Inv ∧ Ow_whichRope Inv ∧ Ow_bar Inv ∧ Ow_barred Inv ∧ Ow_howFar Inv ∧ Ow_over Inv ∧ Ow_first Inv ∧ Ow_twoJibs Inv ∧ Ow_said Inv ∧ Ow_left Inv ∧ Ow_landed Inv ∧ Ow_hour Inv ∧ Ow_mean Inv ∧ Ow_image Inv ∧ Ow_back Inv ∧ Ow_about Inv
theorem law_order {Inv : Nat → Mu → Zt → Prop} {L : Nat} {xs : Nat → Int32} (hO : Owed Inv L xs) {k18 : Wd → Option Nat → Option Nat → Option Nat → Int32 → Option (Unit × Wd)} {n : Nat} {μ : Mu} {z : Zt} {l3 : Int32} (hI : Inv n μ z) (hs : z.2.2.1 0 = some (.inl (.int, L, .inl xs))) (h3 : l3.toInt = ((6 * n : Nat) : Int)) (hn : 6 * n + 6 ≤ L) (hL : L ≤ 384) : ∃ μ2 z2, Inv (n + 1) μ2 z2 ∧ (
(ia (E μ z) (some 0) (l3 + 1)).bind fun v3 =>
(ia (E μ z) (some 0) (l3 + 2)).bind fun v4 =>
(ia (E μ z) (some 0) (l3 + 3)).bind fun v5 =>
(ia (E μ z) (some 0) (l3 + 4)).bind fun v6 =>
(ia (E μ z) (some 0) (l3 + 5)).bind fun v7 =>
(recv (E μ z) (some 400) 0).bind fun b9 => (cal (E μ z) (mX0_order b9 v3 v4 v5 v6 v7 (E μ z))).bind fun r8 =>
(ia r8.2 (some 0) (l3 + 1)).bind fun v10 =>
(ia r8.2 (some 0) (l3 + 2)).bind fun v11 =>
(ia r8.2 (some 0) (l3 + 3)).bind fun v12 =>
(ia r8.2 (some 0) (l3 + 4)).bind fun v13 =>
(ia r8.2 (some 0) (l3 + 5)).bind fun v14 =>
(recv r8.2 (some 537) 2).bind fun b16 => (cal r8.2 (mX2_order b16 v10 v11 v12 v13 v14 r8.2)).bind fun r15 =>
if r8.1 = r15.1 then (
k18 r15.2 (some 0) (some 400) (some 537) (l3 + 6))
else (
none)) = k18 (E μ2 z2) (some 0) (some 400) (some 537) (l3 + 6) := by
  obtain ⟨r, μ1, z1, μ2, z2, e1, e2, g1, g2, g3, hI2⟩ := hO.2.2.1 n μ z (xs (6 * n + 1)) (xs (6 * n + 2)) (xs (6 * n + 3)) (xs (6 * n + 4)) (xs (6 * n + 5)) hI
  have hs1 := g3.trans hs
  refine ⟨μ2, z2, hI2, ?_⟩
  refine bind_step (scr_E hs (add_I (k := 1) h3 rfl (by omega)) (by omega)) ?_
  refine bind_step (scr_E hs (add_I (k := 2) h3 rfl (by omega)) (by omega)) ?_
  refine bind_step (scr_E hs (add_I (k := 3) h3 rfl (by omega)) (by omega)) ?_
  refine bind_step (scr_E hs (add_I (k := 4) h3 rfl (by omega)) (by omega)) ?_
  refine bind_step (scr_E hs (add_I (k := 5) h3 rfl (by omega)) (by omega)) ?_
  refine bind_step (recv_400 554 (by omega) _ _) ?_
  refine bind_step (cal_Z e1 g1.1 g1.2) ?_
  refine bind_step (scr_E hs1 (add_I (k := 1) h3 rfl (by omega)) (by omega)) ?_
  refine bind_step (scr_E hs1 (add_I (k := 2) h3 rfl (by omega)) (by omega)) ?_
  refine bind_step (scr_E hs1 (add_I (k := 3) h3 rfl (by omega)) (by omega)) ?_
  refine bind_step (scr_E hs1 (add_I (k := 4) h3 rfl (by omega)) (by omega)) ?_
  refine bind_step (scr_E hs1 (add_I (k := 5) h3 rfl (by omega)) (by omega)) ?_
  refine bind_step (recv_537 554 (by omega) _ _) ?_
  refine bind_step (cal_Z e2 g2.1 g2.2) ?_
  refine (if_pos rfl).trans ?_
  rfl
theorem law_near {Inv : Nat → Mu → Zt → Prop} {L : Nat} {xs : Nat → Int32} (hO : Owed Inv L xs) {k18 : Wd → Option Nat → Option Nat → Option Nat → Int32 → Option (Unit × Wd)} {n : Nat} {μ : Mu} {z : Zt} {l3 : Int32} (hI : Inv n μ z) (hs : z.2.2.1 0 = some (.inl (.int, L, .inl xs))) (h3 : l3.toInt = ((6 * n : Nat) : Int)) (hn : 6 * n + 6 ≤ L) (hL : L ≤ 384) : ∃ μ2 z2, Inv (n + 1) μ2 z2 ∧ (
(ia (E μ z) (some 0) (l3 + 1)).bind fun v17 =>
(recv (E μ z) (some 400) 0).bind fun b19 => (cal (E μ z) (mX0_near b19 v17 (E μ z))).bind fun r18 =>
(ia r18.2 (some 0) (l3 + 1)).bind fun v20 =>
(recv r18.2 (some 537) 2).bind fun b22 => (cal r18.2 (mX2_near b22 v20 r18.2)).bind fun r21 =>
if r18.1 = r21.1 then (
k18 r21.2 (some 0) (some 400) (some 537) (l3 + 6))
else (
none)) = k18 (E μ2 z2) (some 0) (some 400) (some 537) (l3 + 6) := by
  obtain ⟨r, μ1, z1, μ2, z2, e1, e2, g1, g2, g3, hI2⟩ := hO.2.2.2.1 n μ z (xs (6 * n + 1)) hI
  have hs1 := g3.trans hs
  refine ⟨μ2, z2, hI2, ?_⟩
  refine bind_step (scr_E hs (add_I (k := 1) h3 rfl (by omega)) (by omega)) ?_
  refine bind_step (recv_400 554 (by omega) _ _) ?_
  refine bind_step (cal_Z e1 g1.1 g1.2) ?_
  refine bind_step (scr_E hs1 (add_I (k := 1) h3 rfl (by omega)) (by omega)) ?_
  refine bind_step (recv_537 554 (by omega) _ _) ?_
  refine bind_step (cal_Z e2 g2.1 g2.2) ?_
  refine (if_pos rfl).trans ?_
  rfl
theorem law_feed {Inv : Nat → Mu → Zt → Prop} {L : Nat} {xs : Nat → Int32} (hO : Owed Inv L xs) {k18 : Wd → Option Nat → Option Nat → Option Nat → Int32 → Option (Unit × Wd)} {n : Nat} {μ : Mu} {z : Zt} {l3 : Int32} (hI : Inv n μ z) (hs : z.2.2.1 0 = some (.inl (.int, L, .inl xs))) (h3 : l3.toInt = ((6 * n : Nat) : Int)) (hn : 6 * n + 6 ≤ L) (hL : L ≤ 384) : ∃ μ2 z2, Inv (n + 1) μ2 z2 ∧ (
(ia (E μ z) (some 0) (l3 + 1)).bind fun v23 =>
(ia (E μ z) (some 0) (l3 + 2)).bind fun v24 =>
(ia (E μ z) (some 0) (l3 + 3)).bind fun v25 =>
(ia (E μ z) (some 0) (l3 + 4)).bind fun v26 =>
(ia (E μ z) (some 0) (l3 + 5)).bind fun v27 =>
(recv (E μ z) (some 400) 0).bind fun b29 => (cal (E μ z) (mX0_feed b29 v23 v24 v25 v26 v27 (E μ z))).bind fun r28 =>
(ia r28.2 (some 0) (l3 + 1)).bind fun v30 =>
(ia r28.2 (some 0) (l3 + 2)).bind fun v31 =>
(ia r28.2 (some 0) (l3 + 3)).bind fun v32 =>
(ia r28.2 (some 0) (l3 + 4)).bind fun v33 =>
(ia r28.2 (some 0) (l3 + 5)).bind fun v34 =>
(recv r28.2 (some 537) 2).bind fun b36 => (cal r28.2 (mX2_feed b36 v30 v31 v32 v33 v34 r28.2)).bind fun r35 =>
if r28.1 = r35.1 then (
k18 r35.2 (some 0) (some 400) (some 537) (l3 + 6))
else (
none)) = k18 (E μ2 z2) (some 0) (some 400) (some 537) (l3 + 6) := by
  obtain ⟨r, μ1, z1, μ2, z2, e1, e2, g1, g2, g3, hI2⟩ := hO.2.2.2.2.1 n μ z (xs (6 * n + 1)) (xs (6 * n + 2)) (xs (6 * n + 3)) (xs (6 * n + 4)) (xs (6 * n + 5)) hI
  have hs1 := g3.trans hs
  refine ⟨μ2, z2, hI2, ?_⟩
  refine bind_step (scr_E hs (add_I (k := 1) h3 rfl (by omega)) (by omega)) ?_
  refine bind_step (scr_E hs (add_I (k := 2) h3 rfl (by omega)) (by omega)) ?_
  refine bind_step (scr_E hs (add_I (k := 3) h3 rfl (by omega)) (by omega)) ?_
  refine bind_step (scr_E hs (add_I (k := 4) h3 rfl (by omega)) (by omega)) ?_
  refine bind_step (scr_E hs (add_I (k := 5) h3 rfl (by omega)) (by omega)) ?_
  refine bind_step (recv_400 554 (by omega) _ _) ?_
  refine bind_step (cal_Z e1 g1.1 g1.2) ?_
  refine bind_step (scr_E hs1 (add_I (k := 1) h3 rfl (by omega)) (by omega)) ?_
  refine bind_step (scr_E hs1 (add_I (k := 2) h3 rfl (by omega)) (by omega)) ?_
  refine bind_step (scr_E hs1 (add_I (k := 3) h3 rfl (by omega)) (by omega)) ?_
  refine bind_step (scr_E hs1 (add_I (k := 4) h3 rfl (by omega)) (by omega)) ?_
  refine bind_step (scr_E hs1 (add_I (k := 5) h3 rfl (by omega)) (by omega)) ?_
  refine bind_step (recv_537 554 (by omega) _ _) ?_
  refine bind_step (cal_Z e2 g2.1 g2.2) ?_
  refine (if_pos rfl).trans ?_
  rfl
theorem law_end {Inv : Nat → Mu → Zt → Prop} {L : Nat} {xs : Nat → Int32} (hO : Owed Inv L xs) {k18 : Wd → Option Nat → Option Nat → Option Nat → Int32 → Option (Unit × Wd)} {n : Nat} {μ : Mu} {z : Zt} {l3 : Int32} (hI : Inv n μ z) (hs : z.2.2.1 0 = some (.inl (.int, L, .inl xs))) (h3 : l3.toInt = ((6 * n : Nat) : Int)) (hn : 6 * n + 6 ≤ L) (hL : L ≤ 384) : ∃ μ2 z2, Inv (n + 1) μ2 z2 ∧ (
(ia (E μ z) (some 0) (l3 + 1)).bind fun v37 =>
(recv (E μ z) (some 400) 0).bind fun b39 => (cal (E μ z) (mX0_end b39 v37 (E μ z))).bind fun r38 =>
(ia r38.2 (some 0) (l3 + 1)).bind fun v40 =>
(recv r38.2 (some 537) 2).bind fun b42 => (cal r38.2 (mX2_end b42 v40 r38.2)).bind fun r41 =>
if r38.1 = r41.1 then (
k18 r41.2 (some 0) (some 400) (some 537) (l3 + 6))
else (
none)) = k18 (E μ2 z2) (some 0) (some 400) (some 537) (l3 + 6) := by
  obtain ⟨r, μ1, z1, μ2, z2, e1, e2, g1, g2, g3, hI2⟩ := hO.2.2.2.2.2.1 n μ z (xs (6 * n + 1)) hI
  have hs1 := g3.trans hs
  refine ⟨μ2, z2, hI2, ?_⟩
  refine bind_step (scr_E hs (add_I (k := 1) h3 rfl (by omega)) (by omega)) ?_
  refine bind_step (recv_400 554 (by omega) _ _) ?_
  refine bind_step (cal_Z e1 g1.1 g1.2) ?_
  refine bind_step (scr_E hs1 (add_I (k := 1) h3 rfl (by omega)) (by omega)) ?_
  refine bind_step (recv_537 554 (by omega) _ _) ?_
  refine bind_step (cal_Z e2 g2.1 g2.2) ?_
  refine (if_pos rfl).trans ?_
  rfl
theorem law_text {Inv : Nat → Mu → Zt → Prop} {L : Nat} {xs : Nat → Int32} (hO : Owed Inv L xs) {k18 : Wd → Option Nat → Option Nat → Option Nat → Int32 → Option (Unit × Wd)} {n : Nat} {μ : Mu} {z : Zt} {l3 : Int32} (hI : Inv n μ z) (hs : z.2.2.1 0 = some (.inl (.int, L, .inl xs))) (h3 : l3.toInt = ((6 * n : Nat) : Int)) (hn : 6 * n + 6 ≤ L) (hL : L ≤ 384) : ∃ μ2 z2, Inv (n + 1) μ2 z2 ∧ (
(recv (E μ z) (some 400) 0).bind fun b44 => (cal (E μ z) (mX0_text b44 (E μ z))).bind fun r43 =>
(recv r43.2 (some 537) 2).bind fun b46 => (cal r43.2 (mX2_text b46 r43.2)).bind fun r45 =>
if r43.1 = r45.1 then (
k18 r45.2 (some 0) (some 400) (some 537) (l3 + 6))
else (
none)) = k18 (E μ2 z2) (some 0) (some 400) (some 537) (l3 + 6) := by
  obtain ⟨r, μ1, z1, μ2, z2, e1, e2, g1, g2, g3, hI2⟩ := hO.2.2.2.2.2.2.1 n μ z hI
  have hs1 := g3.trans hs
  refine ⟨μ2, z2, hI2, ?_⟩
  refine bind_step (recv_400 554 (by omega) _ _) ?_
  refine bind_step (cal_Z e1 g1.1 g1.2) ?_
  refine bind_step (recv_537 554 (by omega) _ _) ?_
  refine bind_step (cal_Z e2 g2.1 g2.2) ?_
  refine (if_pos rfl).trans ?_
  rfl
theorem law_fault {Inv : Nat → Mu → Zt → Prop} {L : Nat} {xs : Nat → Int32} (hO : Owed Inv L xs) {k18 : Wd → Option Nat → Option Nat → Option Nat → Int32 → Option (Unit × Wd)} {n : Nat} {μ : Mu} {z : Zt} {l3 : Int32} (hI : Inv n μ z) (hs : z.2.2.1 0 = some (.inl (.int, L, .inl xs))) (h3 : l3.toInt = ((6 * n : Nat) : Int)) (hn : 6 * n + 6 ≤ L) (hL : L ≤ 384) : ∃ μ2 z2, Inv (n + 1) μ2 z2 ∧ (
(ia (E μ z) (some 0) (l3 + 1)).bind fun v47 =>
(recv (E μ z) (some 400) 0).bind fun b49 => (cal (E μ z) (mX0_fault b49 v47 (E μ z))).bind fun r48 =>
(ia r48.2 (some 0) (l3 + 1)).bind fun v50 =>
(recv r48.2 (some 537) 2).bind fun b52 => (cal r48.2 (mX2_fault b52 v50 r48.2)).bind fun r51 =>
if r48.1 = r51.1 then (
k18 r51.2 (some 0) (some 400) (some 537) (l3 + 6))
else (
none)) = k18 (E μ2 z2) (some 0) (some 400) (some 537) (l3 + 6) := by
  obtain ⟨r, μ1, z1, μ2, z2, e1, e2, g1, g2, g3, hI2⟩ := hO.2.2.2.2.2.2.2.1 n μ z (xs (6 * n + 1)) hI
  have hs1 := g3.trans hs
  refine ⟨μ2, z2, hI2, ?_⟩
  refine bind_step (scr_E hs (add_I (k := 1) h3 rfl (by omega)) (by omega)) ?_
  refine bind_step (recv_400 554 (by omega) _ _) ?_
  refine bind_step (cal_Z e1 g1.1 g1.2) ?_
  refine bind_step (scr_E hs1 (add_I (k := 1) h3 rfl (by omega)) (by omega)) ?_
  refine bind_step (recv_537 554 (by omega) _ _) ?_
  refine bind_step (cal_Z e2 g2.1 g2.2) ?_
  refine (if_pos rfl).trans ?_
  rfl
theorem law_by {Inv : Nat → Mu → Zt → Prop} {L : Nat} {xs : Nat → Int32} (hO : Owed Inv L xs) {k18 : Wd → Option Nat → Option Nat → Option Nat → Int32 → Option (Unit × Wd)} {n : Nat} {μ : Mu} {z : Zt} {l3 : Int32} (hI : Inv n μ z) (hs : z.2.2.1 0 = some (.inl (.int, L, .inl xs))) (h3 : l3.toInt = ((6 * n : Nat) : Int)) (hn : 6 * n + 6 ≤ L) (hL : L ≤ 384) : ∃ μ2 z2, Inv (n + 1) μ2 z2 ∧ (
(ia (E μ z) (some 0) (l3 + 1)).bind fun v53 =>
(recv (E μ z) (some 400) 0).bind fun b55 => (cal (E μ z) (mX0_by b55 v53 (E μ z))).bind fun r54 =>
(ia r54.2 (some 0) (l3 + 1)).bind fun v56 =>
(recv r54.2 (some 537) 2).bind fun b58 => (cal r54.2 (mX2_by b58 v56 r54.2)).bind fun r57 =>
if r54.1 = r57.1 then (
k18 r57.2 (some 0) (some 400) (some 537) (l3 + 6))
else (
none)) = k18 (E μ2 z2) (some 0) (some 400) (some 537) (l3 + 6) := by
  obtain ⟨r, μ1, z1, μ2, z2, e1, e2, g1, g2, g3, hI2⟩ := hO.2.2.2.2.2.2.2.2.1 n μ z (xs (6 * n + 1)) hI
  have hs1 := g3.trans hs
  refine ⟨μ2, z2, hI2, ?_⟩
  refine bind_step (scr_E hs (add_I (k := 1) h3 rfl (by omega)) (by omega)) ?_
  refine bind_step (recv_400 554 (by omega) _ _) ?_
  refine bind_step (cal_Z e1 g1.1 g1.2) ?_
  refine bind_step (scr_E hs1 (add_I (k := 1) h3 rfl (by omega)) (by omega)) ?_
  refine bind_step (recv_537 554 (by omega) _ _) ?_
  refine bind_step (cal_Z e2 g2.1 g2.2) ?_
  refine (if_pos rfl).trans ?_
  rfl
theorem law_move {Inv : Nat → Mu → Zt → Prop} {L : Nat} {xs : Nat → Int32} (hO : Owed Inv L xs) {k18 : Wd → Option Nat → Option Nat → Option Nat → Int32 → Option (Unit × Wd)} {n : Nat} {μ : Mu} {z : Zt} {l3 : Int32} (hI : Inv n μ z) (hs : z.2.2.1 0 = some (.inl (.int, L, .inl xs))) (h3 : l3.toInt = ((6 * n : Nat) : Int)) (hn : 6 * n + 6 ≤ L) (hL : L ≤ 384) : ∃ μ2 z2, Inv (n + 1) μ2 z2 ∧ (
(ia (E μ z) (some 0) (l3 + 1)).bind fun v59 =>
(recv (E μ z) (some 400) 0).bind fun b61 => (cal (E μ z) (mX0_move b61 v59 (E μ z))).bind fun r60 =>
(ia r60.2 (some 0) (l3 + 1)).bind fun v62 =>
(recv r60.2 (some 537) 2).bind fun b64 => (cal r60.2 (mX2_move b64 v62 r60.2)).bind fun r63 =>
if r60.1 = r63.1 then (
k18 r63.2 (some 0) (some 400) (some 537) (l3 + 6))
else (
none)) = k18 (E μ2 z2) (some 0) (some 400) (some 537) (l3 + 6) := by
  obtain ⟨r, μ1, z1, μ2, z2, e1, e2, g1, g2, g3, hI2⟩ := hO.2.2.2.2.2.2.2.2.2.1 n μ z (xs (6 * n + 1)) hI
  have hs1 := g3.trans hs
  refine ⟨μ2, z2, hI2, ?_⟩
  refine bind_step (scr_E hs (add_I (k := 1) h3 rfl (by omega)) (by omega)) ?_
  refine bind_step (recv_400 554 (by omega) _ _) ?_
  refine bind_step (cal_Z e1 g1.1 g1.2) ?_
  refine bind_step (scr_E hs1 (add_I (k := 1) h3 rfl (by omega)) (by omega)) ?_
  refine bind_step (recv_537 554 (by omega) _ _) ?_
  refine bind_step (cal_Z e2 g2.1 g2.2) ?_
  refine (if_pos rfl).trans ?_
  rfl
theorem law_run {Inv : Nat → Mu → Zt → Prop} {L : Nat} {xs : Nat → Int32} (hO : Owed Inv L xs) {k18 : Wd → Option Nat → Option Nat → Option Nat → Int32 → Option (Unit × Wd)} {n : Nat} {μ : Mu} {z : Zt} {l3 : Int32} (hI : Inv n μ z) (hs : z.2.2.1 0 = some (.inl (.int, L, .inl xs))) (h3 : l3.toInt = ((6 * n : Nat) : Int)) (hn : 6 * n + 6 ≤ L) (hL : L ≤ 384) : ∃ μ2 z2, Inv (n + 1) μ2 z2 ∧ (
(ia (E μ z) (some 0) (l3 + 1)).bind fun v65 =>
(recv (E μ z) (some 400) 0).bind fun b67 => (cal (E μ z) (mX0_run b67 v65 (E μ z))).bind fun r66 =>
(ia r66.2 (some 0) (l3 + 1)).bind fun v68 =>
(recv r66.2 (some 537) 2).bind fun b70 => (cal r66.2 (mX2_run b70 v68 r66.2)).bind fun r69 =>
if r66.1 = r69.1 then (
k18 r69.2 (some 0) (some 400) (some 537) (l3 + 6))
else (
none)) = k18 (E μ2 z2) (some 0) (some 400) (some 537) (l3 + 6) := by
  obtain ⟨r, μ1, z1, μ2, z2, e1, e2, g1, g2, g3, hI2⟩ := hO.2.2.2.2.2.2.2.2.2.2.1 n μ z (xs (6 * n + 1)) hI
  have hs1 := g3.trans hs
  refine ⟨μ2, z2, hI2, ?_⟩
  refine bind_step (scr_E hs (add_I (k := 1) h3 rfl (by omega)) (by omega)) ?_
  refine bind_step (recv_400 554 (by omega) _ _) ?_
  refine bind_step (cal_Z e1 g1.1 g1.2) ?_
  refine bind_step (scr_E hs1 (add_I (k := 1) h3 rfl (by omega)) (by omega)) ?_
  refine bind_step (recv_537 554 (by omega) _ _) ?_
  refine bind_step (cal_Z e2 g2.1 g2.2) ?_
  refine (if_pos rfl).trans ?_
  rfl
theorem law_hoist {Inv : Nat → Mu → Zt → Prop} {L : Nat} {xs : Nat → Int32} (hO : Owed Inv L xs) {k18 : Wd → Option Nat → Option Nat → Option Nat → Int32 → Option (Unit × Wd)} {n : Nat} {μ : Mu} {z : Zt} {l3 : Int32} (hI : Inv n μ z) (hs : z.2.2.1 0 = some (.inl (.int, L, .inl xs))) (h3 : l3.toInt = ((6 * n : Nat) : Int)) (hn : 6 * n + 6 ≤ L) (hL : L ≤ 384) : ∃ μ2 z2, Inv (n + 1) μ2 z2 ∧ (
(ia (E μ z) (some 0) (l3 + 1)).bind fun v71 =>
(recv (E μ z) (some 400) 0).bind fun b73 => (cal (E μ z) (mX0_hoist b73 v71 (E μ z))).bind fun r72 =>
(ia r72.2 (some 0) (l3 + 1)).bind fun v74 =>
(recv r72.2 (some 537) 2).bind fun b76 => (cal r72.2 (mX2_hoist b76 v74 r72.2)).bind fun r75 =>
if r72.1 = r75.1 then (
k18 r75.2 (some 0) (some 400) (some 537) (l3 + 6))
else (
none)) = k18 (E μ2 z2) (some 0) (some 400) (some 537) (l3 + 6) := by
  obtain ⟨r, μ1, z1, μ2, z2, e1, e2, g1, g2, g3, hI2⟩ := hO.2.2.2.2.2.2.2.2.2.2.2.1 n μ z (xs (6 * n + 1)) hI
  have hs1 := g3.trans hs
  refine ⟨μ2, z2, hI2, ?_⟩
  refine bind_step (scr_E hs (add_I (k := 1) h3 rfl (by omega)) (by omega)) ?_
  refine bind_step (recv_400 554 (by omega) _ _) ?_
  refine bind_step (cal_Z e1 g1.1 g1.2) ?_
  refine bind_step (scr_E hs1 (add_I (k := 1) h3 rfl (by omega)) (by omega)) ?_
  refine bind_step (recv_537 554 (by omega) _ _) ?_
  refine bind_step (cal_Z e2 g2.1 g2.2) ?_
  refine (if_pos rfl).trans ?_
  rfl
theorem law_aim {Inv : Nat → Mu → Zt → Prop} {L : Nat} {xs : Nat → Int32} (hO : Owed Inv L xs) {k18 : Wd → Option Nat → Option Nat → Option Nat → Int32 → Option (Unit × Wd)} {n : Nat} {μ : Mu} {z : Zt} {l3 : Int32} (hI : Inv n μ z) (hs : z.2.2.1 0 = some (.inl (.int, L, .inl xs))) (h3 : l3.toInt = ((6 * n : Nat) : Int)) (hn : 6 * n + 6 ≤ L) (hL : L ≤ 384) : ∃ μ2 z2, Inv (n + 1) μ2 z2 ∧ (
(ia (E μ z) (some 0) (l3 + 1)).bind fun v77 =>
(recv (E μ z) (some 400) 0).bind fun b79 => (cal (E μ z) (mX0_aim b79 v77 (E μ z))).bind fun r78 =>
(ia r78.2 (some 0) (l3 + 1)).bind fun v80 =>
(recv r78.2 (some 537) 2).bind fun b82 => (cal r78.2 (mX2_aim b82 v80 r78.2)).bind fun r81 =>
if r78.1 = r81.1 then (
k18 r81.2 (some 0) (some 400) (some 537) (l3 + 6))
else (
none)) = k18 (E μ2 z2) (some 0) (some 400) (some 537) (l3 + 6) := by
  obtain ⟨r, μ1, z1, μ2, z2, e1, e2, g1, g2, g3, hI2⟩ := hO.2.2.2.2.2.2.2.2.2.2.2.2.1 n μ z (xs (6 * n + 1)) hI
  have hs1 := g3.trans hs
  refine ⟨μ2, z2, hI2, ?_⟩
  refine bind_step (scr_E hs (add_I (k := 1) h3 rfl (by omega)) (by omega)) ?_
  refine bind_step (recv_400 554 (by omega) _ _) ?_
  refine bind_step (cal_Z e1 g1.1 g1.2) ?_
  refine bind_step (scr_E hs1 (add_I (k := 1) h3 rfl (by omega)) (by omega)) ?_
  refine bind_step (recv_537 554 (by omega) _ _) ?_
  refine bind_step (cal_Z e2 g2.1 g2.2) ?_
  refine (if_pos rfl).trans ?_
  rfl
theorem law_hook {Inv : Nat → Mu → Zt → Prop} {L : Nat} {xs : Nat → Int32} (hO : Owed Inv L xs) {k18 : Wd → Option Nat → Option Nat → Option Nat → Int32 → Option (Unit × Wd)} {n : Nat} {μ : Mu} {z : Zt} {l3 : Int32} (hI : Inv n μ z) (hs : z.2.2.1 0 = some (.inl (.int, L, .inl xs))) (h3 : l3.toInt = ((6 * n : Nat) : Int)) (hn : 6 * n + 6 ≤ L) (hL : L ≤ 384) : ∃ μ2 z2, Inv (n + 1) μ2 z2 ∧ (
(ia (E μ z) (some 0) (l3 + 1)).bind fun v83 =>
(recv (E μ z) (some 400) 0).bind fun b85 => (cal (E μ z) (mX0_hook b85 v83 (E μ z))).bind fun r84 =>
(ia r84.2 (some 0) (l3 + 1)).bind fun v86 =>
(recv r84.2 (some 537) 2).bind fun b88 => (cal r84.2 (mX2_hook b88 v86 r84.2)).bind fun r87 =>
if r84.1 = r87.1 then (
k18 r87.2 (some 0) (some 400) (some 537) (l3 + 6))
else (
none)) = k18 (E μ2 z2) (some 0) (some 400) (some 537) (l3 + 6) := by
  obtain ⟨r, μ1, z1, μ2, z2, e1, e2, g1, g2, g3, hI2⟩ := hO.2.2.2.2.2.2.2.2.2.2.2.2.2.1 n μ z (xs (6 * n + 1)) hI
  have hs1 := g3.trans hs
  refine ⟨μ2, z2, hI2, ?_⟩
  refine bind_step (scr_E hs (add_I (k := 1) h3 rfl (by omega)) (by omega)) ?_
  refine bind_step (recv_400 554 (by omega) _ _) ?_
  refine bind_step (cal_Z e1 g1.1 g1.2) ?_
  refine bind_step (scr_E hs1 (add_I (k := 1) h3 rfl (by omega)) (by omega)) ?_
  refine bind_step (recv_537 554 (by omega) _ _) ?_
  refine bind_step (cal_Z e2 g2.1 g2.2) ?_
  refine (if_pos rfl).trans ?_
  rfl
theorem law_land {Inv : Nat → Mu → Zt → Prop} {L : Nat} {xs : Nat → Int32} (hO : Owed Inv L xs) {k18 : Wd → Option Nat → Option Nat → Option Nat → Int32 → Option (Unit × Wd)} {n : Nat} {μ : Mu} {z : Zt} {l3 : Int32} (hI : Inv n μ z) (hs : z.2.2.1 0 = some (.inl (.int, L, .inl xs))) (h3 : l3.toInt = ((6 * n : Nat) : Int)) (hn : 6 * n + 6 ≤ L) (hL : L ≤ 384) : ∃ μ2 z2, Inv (n + 1) μ2 z2 ∧ (
(recv (E μ z) (some 400) 0).bind fun b90 => (cal (E μ z) (mX0_land b90 (E μ z))).bind fun r89 =>
(recv r89.2 (some 537) 2).bind fun b92 => (cal r89.2 (mX2_land b92 r89.2)).bind fun r91 =>
if r89.1 = r91.1 then (
k18 r91.2 (some 0) (some 400) (some 537) (l3 + 6))
else (
none)) = k18 (E μ2 z2) (some 0) (some 400) (some 537) (l3 + 6) := by
  obtain ⟨r, μ1, z1, μ2, z2, e1, e2, g1, g2, g3, hI2⟩ := hO.2.2.2.2.2.2.2.2.2.2.2.2.2.2.1 n μ z hI
  have hs1 := g3.trans hs
  refine ⟨μ2, z2, hI2, ?_⟩
  refine bind_step (recv_400 554 (by omega) _ _) ?_
  refine bind_step (cal_Z e1 g1.1 g1.2) ?_
  refine bind_step (recv_537 554 (by omega) _ _) ?_
  refine bind_step (cal_Z e2 g2.1 g2.2) ?_
  refine (if_pos rfl).trans ?_
  rfl
theorem law_played {Inv : Nat → Mu → Zt → Prop} {L : Nat} {xs : Nat → Int32} (hO : Owed Inv L xs) {k18 : Wd → Option Nat → Option Nat → Option Nat → Int32 → Option (Unit × Wd)} {n : Nat} {μ : Mu} {z : Zt} {l3 : Int32} (hI : Inv n μ z) (hs : z.2.2.1 0 = some (.inl (.int, L, .inl xs))) (h3 : l3.toInt = ((6 * n : Nat) : Int)) (hn : 6 * n + 6 ≤ L) (hL : L ≤ 384) : ∃ μ2 z2, Inv (n + 1) μ2 z2 ∧ (
(ia (E μ z) (some 0) (l3 + 1)).bind fun v93 =>
(recv (E μ z) (some 400) 0).bind fun b95 => (cal (E μ z) (mX0_played b95 v93 (E μ z))).bind fun r94 =>
(ia r94.2 (some 0) (l3 + 1)).bind fun v96 =>
(recv r94.2 (some 537) 2).bind fun b98 => (cal r94.2 (mX2_played b98 v96 r94.2)).bind fun r97 =>
if r94.1 = r97.1 then (
k18 r97.2 (some 0) (some 400) (some 537) (l3 + 6))
else (
none)) = k18 (E μ2 z2) (some 0) (some 400) (some 537) (l3 + 6) := by
  obtain ⟨r, μ1, z1, μ2, z2, e1, e2, g1, g2, g3, hI2⟩ := hO.2.2.2.2.2.2.2.2.2.2.2.2.2.2.2.1 n μ z (xs (6 * n + 1)) hI
  have hs1 := g3.trans hs
  refine ⟨μ2, z2, hI2, ?_⟩
  refine bind_step (scr_E hs (add_I (k := 1) h3 rfl (by omega)) (by omega)) ?_
  refine bind_step (recv_400 554 (by omega) _ _) ?_
  refine bind_step (cal_Z e1 g1.1 g1.2) ?_
  refine bind_step (scr_E hs1 (add_I (k := 1) h3 rfl (by omega)) (by omega)) ?_
  refine bind_step (recv_537 554 (by omega) _ _) ?_
  refine bind_step (cal_Z e2 g2.1 g2.2) ?_
  refine (if_pos rfl).trans ?_
  rfl
theorem law_storm {Inv : Nat → Mu → Zt → Prop} {L : Nat} {xs : Nat → Int32} (hO : Owed Inv L xs) {k18 : Wd → Option Nat → Option Nat → Option Nat → Int32 → Option (Unit × Wd)} {n : Nat} {μ : Mu} {z : Zt} {l3 : Int32} (hI : Inv n μ z) (hs : z.2.2.1 0 = some (.inl (.int, L, .inl xs))) (h3 : l3.toInt = ((6 * n : Nat) : Int)) (hn : 6 * n + 6 ≤ L) (hL : L ≤ 384) : ∃ μ2 z2, Inv (n + 1) μ2 z2 ∧ (
(ia (E μ z) (some 0) (l3 + 1)).bind fun v99 =>
(ia (E μ z) (some 0) (l3 + 2)).bind fun v100 =>
(recv (E μ z) (some 400) 0).bind fun b102 => (cal (E μ z) (mX0_storm b102 v99 v100 (E μ z))).bind fun r101 =>
(ia r101.2 (some 0) (l3 + 1)).bind fun v103 =>
(ia r101.2 (some 0) (l3 + 2)).bind fun v104 =>
(recv r101.2 (some 537) 2).bind fun b106 => (cal r101.2 (mX2_storm b106 v103 v104 r101.2)).bind fun r105 =>
if r101.1 = r105.1 then (
k18 r105.2 (some 0) (some 400) (some 537) (l3 + 6))
else (
none)) = k18 (E μ2 z2) (some 0) (some 400) (some 537) (l3 + 6) := by
  obtain ⟨r, μ1, z1, μ2, z2, e1, e2, g1, g2, g3, hI2⟩ := hO.2.2.2.2.2.2.2.2.2.2.2.2.2.2.2.2.1 n μ z (xs (6 * n + 1)) (xs (6 * n + 2)) hI
  have hs1 := g3.trans hs
  refine ⟨μ2, z2, hI2, ?_⟩
  refine bind_step (scr_E hs (add_I (k := 1) h3 rfl (by omega)) (by omega)) ?_
  refine bind_step (scr_E hs (add_I (k := 2) h3 rfl (by omega)) (by omega)) ?_
  refine bind_step (recv_400 554 (by omega) _ _) ?_
  refine bind_step (cal_Z e1 g1.1 g1.2) ?_
  refine bind_step (scr_E hs1 (add_I (k := 1) h3 rfl (by omega)) (by omega)) ?_
  refine bind_step (scr_E hs1 (add_I (k := 2) h3 rfl (by omega)) (by omega)) ?_
  refine bind_step (recv_537 554 (by omega) _ _) ?_
  refine bind_step (cal_Z e2 g2.1 g2.2) ?_
  refine (if_pos rfl).trans ?_
  rfl
theorem law_undo {Inv : Nat → Mu → Zt → Prop} {L : Nat} {xs : Nat → Int32} (hO : Owed Inv L xs) {k18 : Wd → Option Nat → Option Nat → Option Nat → Int32 → Option (Unit × Wd)} {n : Nat} {μ : Mu} {z : Zt} {l3 : Int32} (hI : Inv n μ z) (hs : z.2.2.1 0 = some (.inl (.int, L, .inl xs))) (h3 : l3.toInt = ((6 * n : Nat) : Int)) (hn : 6 * n + 6 ≤ L) (hL : L ≤ 384) : ∃ μ2 z2, Inv (n + 1) μ2 z2 ∧ (
(recv (E μ z) (some 400) 0).bind fun b108 => (cal (E μ z) (mX0_undo b108 (E μ z))).bind fun r107 =>
(recv r107.2 (some 537) 2).bind fun b110 => (cal r107.2 (mX2_undo b110 r107.2)).bind fun r109 =>
if r107.1 = r109.1 then (
k18 r109.2 (some 0) (some 400) (some 537) (l3 + 6))
else (
none)) = k18 (E μ2 z2) (some 0) (some 400) (some 537) (l3 + 6) := by
  obtain ⟨r, μ1, z1, μ2, z2, e1, e2, g1, g2, g3, hI2⟩ := hO.2.2.2.2.2.2.2.2.2.2.2.2.2.2.2.2.2.1 n μ z hI
  have hs1 := g3.trans hs
  refine ⟨μ2, z2, hI2, ?_⟩
  refine bind_step (recv_400 554 (by omega) _ _) ?_
  refine bind_step (cal_Z e1 g1.1 g1.2) ?_
  refine bind_step (recv_537 554 (by omega) _ _) ?_
  refine bind_step (cal_Z e2 g2.1 g2.2) ?_
  refine (if_pos rfl).trans ?_
  rfl
theorem law_jib {Inv : Nat → Mu → Zt → Prop} {L : Nat} {xs : Nat → Int32} (hO : Owed Inv L xs) {k18 : Wd → Option Nat → Option Nat → Option Nat → Int32 → Option (Unit × Wd)} {n : Nat} {μ : Mu} {z : Zt} {l3 : Int32} (hI : Inv n μ z) (hs : z.2.2.1 0 = some (.inl (.int, L, .inl xs))) (h3 : l3.toInt = ((6 * n : Nat) : Int)) (hn : 6 * n + 6 ≤ L) (hL : L ≤ 384) : ∃ μ2 z2, Inv (n + 1) μ2 z2 ∧ (
(ia (E μ z) (some 0) (l3 + 1)).bind fun v111 =>
(recv (E μ z) (some 400) 0).bind fun b113 => (cal (E μ z) (mX0_jib b113 v111 (E μ z))).bind fun r112 =>
(ia r112.2 (some 0) (l3 + 1)).bind fun v114 =>
(recv r112.2 (some 537) 2).bind fun b116 => (cal r112.2 (mX2_jib b116 v114 r112.2)).bind fun r115 =>
if r112.1 = r115.1 then (
k18 r115.2 (some 0) (some 400) (some 537) (l3 + 6))
else (
none)) = k18 (E μ2 z2) (some 0) (some 400) (some 537) (l3 + 6) := by
  obtain ⟨r, μ1, z1, μ2, z2, e1, e2, g1, g2, g3, hI2⟩ := hO.2.2.2.2.2.2.2.2.2.2.2.2.2.2.2.2.2.2.1 n μ z (xs (6 * n + 1)) hI
  have hs1 := g3.trans hs
  refine ⟨μ2, z2, hI2, ?_⟩
  refine bind_step (scr_E hs (add_I (k := 1) h3 rfl (by omega)) (by omega)) ?_
  refine bind_step (recv_400 554 (by omega) _ _) ?_
  refine bind_step (cal_Z e1 g1.1 g1.2) ?_
  refine bind_step (scr_E hs1 (add_I (k := 1) h3 rfl (by omega)) (by omega)) ?_
  refine bind_step (recv_537 554 (by omega) _ _) ?_
  refine bind_step (cal_Z e2 g2.1 g2.2) ?_
  refine (if_pos rfl).trans ?_
  rfl
theorem law_ofOrder {Inv : Nat → Mu → Zt → Prop} {L : Nat} {xs : Nat → Int32} (hO : Owed Inv L xs) {k18 : Wd → Option Nat → Option Nat → Option Nat → Int32 → Option (Unit × Wd)} {n : Nat} {μ : Mu} {z : Zt} {l3 : Int32} (hI : Inv n μ z) (hs : z.2.2.1 0 = some (.inl (.int, L, .inl xs))) (h3 : l3.toInt = ((6 * n : Nat) : Int)) (hn : 6 * n + 6 ≤ L) (hL : L ≤ 384) : ∃ μ2 z2, Inv (n + 1) μ2 z2 ∧ (
(ia (E μ z) (some 0) (l3 + 1)).bind fun v117 =>
(ia (E μ z) (some 0) (l3 + 2)).bind fun v118 =>
(recv (E μ z) (some 400) 0).bind fun b120 => (cal (E μ z) (mX0_ofOrder b120 v117 v118 (E μ z))).bind fun r119 =>
(ia r119.2 (some 0) (l3 + 1)).bind fun v121 =>
(ia r119.2 (some 0) (l3 + 2)).bind fun v122 =>
(recv r119.2 (some 537) 2).bind fun b124 => (cal r119.2 (mX2_ofOrder b124 v121 v122 r119.2)).bind fun r123 =>
if r119.1 = r123.1 then (
k18 r123.2 (some 0) (some 400) (some 537) (l3 + 6))
else (
none)) = k18 (E μ2 z2) (some 0) (some 400) (some 537) (l3 + 6) := by
  obtain ⟨r, μ1, z1, μ2, z2, e1, e2, g1, g2, g3, hI2⟩ := hO.2.2.2.2.2.2.2.2.2.2.2.2.2.2.2.2.2.2.2.1 n μ z (xs (6 * n + 1)) (xs (6 * n + 2)) hI
  have hs1 := g3.trans hs
  refine ⟨μ2, z2, hI2, ?_⟩
  refine bind_step (scr_E hs (add_I (k := 1) h3 rfl (by omega)) (by omega)) ?_
  refine bind_step (scr_E hs (add_I (k := 2) h3 rfl (by omega)) (by omega)) ?_
  refine bind_step (recv_400 554 (by omega) _ _) ?_
  refine bind_step (cal_Z e1 g1.1 g1.2) ?_
  refine bind_step (scr_E hs1 (add_I (k := 1) h3 rfl (by omega)) (by omega)) ?_
  refine bind_step (scr_E hs1 (add_I (k := 2) h3 rfl (by omega)) (by omega)) ?_
  refine bind_step (recv_537 554 (by omega) _ _) ?_
  refine bind_step (cal_Z e2 g2.1 g2.2) ?_
  refine (if_pos rfl).trans ?_
  rfl
theorem law_ago {Inv : Nat → Mu → Zt → Prop} {L : Nat} {xs : Nat → Int32} (hO : Owed Inv L xs) {k18 : Wd → Option Nat → Option Nat → Option Nat → Int32 → Option (Unit × Wd)} {n : Nat} {μ : Mu} {z : Zt} {l3 : Int32} (hI : Inv n μ z) (hs : z.2.2.1 0 = some (.inl (.int, L, .inl xs))) (h3 : l3.toInt = ((6 * n : Nat) : Int)) (hn : 6 * n + 6 ≤ L) (hL : L ≤ 384) : ∃ μ2 z2, Inv (n + 1) μ2 z2 ∧ (
(ia (E μ z) (some 0) (l3 + 1)).bind fun v125 =>
(ia (E μ z) (some 0) (l3 + 2)).bind fun v126 =>
(recv (E μ z) (some 400) 0).bind fun b128 => (cal (E μ z) (mX0_ago b128 v125 v126 (E μ z))).bind fun r127 =>
(ia r127.2 (some 0) (l3 + 1)).bind fun v129 =>
(ia r127.2 (some 0) (l3 + 2)).bind fun v130 =>
(recv r127.2 (some 537) 2).bind fun b132 => (cal r127.2 (mX2_ago b132 v129 v130 r127.2)).bind fun r131 =>
if r127.1 = r131.1 then (
k18 r131.2 (some 0) (some 400) (some 537) (l3 + 6))
else (
none)) = k18 (E μ2 z2) (some 0) (some 400) (some 537) (l3 + 6) := by
  obtain ⟨r, μ1, z1, μ2, z2, e1, e2, g1, g2, g3, hI2⟩ := hO.2.2.2.2.2.2.2.2.2.2.2.2.2.2.2.2.2.2.2.2.1 n μ z (xs (6 * n + 1)) (xs (6 * n + 2)) hI
  have hs1 := g3.trans hs
  refine ⟨μ2, z2, hI2, ?_⟩
  refine bind_step (scr_E hs (add_I (k := 1) h3 rfl (by omega)) (by omega)) ?_
  refine bind_step (scr_E hs (add_I (k := 2) h3 rfl (by omega)) (by omega)) ?_
  refine bind_step (recv_400 554 (by omega) _ _) ?_
  refine bind_step (cal_Z e1 g1.1 g1.2) ?_
  refine bind_step (scr_E hs1 (add_I (k := 1) h3 rfl (by omega)) (by omega)) ?_
  refine bind_step (scr_E hs1 (add_I (k := 2) h3 rfl (by omega)) (by omega)) ?_
  refine bind_step (recv_537 554 (by omega) _ _) ?_
  refine bind_step (cal_Z e2 g2.1 g2.2) ?_
  refine (if_pos rfl).trans ?_
  rfl
theorem law_foretold {Inv : Nat → Mu → Zt → Prop} {L : Nat} {xs : Nat → Int32} (hO : Owed Inv L xs) {k18 : Wd → Option Nat → Option Nat → Option Nat → Int32 → Option (Unit × Wd)} {n : Nat} {μ : Mu} {z : Zt} {l3 : Int32} (hI : Inv n μ z) (hs : z.2.2.1 0 = some (.inl (.int, L, .inl xs))) (h3 : l3.toInt = ((6 * n : Nat) : Int)) (hn : 6 * n + 6 ≤ L) (hL : L ≤ 384) : ∃ μ2 z2, Inv (n + 1) μ2 z2 ∧ (
(ia (E μ z) (some 0) (l3 + 1)).bind fun v133 =>
(ia (E μ z) (some 0) (l3 + 2)).bind fun v134 =>
if v134 = 0 then (
mL_law_p764 k18 (E μ z) (some 0) (some 400) (some 537) l3 0 v133 (some 400))
else (
mL_law_p764 k18 (E μ z) (some 0) (some 400) (some 537) l3 1 v133 (some 400))) = k18 (E μ2 z2) (some 0) (some 400) (some 537) (l3 + 6) := by
  by_cases hb : (xs (6 * n + 2)) = 0
  · obtain ⟨r, μ1, z1, μ2, z2, e1, e2, g1, g2, g3, hI2⟩ := hO.2.2.2.2.2.2.2.2.2.2.2.2.2.2.2.2.2.2.2.2.2.1 n μ z (xs (6 * n + 1)) 0 (xs (6 * n + 3)) (Or.inl rfl) hI
    have hs1 := g3.trans hs
    refine ⟨μ2, z2, hI2, ?_⟩
    refine bind_step (scr_E hs (add_I (k := 1) h3 rfl (by omega)) (by omega)) ?_
    refine bind_step (scr_E hs (add_I (k := 2) h3 rfl (by omega)) (by omega)) ?_
    refine (if_pos hb).trans ?_
    unfold mL_law_p764
    refine bind_step (scr_E hs (add_I (k := 3) h3 rfl (by omega)) (by omega)) ?_
    refine bind_step (recv_400 554 (by omega) _ _) ?_
    refine bind_step (cal_Z e1 g1.1 g1.2) ?_
    refine bind_step (scr_E hs1 (add_I (k := 1) h3 rfl (by omega)) (by omega)) ?_
    refine bind_step (scr_E hs1 (add_I (k := 2) h3 rfl (by omega)) (by omega)) ?_
    refine (if_pos hb).trans ?_
    unfold mL_law_p791
    refine bind_step (scr_E hs1 (add_I (k := 3) h3 rfl (by omega)) (by omega)) ?_
    refine bind_step (recv_537 554 (by omega) _ _) ?_
    refine bind_step (cal_Z e2 g2.1 g2.2) ?_
    refine (if_pos rfl).trans ?_
    rfl
  · obtain ⟨r, μ1, z1, μ2, z2, e1, e2, g1, g2, g3, hI2⟩ := hO.2.2.2.2.2.2.2.2.2.2.2.2.2.2.2.2.2.2.2.2.2.1 n μ z (xs (6 * n + 1)) 1 (xs (6 * n + 3)) (Or.inr rfl) hI
    have hs1 := g3.trans hs
    refine ⟨μ2, z2, hI2, ?_⟩
    refine bind_step (scr_E hs (add_I (k := 1) h3 rfl (by omega)) (by omega)) ?_
    refine bind_step (scr_E hs (add_I (k := 2) h3 rfl (by omega)) (by omega)) ?_
    refine (if_neg hb).trans ?_
    unfold mL_law_p764
    refine bind_step (scr_E hs (add_I (k := 3) h3 rfl (by omega)) (by omega)) ?_
    refine bind_step (recv_400 554 (by omega) _ _) ?_
    refine bind_step (cal_Z e1 g1.1 g1.2) ?_
    refine bind_step (scr_E hs1 (add_I (k := 1) h3 rfl (by omega)) (by omega)) ?_
    refine bind_step (scr_E hs1 (add_I (k := 2) h3 rfl (by omega)) (by omega)) ?_
    refine (if_neg hb).trans ?_
    unfold mL_law_p791
    refine bind_step (scr_E hs1 (add_I (k := 3) h3 rfl (by omega)) (by omega)) ?_
    refine bind_step (recv_537 554 (by omega) _ _) ?_
    refine bind_step (cal_Z e2 g2.1 g2.2) ?_
    refine (if_pos rfl).trans ?_
    rfl
theorem law_soonest {Inv : Nat → Mu → Zt → Prop} {L : Nat} {xs : Nat → Int32} (hO : Owed Inv L xs) {k18 : Wd → Option Nat → Option Nat → Option Nat → Int32 → Option (Unit × Wd)} {n : Nat} {μ : Mu} {z : Zt} {l3 : Int32} (hI : Inv n μ z) (hs : z.2.2.1 0 = some (.inl (.int, L, .inl xs))) (h3 : l3.toInt = ((6 * n : Nat) : Int)) (hn : 6 * n + 6 ≤ L) (hL : L ≤ 384) : ∃ μ2 z2, Inv (n + 1) μ2 z2 ∧ (
(ia (E μ z) (some 0) (l3 + 1)).bind fun v135 =>
(recv (E μ z) (some 400) 0).bind fun b137 => (cal (E μ z) (mX0_soonest b137 v135 (E μ z))).bind fun r136 =>
(ia r136.2 (some 0) (l3 + 1)).bind fun v138 =>
(recv r136.2 (some 537) 2).bind fun b140 => (cal r136.2 (mX2_soonest b140 v138 r136.2)).bind fun r139 =>
if r136.1 = r139.1 then (
k18 r139.2 (some 0) (some 400) (some 537) (l3 + 6))
else (
none)) = k18 (E μ2 z2) (some 0) (some 400) (some 537) (l3 + 6) := by
  obtain ⟨r, μ1, z1, μ2, z2, e1, e2, g1, g2, g3, hI2⟩ := hO.2.2.2.2.2.2.2.2.2.2.2.2.2.2.2.2.2.2.2.2.2.2.1 n μ z (xs (6 * n + 1)) hI
  have hs1 := g3.trans hs
  refine ⟨μ2, z2, hI2, ?_⟩
  refine bind_step (scr_E hs (add_I (k := 1) h3 rfl (by omega)) (by omega)) ?_
  refine bind_step (recv_400 554 (by omega) _ _) ?_
  refine bind_step (cal_Z e1 g1.1 g1.2) ?_
  refine bind_step (scr_E hs1 (add_I (k := 1) h3 rfl (by omega)) (by omega)) ?_
  refine bind_step (recv_537 554 (by omega) _ _) ?_
  refine bind_step (cal_Z e2 g2.1 g2.2) ?_
  refine (if_pos rfl).trans ?_
  rfl
theorem law_fewest {Inv : Nat → Mu → Zt → Prop} {L : Nat} {xs : Nat → Int32} (hO : Owed Inv L xs) {k18 : Wd → Option Nat → Option Nat → Option Nat → Int32 → Option (Unit × Wd)} {n : Nat} {μ : Mu} {z : Zt} {l3 : Int32} (hI : Inv n μ z) (hs : z.2.2.1 0 = some (.inl (.int, L, .inl xs))) (h3 : l3.toInt = ((6 * n : Nat) : Int)) (hn : 6 * n + 6 ≤ L) (hL : L ≤ 384) : ∃ μ2 z2, Inv (n + 1) μ2 z2 ∧ (
(ia (E μ z) (some 0) (l3 + 1)).bind fun v141 =>
(recv (E μ z) (some 400) 0).bind fun b143 => (cal (E μ z) (mX0_fewest b143 v141 (E μ z))).bind fun r142 =>
(ia r142.2 (some 0) (l3 + 1)).bind fun v144 =>
(recv r142.2 (some 537) 2).bind fun b146 => (cal r142.2 (mX2_fewest b146 v144 r142.2)).bind fun r145 =>
if r142.1 = r145.1 then (
k18 r145.2 (some 0) (some 400) (some 537) (l3 + 6))
else (
none)) = k18 (E μ2 z2) (some 0) (some 400) (some 537) (l3 + 6) := by
  obtain ⟨r, μ1, z1, μ2, z2, e1, e2, g1, g2, g3, hI2⟩ := hO.2.2.2.2.2.2.2.2.2.2.2.2.2.2.2.2.2.2.2.2.2.2.2.1 n μ z (xs (6 * n + 1)) hI
  have hs1 := g3.trans hs
  refine ⟨μ2, z2, hI2, ?_⟩
  refine bind_step (scr_E hs (add_I (k := 1) h3 rfl (by omega)) (by omega)) ?_
  refine bind_step (recv_400 554 (by omega) _ _) ?_
  refine bind_step (cal_Z e1 g1.1 g1.2) ?_
  refine bind_step (scr_E hs1 (add_I (k := 1) h3 rfl (by omega)) (by omega)) ?_
  refine bind_step (recv_537 554 (by omega) _ _) ?_
  refine bind_step (cal_Z e2 g2.1 g2.2) ?_
  refine (if_pos rfl).trans ?_
  rfl
theorem law_toAndFro {Inv : Nat → Mu → Zt → Prop} {L : Nat} {xs : Nat → Int32} (hO : Owed Inv L xs) {k18 : Wd → Option Nat → Option Nat → Option Nat → Int32 → Option (Unit × Wd)} {n : Nat} {μ : Mu} {z : Zt} {l3 : Int32} (hI : Inv n μ z) (hs : z.2.2.1 0 = some (.inl (.int, L, .inl xs))) (h3 : l3.toInt = ((6 * n : Nat) : Int)) (hn : 6 * n + 6 ≤ L) (hL : L ≤ 384) : ∃ μ2 z2, Inv (n + 1) μ2 z2 ∧ (
(ia (E μ z) (some 0) (l3 + 1)).bind fun v147 =>
(recv (E μ z) (some 400) 0).bind fun b149 => (cal (E μ z) (mX0_toAndFro b149 v147 (E μ z))).bind fun r148 =>
(ia r148.2 (some 0) (l3 + 1)).bind fun v150 =>
(recv r148.2 (some 537) 2).bind fun b152 => (cal r148.2 (mX2_toAndFro b152 v150 r148.2)).bind fun r151 =>
if r148.1 = r151.1 then (
k18 r151.2 (some 0) (some 400) (some 537) (l3 + 6))
else (
none)) = k18 (E μ2 z2) (some 0) (some 400) (some 537) (l3 + 6) := by
  obtain ⟨r, μ1, z1, μ2, z2, e1, e2, g1, g2, g3, hI2⟩ := hO.2.2.2.2.2.2.2.2.2.2.2.2.2.2.2.2.2.2.2.2.2.2.2.2.1 n μ z (xs (6 * n + 1)) hI
  have hs1 := g3.trans hs
  refine ⟨μ2, z2, hI2, ?_⟩
  refine bind_step (scr_E hs (add_I (k := 1) h3 rfl (by omega)) (by omega)) ?_
  refine bind_step (recv_400 554 (by omega) _ _) ?_
  refine bind_step (cal_Z e1 g1.1 g1.2) ?_
  refine bind_step (scr_E hs1 (add_I (k := 1) h3 rfl (by omega)) (by omega)) ?_
  refine bind_step (recv_537 554 (by omega) _ _) ?_
  refine bind_step (cal_Z e2 g2.1 g2.2) ?_
  refine (if_pos rfl).trans ?_
  rfl
theorem law_calm {Inv : Nat → Mu → Zt → Prop} {L : Nat} {xs : Nat → Int32} (hO : Owed Inv L xs) {k18 : Wd → Option Nat → Option Nat → Option Nat → Int32 → Option (Unit × Wd)} {n : Nat} {μ : Mu} {z : Zt} {l3 : Int32} (hI : Inv n μ z) (hs : z.2.2.1 0 = some (.inl (.int, L, .inl xs))) (h3 : l3.toInt = ((6 * n : Nat) : Int)) (hn : 6 * n + 6 ≤ L) (hL : L ≤ 384) : ∃ μ2 z2, Inv (n + 1) μ2 z2 ∧ (
(ia (E μ z) (some 0) (l3 + 1)).bind fun v153 =>
(ia (E μ z) (some 0) (l3 + 2)).bind fun v154 =>
(ia (E μ z) (some 0) (l3 + 3)).bind fun v155 =>
if v155 = 0 then (
mL_law_p897 k18 (E μ z) (some 0) (some 400) (some 537) l3 0 v154 v153 (some 400))
else (
mL_law_p897 k18 (E μ z) (some 0) (some 400) (some 537) l3 1 v154 v153 (some 400))) = k18 (E μ2 z2) (some 0) (some 400) (some 537) (l3 + 6) := by
  by_cases hb : (xs (6 * n + 3)) = 0
  · obtain ⟨r, μ1, z1, μ2, z2, e1, e2, g1, g2, g3, hI2⟩ := hO.2.2.2.2.2.2.2.2.2.2.2.2.2.2.2.2.2.2.2.2.2.2.2.2.2.1 n μ z (xs (6 * n + 1)) (xs (6 * n + 2)) 0 (Or.inl rfl) hI
    have hs1 := g3.trans hs
    refine ⟨μ2, z2, hI2, ?_⟩
    refine bind_step (scr_E hs (add_I (k := 1) h3 rfl (by omega)) (by omega)) ?_
    refine bind_step (scr_E hs (add_I (k := 2) h3 rfl (by omega)) (by omega)) ?_
    refine bind_step (scr_E hs (add_I (k := 3) h3 rfl (by omega)) (by omega)) ?_
    refine (if_pos hb).trans ?_
    unfold mL_law_p897
    refine bind_step (recv_400 554 (by omega) _ _) ?_
    refine bind_step (cal_Z e1 g1.1 g1.2) ?_
    refine bind_step (scr_E hs1 (add_I (k := 1) h3 rfl (by omega)) (by omega)) ?_
    refine bind_step (scr_E hs1 (add_I (k := 2) h3 rfl (by omega)) (by omega)) ?_
    refine bind_step (scr_E hs1 (add_I (k := 3) h3 rfl (by omega)) (by omega)) ?_
    refine (if_pos hb).trans ?_
    unfold mL_law_p924
    refine bind_step (recv_537 554 (by omega) _ _) ?_
    refine bind_step (cal_Z e2 g2.1 g2.2) ?_
    refine (if_pos (cmp_self _)).trans ?_
    rfl
  · obtain ⟨r, μ1, z1, μ2, z2, e1, e2, g1, g2, g3, hI2⟩ := hO.2.2.2.2.2.2.2.2.2.2.2.2.2.2.2.2.2.2.2.2.2.2.2.2.2.1 n μ z (xs (6 * n + 1)) (xs (6 * n + 2)) 1 (Or.inr rfl) hI
    have hs1 := g3.trans hs
    refine ⟨μ2, z2, hI2, ?_⟩
    refine bind_step (scr_E hs (add_I (k := 1) h3 rfl (by omega)) (by omega)) ?_
    refine bind_step (scr_E hs (add_I (k := 2) h3 rfl (by omega)) (by omega)) ?_
    refine bind_step (scr_E hs (add_I (k := 3) h3 rfl (by omega)) (by omega)) ?_
    refine (if_neg hb).trans ?_
    unfold mL_law_p897
    refine bind_step (recv_400 554 (by omega) _ _) ?_
    refine bind_step (cal_Z e1 g1.1 g1.2) ?_
    refine bind_step (scr_E hs1 (add_I (k := 1) h3 rfl (by omega)) (by omega)) ?_
    refine bind_step (scr_E hs1 (add_I (k := 2) h3 rfl (by omega)) (by omega)) ?_
    refine bind_step (scr_E hs1 (add_I (k := 3) h3 rfl (by omega)) (by omega)) ?_
    refine (if_neg hb).trans ?_
    unfold mL_law_p924
    refine bind_step (recv_537 554 (by omega) _ _) ?_
    refine bind_step (cal_Z e2 g2.1 g2.2) ?_
    refine (if_pos (cmp_self _)).trans ?_
    rfl
theorem law_dies {Inv : Nat → Mu → Zt → Prop} {L : Nat} {xs : Nat → Int32} (hO : Owed Inv L xs) {k18 : Wd → Option Nat → Option Nat → Option Nat → Int32 → Option (Unit × Wd)} {n : Nat} {μ : Mu} {z : Zt} {l3 : Int32} (hI : Inv n μ z) (hs : z.2.2.1 0 = some (.inl (.int, L, .inl xs))) (h3 : l3.toInt = ((6 * n : Nat) : Int)) (hn : 6 * n + 6 ≤ L) (hL : L ≤ 384) : ∃ μ2 z2, Inv (n + 1) μ2 z2 ∧ (
(ia (E μ z) (some 0) (l3 + 1)).bind fun v156 =>
(ia (E μ z) (some 0) (l3 + 2)).bind fun v157 =>
(recv (E μ z) (some 400) 0).bind fun b159 => (cal (E μ z) (mX0_dies b159 v156 v157 (E μ z))).bind fun r158 =>
(ia r158.2 (some 0) (l3 + 1)).bind fun v160 =>
(ia r158.2 (some 0) (l3 + 2)).bind fun v161 =>
(recv r158.2 (some 537) 2).bind fun b163 => (cal r158.2 (mX2_dies b163 v160 v161 r158.2)).bind fun r162 =>
if r158.1 = r162.1 then (
k18 r162.2 (some 0) (some 400) (some 537) (l3 + 6))
else (
none)) = k18 (E μ2 z2) (some 0) (some 400) (some 537) (l3 + 6) := by
  obtain ⟨r, μ1, z1, μ2, z2, e1, e2, g1, g2, g3, hI2⟩ := hO.2.2.2.2.2.2.2.2.2.2.2.2.2.2.2.2.2.2.2.2.2.2.2.2.2.2.1 n μ z (xs (6 * n + 1)) (xs (6 * n + 2)) hI
  have hs1 := g3.trans hs
  refine ⟨μ2, z2, hI2, ?_⟩
  refine bind_step (scr_E hs (add_I (k := 1) h3 rfl (by omega)) (by omega)) ?_
  refine bind_step (scr_E hs (add_I (k := 2) h3 rfl (by omega)) (by omega)) ?_
  refine bind_step (recv_400 554 (by omega) _ _) ?_
  refine bind_step (cal_Z e1 g1.1 g1.2) ?_
  refine bind_step (scr_E hs1 (add_I (k := 1) h3 rfl (by omega)) (by omega)) ?_
  refine bind_step (scr_E hs1 (add_I (k := 2) h3 rfl (by omega)) (by omega)) ?_
  refine bind_step (recv_537 554 (by omega) _ _) ?_
  refine bind_step (cal_Z e2 g2.1 g2.2) ?_
  refine (if_pos rfl).trans ?_
  rfl
theorem law_calmest {Inv : Nat → Mu → Zt → Prop} {L : Nat} {xs : Nat → Int32} (hO : Owed Inv L xs) {k18 : Wd → Option Nat → Option Nat → Option Nat → Int32 → Option (Unit × Wd)} {n : Nat} {μ : Mu} {z : Zt} {l3 : Int32} (hI : Inv n μ z) (hs : z.2.2.1 0 = some (.inl (.int, L, .inl xs))) (h3 : l3.toInt = ((6 * n : Nat) : Int)) (hn : 6 * n + 6 ≤ L) (hL : L ≤ 384) : ∃ μ2 z2, Inv (n + 1) μ2 z2 ∧ (
(ia (E μ z) (some 0) (l3 + 1)).bind fun v164 =>
(recv (E μ z) (some 400) 0).bind fun b166 => (cal (E μ z) (mX0_calmest b166 v164 (E μ z))).bind fun r165 =>
(ia r165.2 (some 0) (l3 + 1)).bind fun v167 =>
(recv r165.2 (some 537) 2).bind fun b169 => (cal r165.2 (mX2_calmest b169 v167 r165.2)).bind fun r168 =>
if r165.1 = r168.1 then (
k18 r168.2 (some 0) (some 400) (some 537) (l3 + 6))
else (
none)) = k18 (E μ2 z2) (some 0) (some 400) (some 537) (l3 + 6) := by
  obtain ⟨r, μ1, z1, μ2, z2, e1, e2, g1, g2, g3, hI2⟩ := hO.2.2.2.2.2.2.2.2.2.2.2.2.2.2.2.2.2.2.2.2.2.2.2.2.2.2.2.1 n μ z (xs (6 * n + 1)) hI
  have hs1 := g3.trans hs
  refine ⟨μ2, z2, hI2, ?_⟩
  refine bind_step (scr_E hs (add_I (k := 1) h3 rfl (by omega)) (by omega)) ?_
  refine bind_step (recv_400 554 (by omega) _ _) ?_
  refine bind_step (cal_Z e1 g1.1 g1.2) ?_
  refine bind_step (scr_E hs1 (add_I (k := 1) h3 rfl (by omega)) (by omega)) ?_
  refine bind_step (recv_537 554 (by omega) _ _) ?_
  refine bind_step (cal_Z e2 g2.1 g2.2) ?_
  refine (if_pos rfl).trans ?_
  rfl
theorem law_whoseHand {Inv : Nat → Mu → Zt → Prop} {L : Nat} {xs : Nat → Int32} (hO : Owed Inv L xs) {k18 : Wd → Option Nat → Option Nat → Option Nat → Int32 → Option (Unit × Wd)} {n : Nat} {μ : Mu} {z : Zt} {l3 : Int32} (hI : Inv n μ z) (hs : z.2.2.1 0 = some (.inl (.int, L, .inl xs))) (h3 : l3.toInt = ((6 * n : Nat) : Int)) (hn : 6 * n + 6 ≤ L) (hL : L ≤ 384) : ∃ μ2 z2, Inv (n + 1) μ2 z2 ∧ (
(recv (E μ z) (some 400) 0).bind fun b171 => (cal (E μ z) (mX0_whoseHand b171 (E μ z))).bind fun r170 =>
(recv r170.2 (some 537) 2).bind fun b173 => (cal r170.2 (mX2_whoseHand b173 r170.2)).bind fun r172 =>
if r170.1 = r172.1 then (
k18 r172.2 (some 0) (some 400) (some 537) (l3 + 6))
else (
none)) = k18 (E μ2 z2) (some 0) (some 400) (some 537) (l3 + 6) := by
  obtain ⟨r, μ1, z1, μ2, z2, e1, e2, g1, g2, g3, hI2⟩ := hO.2.2.2.2.2.2.2.2.2.2.2.2.2.2.2.2.2.2.2.2.2.2.2.2.2.2.2.2.1 n μ z hI
  have hs1 := g3.trans hs
  refine ⟨μ2, z2, hI2, ?_⟩
  refine bind_step (recv_400 554 (by omega) _ _) ?_
  refine bind_step (cal_Z e1 g1.1 g1.2) ?_
  refine bind_step (recv_537 554 (by omega) _ _) ?_
  refine bind_step (cal_Z e2 g2.1 g2.2) ?_
  refine (if_pos rfl).trans ?_
  rfl
theorem law_dayEnds {Inv : Nat → Mu → Zt → Prop} {L : Nat} {xs : Nat → Int32} (hO : Owed Inv L xs) {k18 : Wd → Option Nat → Option Nat → Option Nat → Int32 → Option (Unit × Wd)} {n : Nat} {μ : Mu} {z : Zt} {l3 : Int32} (hI : Inv n μ z) (hs : z.2.2.1 0 = some (.inl (.int, L, .inl xs))) (h3 : l3.toInt = ((6 * n : Nat) : Int)) (hn : 6 * n + 6 ≤ L) (hL : L ≤ 384) : ∃ μ2 z2, Inv (n + 1) μ2 z2 ∧ (
(ia (E μ z) (some 0) (l3 + 1)).bind fun v174 =>
(ia (E μ z) (some 0) (l3 + 2)).bind fun v175 =>
(recv (E μ z) (some 400) 0).bind fun b177 => (cal (E μ z) (mX0_dayEnds b177 v174 v175 (E μ z))).bind fun r176 =>
(ia r176.2 (some 0) (l3 + 1)).bind fun v178 =>
(ia r176.2 (some 0) (l3 + 2)).bind fun v179 =>
(recv r176.2 (some 537) 2).bind fun b181 => (cal r176.2 (mX2_dayEnds b181 v178 v179 r176.2)).bind fun r180 =>
if r176.1 = r180.1 then (
k18 r180.2 (some 0) (some 400) (some 537) (l3 + 6))
else (
none)) = k18 (E μ2 z2) (some 0) (some 400) (some 537) (l3 + 6) := by
  obtain ⟨r, μ1, z1, μ2, z2, e1, e2, g1, g2, g3, hI2⟩ := hO.2.2.2.2.2.2.2.2.2.2.2.2.2.2.2.2.2.2.2.2.2.2.2.2.2.2.2.2.2.1 n μ z (xs (6 * n + 1)) (xs (6 * n + 2)) hI
  have hs1 := g3.trans hs
  refine ⟨μ2, z2, hI2, ?_⟩
  refine bind_step (scr_E hs (add_I (k := 1) h3 rfl (by omega)) (by omega)) ?_
  refine bind_step (scr_E hs (add_I (k := 2) h3 rfl (by omega)) (by omega)) ?_
  refine bind_step (recv_400 554 (by omega) _ _) ?_
  refine bind_step (cal_Z e1 g1.1 g1.2) ?_
  refine bind_step (scr_E hs1 (add_I (k := 1) h3 rfl (by omega)) (by omega)) ?_
  refine bind_step (scr_E hs1 (add_I (k := 2) h3 rfl (by omega)) (by omega)) ?_
  refine bind_step (recv_537 554 (by omega) _ _) ?_
  refine bind_step (cal_Z e2 g2.1 g2.2) ?_
  refine (if_pos rfl).trans ?_
  rfl
theorem law_saves {Inv : Nat → Mu → Zt → Prop} {L : Nat} {xs : Nat → Int32} (hO : Owed Inv L xs) {k18 : Wd → Option Nat → Option Nat → Option Nat → Int32 → Option (Unit × Wd)} {n : Nat} {μ : Mu} {z : Zt} {l3 : Int32} (hI : Inv n μ z) (hs : z.2.2.1 0 = some (.inl (.int, L, .inl xs))) (h3 : l3.toInt = ((6 * n : Nat) : Int)) (hn : 6 * n + 6 ≤ L) (hL : L ≤ 384) : ∃ μ2 z2, Inv (n + 1) μ2 z2 ∧ (
(ia (E μ z) (some 0) (l3 + 1)).bind fun v182 =>
(ia (E μ z) (some 0) (l3 + 2)).bind fun v183 =>
(ia (E μ z) (some 0) (l3 + 3)).bind fun v184 =>
(recv (E μ z) (some 400) 0).bind fun b186 => (cal (E μ z) (mX0_saves b186 v182 v183 v184 (E μ z))).bind fun r185 =>
(ia r185.2 (some 0) (l3 + 1)).bind fun v187 =>
(ia r185.2 (some 0) (l3 + 2)).bind fun v188 =>
(ia r185.2 (some 0) (l3 + 3)).bind fun v189 =>
(recv r185.2 (some 537) 2).bind fun b191 => (cal r185.2 (mX2_saves b191 v187 v188 v189 r185.2)).bind fun r190 =>
if r185.1 = r190.1 then (
k18 r190.2 (some 0) (some 400) (some 537) (l3 + 6))
else (
none)) = k18 (E μ2 z2) (some 0) (some 400) (some 537) (l3 + 6) := by
  obtain ⟨r, μ1, z1, μ2, z2, e1, e2, g1, g2, g3, hI2⟩ := hO.2.2.2.2.2.2.2.2.2.2.2.2.2.2.2.2.2.2.2.2.2.2.2.2.2.2.2.2.2.2.1 n μ z (xs (6 * n + 1)) (xs (6 * n + 2)) (xs (6 * n + 3)) hI
  have hs1 := g3.trans hs
  refine ⟨μ2, z2, hI2, ?_⟩
  refine bind_step (scr_E hs (add_I (k := 1) h3 rfl (by omega)) (by omega)) ?_
  refine bind_step (scr_E hs (add_I (k := 2) h3 rfl (by omega)) (by omega)) ?_
  refine bind_step (scr_E hs (add_I (k := 3) h3 rfl (by omega)) (by omega)) ?_
  refine bind_step (recv_400 554 (by omega) _ _) ?_
  refine bind_step (cal_Z e1 g1.1 g1.2) ?_
  refine bind_step (scr_E hs1 (add_I (k := 1) h3 rfl (by omega)) (by omega)) ?_
  refine bind_step (scr_E hs1 (add_I (k := 2) h3 rfl (by omega)) (by omega)) ?_
  refine bind_step (scr_E hs1 (add_I (k := 3) h3 rfl (by omega)) (by omega)) ?_
  refine bind_step (recv_537 554 (by omega) _ _) ?_
  refine bind_step (cal_Z e2 g2.1 g2.2) ?_
  refine (if_pos rfl).trans ?_
  rfl
theorem law_whenToGo {Inv : Nat → Mu → Zt → Prop} {L : Nat} {xs : Nat → Int32} (hO : Owed Inv L xs) {k18 : Wd → Option Nat → Option Nat → Option Nat → Int32 → Option (Unit × Wd)} {n : Nat} {μ : Mu} {z : Zt} {l3 : Int32} (hI : Inv n μ z) (hs : z.2.2.1 0 = some (.inl (.int, L, .inl xs))) (h3 : l3.toInt = ((6 * n : Nat) : Int)) (hn : 6 * n + 6 ≤ L) (hL : L ≤ 384) : ∃ μ2 z2, Inv (n + 1) μ2 z2 ∧ (
(recv (E μ z) (some 400) 0).bind fun b193 => (cal (E μ z) (mX0_whenToGo b193 (E μ z))).bind fun r192 =>
(recv r192.2 (some 537) 2).bind fun b195 => (cal r192.2 (mX2_whenToGo b195 r192.2)).bind fun r194 =>
if r192.1 = r194.1 then (
k18 r194.2 (some 0) (some 400) (some 537) (l3 + 6))
else (
none)) = k18 (E μ2 z2) (some 0) (some 400) (some 537) (l3 + 6) := by
  obtain ⟨r, μ1, z1, μ2, z2, e1, e2, g1, g2, g3, hI2⟩ := hO.2.2.2.2.2.2.2.2.2.2.2.2.2.2.2.2.2.2.2.2.2.2.2.2.2.2.2.2.2.2.2.1 n μ z hI
  have hs1 := g3.trans hs
  refine ⟨μ2, z2, hI2, ?_⟩
  refine bind_step (recv_400 554 (by omega) _ _) ?_
  refine bind_step (cal_Z e1 g1.1 g1.2) ?_
  refine bind_step (recv_537 554 (by omega) _ _) ?_
  refine bind_step (cal_Z e2 g2.1 g2.2) ?_
  refine (if_pos rfl).trans ?_
  rfl
theorem law_whichRope {Inv : Nat → Mu → Zt → Prop} {L : Nat} {xs : Nat → Int32} (hO : Owed Inv L xs) {k18 : Wd → Option Nat → Option Nat → Option Nat → Int32 → Option (Unit × Wd)} {n : Nat} {μ : Mu} {z : Zt} {l3 : Int32} (hI : Inv n μ z) (hs : z.2.2.1 0 = some (.inl (.int, L, .inl xs))) (h3 : l3.toInt = ((6 * n : Nat) : Int)) (hn : 6 * n + 6 ≤ L) (hL : L ≤ 384) : ∃ μ2 z2, Inv (n + 1) μ2 z2 ∧ (
(recv (E μ z) (some 400) 0).bind fun b197 => (cal (E μ z) (mX0_whichRope b197 (E μ z))).bind fun r196 =>
(recv r196.2 (some 537) 2).bind fun b199 => (cal r196.2 (mX2_whichRope b199 r196.2)).bind fun r198 =>
if r196.1 = r198.1 then (
k18 r198.2 (some 0) (some 400) (some 537) (l3 + 6))
else (
none)) = k18 (E μ2 z2) (some 0) (some 400) (some 537) (l3 + 6) := by
  obtain ⟨r, μ1, z1, μ2, z2, e1, e2, g1, g2, g3, hI2⟩ := hO.2.2.2.2.2.2.2.2.2.2.2.2.2.2.2.2.2.2.2.2.2.2.2.2.2.2.2.2.2.2.2.2.1 n μ z hI
  have hs1 := g3.trans hs
  refine ⟨μ2, z2, hI2, ?_⟩
  refine bind_step (recv_400 554 (by omega) _ _) ?_
  refine bind_step (cal_Z e1 g1.1 g1.2) ?_
  refine bind_step (recv_537 554 (by omega) _ _) ?_
  refine bind_step (cal_Z e2 g2.1 g2.2) ?_
  refine (if_pos rfl).trans ?_
  rfl
theorem law_bar {Inv : Nat → Mu → Zt → Prop} {L : Nat} {xs : Nat → Int32} (hO : Owed Inv L xs) {k18 : Wd → Option Nat → Option Nat → Option Nat → Int32 → Option (Unit × Wd)} {n : Nat} {μ : Mu} {z : Zt} {l3 : Int32} (hI : Inv n μ z) (hs : z.2.2.1 0 = some (.inl (.int, L, .inl xs))) (h3 : l3.toInt = ((6 * n : Nat) : Int)) (hn : 6 * n + 6 ≤ L) (hL : L ≤ 384) : ∃ μ2 z2, Inv (n + 1) μ2 z2 ∧ (
(ia (E μ z) (some 0) (l3 + 1)).bind fun v200 =>
(ia (E μ z) (some 0) (l3 + 2)).bind fun v201 =>
(ia (E μ z) (some 0) (l3 + 3)).bind fun v202 =>
(ia (E μ z) (some 0) (l3 + 4)).bind fun v203 =>
(recv (E μ z) (some 400) 0).bind fun b205 => (cal (E μ z) (mX0_bar b205 v200 v201 v202 v203 (E μ z))).bind fun r204 =>
(ia r204.2 (some 0) (l3 + 1)).bind fun v206 =>
(ia r204.2 (some 0) (l3 + 2)).bind fun v207 =>
(ia r204.2 (some 0) (l3 + 3)).bind fun v208 =>
(ia r204.2 (some 0) (l3 + 4)).bind fun v209 =>
(recv r204.2 (some 537) 2).bind fun b211 => (cal r204.2 (mX2_bar b211 v206 v207 v208 v209 r204.2)).bind fun r210 =>
if r204.1 = r210.1 then (
k18 r210.2 (some 0) (some 400) (some 537) (l3 + 6))
else (
none)) = k18 (E μ2 z2) (some 0) (some 400) (some 537) (l3 + 6) := by
  obtain ⟨r, μ1, z1, μ2, z2, e1, e2, g1, g2, g3, hI2⟩ := hO.2.2.2.2.2.2.2.2.2.2.2.2.2.2.2.2.2.2.2.2.2.2.2.2.2.2.2.2.2.2.2.2.2.1 n μ z (xs (6 * n + 1)) (xs (6 * n + 2)) (xs (6 * n + 3)) (xs (6 * n + 4)) hI
  have hs1 := g3.trans hs
  refine ⟨μ2, z2, hI2, ?_⟩
  refine bind_step (scr_E hs (add_I (k := 1) h3 rfl (by omega)) (by omega)) ?_
  refine bind_step (scr_E hs (add_I (k := 2) h3 rfl (by omega)) (by omega)) ?_
  refine bind_step (scr_E hs (add_I (k := 3) h3 rfl (by omega)) (by omega)) ?_
  refine bind_step (scr_E hs (add_I (k := 4) h3 rfl (by omega)) (by omega)) ?_
  refine bind_step (recv_400 554 (by omega) _ _) ?_
  refine bind_step (cal_Z e1 g1.1 g1.2) ?_
  refine bind_step (scr_E hs1 (add_I (k := 1) h3 rfl (by omega)) (by omega)) ?_
  refine bind_step (scr_E hs1 (add_I (k := 2) h3 rfl (by omega)) (by omega)) ?_
  refine bind_step (scr_E hs1 (add_I (k := 3) h3 rfl (by omega)) (by omega)) ?_
  refine bind_step (scr_E hs1 (add_I (k := 4) h3 rfl (by omega)) (by omega)) ?_
  refine bind_step (recv_537 554 (by omega) _ _) ?_
  refine bind_step (cal_Z e2 g2.1 g2.2) ?_
  refine (if_pos rfl).trans ?_
  rfl
theorem law_barred {Inv : Nat → Mu → Zt → Prop} {L : Nat} {xs : Nat → Int32} (hO : Owed Inv L xs) {k18 : Wd → Option Nat → Option Nat → Option Nat → Int32 → Option (Unit × Wd)} {n : Nat} {μ : Mu} {z : Zt} {l3 : Int32} (hI : Inv n μ z) (hs : z.2.2.1 0 = some (.inl (.int, L, .inl xs))) (h3 : l3.toInt = ((6 * n : Nat) : Int)) (hn : 6 * n + 6 ≤ L) (hL : L ≤ 384) : ∃ μ2 z2, Inv (n + 1) μ2 z2 ∧ (
(ia (E μ z) (some 0) (l3 + 1)).bind fun v212 =>
(ia (E μ z) (some 0) (l3 + 2)).bind fun v213 =>
if v213 = 0 then (
mL_law_p1176 k18 (E μ z) (some 0) (some 400) (some 537) l3 0 v212 (some 400))
else (
mL_law_p1176 k18 (E μ z) (some 0) (some 400) (some 537) l3 1 v212 (some 400))) = k18 (E μ2 z2) (some 0) (some 400) (some 537) (l3 + 6) := by
  by_cases hb : (xs (6 * n + 2)) = 0
  · obtain ⟨r, μ1, z1, μ2, z2, e1, e2, g1, g2, g3, hI2⟩ := hO.2.2.2.2.2.2.2.2.2.2.2.2.2.2.2.2.2.2.2.2.2.2.2.2.2.2.2.2.2.2.2.2.2.2.1 n μ z (xs (6 * n + 1)) 0 (Or.inl rfl) hI
    have hs1 := g3.trans hs
    refine ⟨μ2, z2, hI2, ?_⟩
    refine bind_step (scr_E hs (add_I (k := 1) h3 rfl (by omega)) (by omega)) ?_
    refine bind_step (scr_E hs (add_I (k := 2) h3 rfl (by omega)) (by omega)) ?_
    refine (if_pos hb).trans ?_
    unfold mL_law_p1176
    refine bind_step (recv_400 554 (by omega) _ _) ?_
    refine bind_step (cal_Z e1 g1.1 g1.2) ?_
    refine bind_step (scr_E hs1 (add_I (k := 1) h3 rfl (by omega)) (by omega)) ?_
    refine bind_step (scr_E hs1 (add_I (k := 2) h3 rfl (by omega)) (by omega)) ?_
    refine (if_pos hb).trans ?_
    unfold mL_law_p1198
    refine bind_step (recv_537 554 (by omega) _ _) ?_
    refine bind_step (cal_Z e2 g2.1 g2.2) ?_
    refine (if_pos rfl).trans ?_
    rfl
  · obtain ⟨r, μ1, z1, μ2, z2, e1, e2, g1, g2, g3, hI2⟩ := hO.2.2.2.2.2.2.2.2.2.2.2.2.2.2.2.2.2.2.2.2.2.2.2.2.2.2.2.2.2.2.2.2.2.2.1 n μ z (xs (6 * n + 1)) 1 (Or.inr rfl) hI
    have hs1 := g3.trans hs
    refine ⟨μ2, z2, hI2, ?_⟩
    refine bind_step (scr_E hs (add_I (k := 1) h3 rfl (by omega)) (by omega)) ?_
    refine bind_step (scr_E hs (add_I (k := 2) h3 rfl (by omega)) (by omega)) ?_
    refine (if_neg hb).trans ?_
    unfold mL_law_p1176
    refine bind_step (recv_400 554 (by omega) _ _) ?_
    refine bind_step (cal_Z e1 g1.1 g1.2) ?_
    refine bind_step (scr_E hs1 (add_I (k := 1) h3 rfl (by omega)) (by omega)) ?_
    refine bind_step (scr_E hs1 (add_I (k := 2) h3 rfl (by omega)) (by omega)) ?_
    refine (if_neg hb).trans ?_
    unfold mL_law_p1198
    refine bind_step (recv_537 554 (by omega) _ _) ?_
    refine bind_step (cal_Z e2 g2.1 g2.2) ?_
    refine (if_pos rfl).trans ?_
    rfl
theorem law_howFar {Inv : Nat → Mu → Zt → Prop} {L : Nat} {xs : Nat → Int32} (hO : Owed Inv L xs) {k18 : Wd → Option Nat → Option Nat → Option Nat → Int32 → Option (Unit × Wd)} {n : Nat} {μ : Mu} {z : Zt} {l3 : Int32} (hI : Inv n μ z) (hs : z.2.2.1 0 = some (.inl (.int, L, .inl xs))) (h3 : l3.toInt = ((6 * n : Nat) : Int)) (hn : 6 * n + 6 ≤ L) (hL : L ≤ 384) : ∃ μ2 z2, Inv (n + 1) μ2 z2 ∧ (
(ia (E μ z) (some 0) (l3 + 1)).bind fun v214 =>
(recv (E μ z) (some 400) 0).bind fun b216 => (cal (E μ z) (mX0_howFar b216 v214 (E μ z))).bind fun r215 =>
(ia r215.2 (some 0) (l3 + 1)).bind fun v217 =>
(recv r215.2 (some 537) 2).bind fun b219 => (cal r215.2 (mX2_howFar b219 v217 r215.2)).bind fun r218 =>
if r215.1 = r218.1 then (
k18 r218.2 (some 0) (some 400) (some 537) (l3 + 6))
else (
none)) = k18 (E μ2 z2) (some 0) (some 400) (some 537) (l3 + 6) := by
  obtain ⟨r, μ1, z1, μ2, z2, e1, e2, g1, g2, g3, hI2⟩ := hO.2.2.2.2.2.2.2.2.2.2.2.2.2.2.2.2.2.2.2.2.2.2.2.2.2.2.2.2.2.2.2.2.2.2.2.1 n μ z (xs (6 * n + 1)) hI
  have hs1 := g3.trans hs
  refine ⟨μ2, z2, hI2, ?_⟩
  refine bind_step (scr_E hs (add_I (k := 1) h3 rfl (by omega)) (by omega)) ?_
  refine bind_step (recv_400 554 (by omega) _ _) ?_
  refine bind_step (cal_Z e1 g1.1 g1.2) ?_
  refine bind_step (scr_E hs1 (add_I (k := 1) h3 rfl (by omega)) (by omega)) ?_
  refine bind_step (recv_537 554 (by omega) _ _) ?_
  refine bind_step (cal_Z e2 g2.1 g2.2) ?_
  refine (if_pos rfl).trans ?_
  rfl
theorem law_over {Inv : Nat → Mu → Zt → Prop} {L : Nat} {xs : Nat → Int32} (hO : Owed Inv L xs) {k18 : Wd → Option Nat → Option Nat → Option Nat → Int32 → Option (Unit × Wd)} {n : Nat} {μ : Mu} {z : Zt} {l3 : Int32} (hI : Inv n μ z) (hs : z.2.2.1 0 = some (.inl (.int, L, .inl xs))) (h3 : l3.toInt = ((6 * n : Nat) : Int)) (hn : 6 * n + 6 ≤ L) (hL : L ≤ 384) : ∃ μ2 z2, Inv (n + 1) μ2 z2 ∧ (
(recv (E μ z) (some 400) 0).bind fun b221 => (cal (E μ z) (mX0_over b221 (E μ z))).bind fun r220 =>
(recv r220.2 (some 537) 2).bind fun b223 => (cal r220.2 (mX2_over b223 r220.2)).bind fun r222 =>
if r220.1 = r222.1 then (
k18 r222.2 (some 0) (some 400) (some 537) (l3 + 6))
else (
none)) = k18 (E μ2 z2) (some 0) (some 400) (some 537) (l3 + 6) := by
  obtain ⟨r, μ1, z1, μ2, z2, e1, e2, g1, g2, g3, hI2⟩ := hO.2.2.2.2.2.2.2.2.2.2.2.2.2.2.2.2.2.2.2.2.2.2.2.2.2.2.2.2.2.2.2.2.2.2.2.2.1 n μ z hI
  have hs1 := g3.trans hs
  refine ⟨μ2, z2, hI2, ?_⟩
  refine bind_step (recv_400 554 (by omega) _ _) ?_
  refine bind_step (cal_Z e1 g1.1 g1.2) ?_
  refine bind_step (recv_537 554 (by omega) _ _) ?_
  refine bind_step (cal_Z e2 g2.1 g2.2) ?_
  refine (if_pos rfl).trans ?_
  rfl
theorem law_first {Inv : Nat → Mu → Zt → Prop} {L : Nat} {xs : Nat → Int32} (hO : Owed Inv L xs) {k18 : Wd → Option Nat → Option Nat → Option Nat → Int32 → Option (Unit × Wd)} {n : Nat} {μ : Mu} {z : Zt} {l3 : Int32} (hI : Inv n μ z) (hs : z.2.2.1 0 = some (.inl (.int, L, .inl xs))) (h3 : l3.toInt = ((6 * n : Nat) : Int)) (hn : 6 * n + 6 ≤ L) (hL : L ≤ 384) : ∃ μ2 z2, Inv (n + 1) μ2 z2 ∧ (
(ia (E μ z) (some 0) (l3 + 1)).bind fun v224 =>
(ia (E μ z) (some 0) (l3 + 2)).bind fun v225 =>
(recv (E μ z) (some 400) 0).bind fun b227 => (cal (E μ z) (mX0_first b227 v224 v225 (E μ z))).bind fun r226 =>
(ia r226.2 (some 0) (l3 + 1)).bind fun v228 =>
(ia r226.2 (some 0) (l3 + 2)).bind fun v229 =>
(recv r226.2 (some 537) 2).bind fun b231 => (cal r226.2 (mX2_first b231 v228 v229 r226.2)).bind fun r230 =>
if r226.1 = r230.1 then (
k18 r230.2 (some 0) (some 400) (some 537) (l3 + 6))
else (
none)) = k18 (E μ2 z2) (some 0) (some 400) (some 537) (l3 + 6) := by
  obtain ⟨r, μ1, z1, μ2, z2, e1, e2, g1, g2, g3, hI2⟩ := hO.2.2.2.2.2.2.2.2.2.2.2.2.2.2.2.2.2.2.2.2.2.2.2.2.2.2.2.2.2.2.2.2.2.2.2.2.2.1 n μ z (xs (6 * n + 1)) (xs (6 * n + 2)) hI
  have hs1 := g3.trans hs
  refine ⟨μ2, z2, hI2, ?_⟩
  refine bind_step (scr_E hs (add_I (k := 1) h3 rfl (by omega)) (by omega)) ?_
  refine bind_step (scr_E hs (add_I (k := 2) h3 rfl (by omega)) (by omega)) ?_
  refine bind_step (recv_400 554 (by omega) _ _) ?_
  refine bind_step (cal_Z e1 g1.1 g1.2) ?_
  refine bind_step (scr_E hs1 (add_I (k := 1) h3 rfl (by omega)) (by omega)) ?_
  refine bind_step (scr_E hs1 (add_I (k := 2) h3 rfl (by omega)) (by omega)) ?_
  refine bind_step (recv_537 554 (by omega) _ _) ?_
  refine bind_step (cal_Z e2 g2.1 g2.2) ?_
  refine (if_pos rfl).trans ?_
  rfl
theorem law_twoJibs {Inv : Nat → Mu → Zt → Prop} {L : Nat} {xs : Nat → Int32} (hO : Owed Inv L xs) {k18 : Wd → Option Nat → Option Nat → Option Nat → Int32 → Option (Unit × Wd)} {n : Nat} {μ : Mu} {z : Zt} {l3 : Int32} (hI : Inv n μ z) (hs : z.2.2.1 0 = some (.inl (.int, L, .inl xs))) (h3 : l3.toInt = ((6 * n : Nat) : Int)) (hn : 6 * n + 6 ≤ L) (hL : L ≤ 384) : ∃ μ2 z2, Inv (n + 1) μ2 z2 ∧ (
(ia (E μ z) (some 0) (l3 + 1)).bind fun v232 =>
(ia (E μ z) (some 0) (l3 + 2)).bind fun v233 =>
(recv (E μ z) (some 400) 0).bind fun b235 => (cal (E μ z) (mX0_twoJibs b235 v232 v233 (E μ z))).bind fun r234 =>
(ia r234.2 (some 0) (l3 + 1)).bind fun v236 =>
(ia r234.2 (some 0) (l3 + 2)).bind fun v237 =>
(recv r234.2 (some 537) 2).bind fun b239 => (cal r234.2 (mX2_twoJibs b239 v236 v237 r234.2)).bind fun r238 =>
if r234.1 = r238.1 then (
k18 r238.2 (some 0) (some 400) (some 537) (l3 + 6))
else (
none)) = k18 (E μ2 z2) (some 0) (some 400) (some 537) (l3 + 6) := by
  obtain ⟨r, μ1, z1, μ2, z2, e1, e2, g1, g2, g3, hI2⟩ := hO.2.2.2.2.2.2.2.2.2.2.2.2.2.2.2.2.2.2.2.2.2.2.2.2.2.2.2.2.2.2.2.2.2.2.2.2.2.2.1 n μ z (xs (6 * n + 1)) (xs (6 * n + 2)) hI
  have hs1 := g3.trans hs
  refine ⟨μ2, z2, hI2, ?_⟩
  refine bind_step (scr_E hs (add_I (k := 1) h3 rfl (by omega)) (by omega)) ?_
  refine bind_step (scr_E hs (add_I (k := 2) h3 rfl (by omega)) (by omega)) ?_
  refine bind_step (recv_400 554 (by omega) _ _) ?_
  refine bind_step (cal_Z e1 g1.1 g1.2) ?_
  refine bind_step (scr_E hs1 (add_I (k := 1) h3 rfl (by omega)) (by omega)) ?_
  refine bind_step (scr_E hs1 (add_I (k := 2) h3 rfl (by omega)) (by omega)) ?_
  refine bind_step (recv_537 554 (by omega) _ _) ?_
  refine bind_step (cal_Z e2 g2.1 g2.2) ?_
  refine (if_pos rfl).trans ?_
  rfl
theorem law_said {Inv : Nat → Mu → Zt → Prop} {L : Nat} {xs : Nat → Int32} (hO : Owed Inv L xs) {k18 : Wd → Option Nat → Option Nat → Option Nat → Int32 → Option (Unit × Wd)} {n : Nat} {μ : Mu} {z : Zt} {l3 : Int32} (hI : Inv n μ z) (hs : z.2.2.1 0 = some (.inl (.int, L, .inl xs))) (h3 : l3.toInt = ((6 * n : Nat) : Int)) (hn : 6 * n + 6 ≤ L) (hL : L ≤ 384) : ∃ μ2 z2, Inv (n + 1) μ2 z2 ∧ (
(ia (E μ z) (some 0) (l3 + 1)).bind fun v240 =>
(ia (E μ z) (some 0) (l3 + 2)).bind fun v241 =>
if v241 = 0 then (
mL_law_p1327 k18 (E μ z) (some 0) (some 400) (some 537) l3 0 v240 (some 400))
else (
mL_law_p1327 k18 (E μ z) (some 0) (some 400) (some 537) l3 1 v240 (some 400))) = k18 (E μ2 z2) (some 0) (some 400) (some 537) (l3 + 6) := by
  by_cases hb : (xs (6 * n + 2)) = 0
  · obtain ⟨r, μ1, z1, μ2, z2, e1, e2, g1, g2, g3, hI2⟩ := hO.2.2.2.2.2.2.2.2.2.2.2.2.2.2.2.2.2.2.2.2.2.2.2.2.2.2.2.2.2.2.2.2.2.2.2.2.2.2.2.1 n μ z (xs (6 * n + 1)) 0 (Or.inl rfl) hI
    have hs1 := g3.trans hs
    refine ⟨μ2, z2, hI2, ?_⟩
    refine bind_step (scr_E hs (add_I (k := 1) h3 rfl (by omega)) (by omega)) ?_
    refine bind_step (scr_E hs (add_I (k := 2) h3 rfl (by omega)) (by omega)) ?_
    refine (if_pos hb).trans ?_
    unfold mL_law_p1327
    refine bind_step (recv_400 554 (by omega) _ _) ?_
    refine bind_step (cal_Z e1 g1.1 g1.2) ?_
    refine bind_step (scr_E hs1 (add_I (k := 1) h3 rfl (by omega)) (by omega)) ?_
    refine bind_step (scr_E hs1 (add_I (k := 2) h3 rfl (by omega)) (by omega)) ?_
    refine (if_pos hb).trans ?_
    unfold mL_law_p1349
    refine bind_step (recv_537 554 (by omega) _ _) ?_
    refine bind_step (cal_Z e2 g2.1 g2.2) ?_
    refine (if_pos rfl).trans ?_
    rfl
  · obtain ⟨r, μ1, z1, μ2, z2, e1, e2, g1, g2, g3, hI2⟩ := hO.2.2.2.2.2.2.2.2.2.2.2.2.2.2.2.2.2.2.2.2.2.2.2.2.2.2.2.2.2.2.2.2.2.2.2.2.2.2.2.1 n μ z (xs (6 * n + 1)) 1 (Or.inr rfl) hI
    have hs1 := g3.trans hs
    refine ⟨μ2, z2, hI2, ?_⟩
    refine bind_step (scr_E hs (add_I (k := 1) h3 rfl (by omega)) (by omega)) ?_
    refine bind_step (scr_E hs (add_I (k := 2) h3 rfl (by omega)) (by omega)) ?_
    refine (if_neg hb).trans ?_
    unfold mL_law_p1327
    refine bind_step (recv_400 554 (by omega) _ _) ?_
    refine bind_step (cal_Z e1 g1.1 g1.2) ?_
    refine bind_step (scr_E hs1 (add_I (k := 1) h3 rfl (by omega)) (by omega)) ?_
    refine bind_step (scr_E hs1 (add_I (k := 2) h3 rfl (by omega)) (by omega)) ?_
    refine (if_neg hb).trans ?_
    unfold mL_law_p1349
    refine bind_step (recv_537 554 (by omega) _ _) ?_
    refine bind_step (cal_Z e2 g2.1 g2.2) ?_
    refine (if_pos rfl).trans ?_
    rfl
theorem law_left {Inv : Nat → Mu → Zt → Prop} {L : Nat} {xs : Nat → Int32} (hO : Owed Inv L xs) {k18 : Wd → Option Nat → Option Nat → Option Nat → Int32 → Option (Unit × Wd)} {n : Nat} {μ : Mu} {z : Zt} {l3 : Int32} (hI : Inv n μ z) (hs : z.2.2.1 0 = some (.inl (.int, L, .inl xs))) (h3 : l3.toInt = ((6 * n : Nat) : Int)) (hn : 6 * n + 6 ≤ L) (hL : L ≤ 384) : ∃ μ2 z2, Inv (n + 1) μ2 z2 ∧ (
(ia (E μ z) (some 0) (l3 + 1)).bind fun v242 =>
if v242 = 0 then (
mL_law_p1371 k18 (E μ z) (some 0) (some 400) (some 537) l3 0 (some 400))
else (
mL_law_p1371 k18 (E μ z) (some 0) (some 400) (some 537) l3 1 (some 400))) = k18 (E μ2 z2) (some 0) (some 400) (some 537) (l3 + 6) := by
  by_cases hb : (xs (6 * n + 1)) = 0
  · obtain ⟨r, μ1, z1, μ2, z2, e1, e2, g1, g2, g3, hI2⟩ := hO.2.2.2.2.2.2.2.2.2.2.2.2.2.2.2.2.2.2.2.2.2.2.2.2.2.2.2.2.2.2.2.2.2.2.2.2.2.2.2.2.1 n μ z 0 (Or.inl rfl) hI
    have hs1 := g3.trans hs
    refine ⟨μ2, z2, hI2, ?_⟩
    refine bind_step (scr_E hs (add_I (k := 1) h3 rfl (by omega)) (by omega)) ?_
    refine (if_pos hb).trans ?_
    unfold mL_law_p1371
    refine bind_step (recv_400 554 (by omega) _ _) ?_
    refine bind_step (cal_Z e1 g1.1 g1.2) ?_
    refine bind_step (scr_E hs1 (add_I (k := 1) h3 rfl (by omega)) (by omega)) ?_
    refine (if_pos hb).trans ?_
    unfold mL_law_p1388
    refine bind_step (recv_537 554 (by omega) _ _) ?_
    refine bind_step (cal_Z e2 g2.1 g2.2) ?_
    refine (if_pos (cmp_self _)).trans ?_
    rfl
  · obtain ⟨r, μ1, z1, μ2, z2, e1, e2, g1, g2, g3, hI2⟩ := hO.2.2.2.2.2.2.2.2.2.2.2.2.2.2.2.2.2.2.2.2.2.2.2.2.2.2.2.2.2.2.2.2.2.2.2.2.2.2.2.2.1 n μ z 1 (Or.inr rfl) hI
    have hs1 := g3.trans hs
    refine ⟨μ2, z2, hI2, ?_⟩
    refine bind_step (scr_E hs (add_I (k := 1) h3 rfl (by omega)) (by omega)) ?_
    refine (if_neg hb).trans ?_
    unfold mL_law_p1371
    refine bind_step (recv_400 554 (by omega) _ _) ?_
    refine bind_step (cal_Z e1 g1.1 g1.2) ?_
    refine bind_step (scr_E hs1 (add_I (k := 1) h3 rfl (by omega)) (by omega)) ?_
    refine (if_neg hb).trans ?_
    unfold mL_law_p1388
    refine bind_step (recv_537 554 (by omega) _ _) ?_
    refine bind_step (cal_Z e2 g2.1 g2.2) ?_
    refine (if_pos (cmp_self _)).trans ?_
    rfl
theorem law_landed {Inv : Nat → Mu → Zt → Prop} {L : Nat} {xs : Nat → Int32} (hO : Owed Inv L xs) {k18 : Wd → Option Nat → Option Nat → Option Nat → Int32 → Option (Unit × Wd)} {n : Nat} {μ : Mu} {z : Zt} {l3 : Int32} (hI : Inv n μ z) (hs : z.2.2.1 0 = some (.inl (.int, L, .inl xs))) (h3 : l3.toInt = ((6 * n : Nat) : Int)) (hn : 6 * n + 6 ≤ L) (hL : L ≤ 384) : ∃ μ2 z2, Inv (n + 1) μ2 z2 ∧ (
(ia (E μ z) (some 0) (l3 + 1)).bind fun v243 =>
(ia (E μ z) (some 0) (l3 + 2)).bind fun v244 =>
(recv (E μ z) (some 400) 0).bind fun b246 => (cal (E μ z) (mX0_landed b246 v243 v244 (E μ z))).bind fun r245 =>
(ia r245.2 (some 0) (l3 + 1)).bind fun v247 =>
(ia r245.2 (some 0) (l3 + 2)).bind fun v248 =>
(recv r245.2 (some 537) 2).bind fun b250 => (cal r245.2 (mX2_landed b250 v247 v248 r245.2)).bind fun r249 =>
if r245.1 = r249.1 then (
k18 r249.2 (some 0) (some 400) (some 537) (l3 + 6))
else (
none)) = k18 (E μ2 z2) (some 0) (some 400) (some 537) (l3 + 6) := by
  obtain ⟨r, μ1, z1, μ2, z2, e1, e2, g1, g2, g3, hI2⟩ := hO.2.2.2.2.2.2.2.2.2.2.2.2.2.2.2.2.2.2.2.2.2.2.2.2.2.2.2.2.2.2.2.2.2.2.2.2.2.2.2.2.2.1 n μ z (xs (6 * n + 1)) (xs (6 * n + 2)) hI
  have hs1 := g3.trans hs
  refine ⟨μ2, z2, hI2, ?_⟩
  refine bind_step (scr_E hs (add_I (k := 1) h3 rfl (by omega)) (by omega)) ?_
  refine bind_step (scr_E hs (add_I (k := 2) h3 rfl (by omega)) (by omega)) ?_
  refine bind_step (recv_400 554 (by omega) _ _) ?_
  refine bind_step (cal_Z e1 g1.1 g1.2) ?_
  refine bind_step (scr_E hs1 (add_I (k := 1) h3 rfl (by omega)) (by omega)) ?_
  refine bind_step (scr_E hs1 (add_I (k := 2) h3 rfl (by omega)) (by omega)) ?_
  refine bind_step (recv_537 554 (by omega) _ _) ?_
  refine bind_step (cal_Z e2 g2.1 g2.2) ?_
  refine (if_pos rfl).trans ?_
  rfl
theorem law_hour {Inv : Nat → Mu → Zt → Prop} {L : Nat} {xs : Nat → Int32} (hO : Owed Inv L xs) {k18 : Wd → Option Nat → Option Nat → Option Nat → Int32 → Option (Unit × Wd)} {n : Nat} {μ : Mu} {z : Zt} {l3 : Int32} (hI : Inv n μ z) (hs : z.2.2.1 0 = some (.inl (.int, L, .inl xs))) (h3 : l3.toInt = ((6 * n : Nat) : Int)) (hn : 6 * n + 6 ≤ L) (hL : L ≤ 384) : ∃ μ2 z2, Inv (n + 1) μ2 z2 ∧ (
(ia (E μ z) (some 0) (l3 + 1)).bind fun v251 =>
(recv (E μ z) (some 400) 0).bind fun b253 => (cal (E μ z) (mX0_hour b253 v251 (E μ z))).bind fun r252 =>
(ia r252.2 (some 0) (l3 + 1)).bind fun v254 =>
(recv r252.2 (some 537) 2).bind fun b256 => (cal r252.2 (mX2_hour b256 v254 r252.2)).bind fun r255 =>
if r252.1 = r255.1 then (
k18 r255.2 (some 0) (some 400) (some 537) (l3 + 6))
else (
none)) = k18 (E μ2 z2) (some 0) (some 400) (some 537) (l3 + 6) := by
  obtain ⟨r, μ1, z1, μ2, z2, e1, e2, g1, g2, g3, hI2⟩ := hO.2.2.2.2.2.2.2.2.2.2.2.2.2.2.2.2.2.2.2.2.2.2.2.2.2.2.2.2.2.2.2.2.2.2.2.2.2.2.2.2.2.2.1 n μ z (xs (6 * n + 1)) hI
  have hs1 := g3.trans hs
  refine ⟨μ2, z2, hI2, ?_⟩
  refine bind_step (scr_E hs (add_I (k := 1) h3 rfl (by omega)) (by omega)) ?_
  refine bind_step (recv_400 554 (by omega) _ _) ?_
  refine bind_step (cal_Z e1 g1.1 g1.2) ?_
  refine bind_step (scr_E hs1 (add_I (k := 1) h3 rfl (by omega)) (by omega)) ?_
  refine bind_step (recv_537 554 (by omega) _ _) ?_
  refine bind_step (cal_Z e2 g2.1 g2.2) ?_
  refine (if_pos rfl).trans ?_
  rfl
theorem law_mean {Inv : Nat → Mu → Zt → Prop} {L : Nat} {xs : Nat → Int32} (hO : Owed Inv L xs) {k18 : Wd → Option Nat → Option Nat → Option Nat → Int32 → Option (Unit × Wd)} {n : Nat} {μ : Mu} {z : Zt} {l3 : Int32} (hI : Inv n μ z) (hs : z.2.2.1 0 = some (.inl (.int, L, .inl xs))) (h3 : l3.toInt = ((6 * n : Nat) : Int)) (hn : 6 * n + 6 ≤ L) (hL : L ≤ 384) : ∃ μ2 z2, Inv (n + 1) μ2 z2 ∧ (
(ia (E μ z) (some 0) (l3 + 1)).bind fun v257 =>
if v257 = 0 then (
mL_law_p1467 k18 (E μ z) (some 0) (some 400) (some 537) l3 0 (some 400))
else (
mL_law_p1467 k18 (E μ z) (some 0) (some 400) (some 537) l3 1 (some 400))) = k18 (E μ2 z2) (some 0) (some 400) (some 537) (l3 + 6) := by
  by_cases hb : (xs (6 * n + 1)) = 0
  · obtain ⟨r, μ1, z1, μ2, z2, e1, e2, g1, g2, g3, hI2⟩ := hO.2.2.2.2.2.2.2.2.2.2.2.2.2.2.2.2.2.2.2.2.2.2.2.2.2.2.2.2.2.2.2.2.2.2.2.2.2.2.2.2.2.2.2.1 n μ z 0 (Or.inl rfl) hI
    have hs1 := g3.trans hs
    refine ⟨μ2, z2, hI2, ?_⟩
    refine bind_step (scr_E hs (add_I (k := 1) h3 rfl (by omega)) (by omega)) ?_
    refine (if_pos hb).trans ?_
    unfold mL_law_p1467
    refine bind_step (recv_400 554 (by omega) _ _) ?_
    refine bind_step (cal_Z e1 g1.1 g1.2) ?_
    refine bind_step (scr_E hs1 (add_I (k := 1) h3 rfl (by omega)) (by omega)) ?_
    refine (if_pos hb).trans ?_
    unfold mL_law_p1484
    refine bind_step (recv_537 554 (by omega) _ _) ?_
    refine bind_step (cal_Z e2 g2.1 g2.2) ?_
    refine (if_pos rfl).trans ?_
    rfl
  · obtain ⟨r, μ1, z1, μ2, z2, e1, e2, g1, g2, g3, hI2⟩ := hO.2.2.2.2.2.2.2.2.2.2.2.2.2.2.2.2.2.2.2.2.2.2.2.2.2.2.2.2.2.2.2.2.2.2.2.2.2.2.2.2.2.2.2.1 n μ z 1 (Or.inr rfl) hI
    have hs1 := g3.trans hs
    refine ⟨μ2, z2, hI2, ?_⟩
    refine bind_step (scr_E hs (add_I (k := 1) h3 rfl (by omega)) (by omega)) ?_
    refine (if_neg hb).trans ?_
    unfold mL_law_p1467
    refine bind_step (recv_400 554 (by omega) _ _) ?_
    refine bind_step (cal_Z e1 g1.1 g1.2) ?_
    refine bind_step (scr_E hs1 (add_I (k := 1) h3 rfl (by omega)) (by omega)) ?_
    refine (if_neg hb).trans ?_
    unfold mL_law_p1484
    refine bind_step (recv_537 554 (by omega) _ _) ?_
    refine bind_step (cal_Z e2 g2.1 g2.2) ?_
    refine (if_pos rfl).trans ?_
    rfl
theorem law_image {Inv : Nat → Mu → Zt → Prop} {L : Nat} {xs : Nat → Int32} (hO : Owed Inv L xs) {k18 : Wd → Option Nat → Option Nat → Option Nat → Int32 → Option (Unit × Wd)} {n : Nat} {μ : Mu} {z : Zt} {l3 : Int32} (hI : Inv n μ z) (hs : z.2.2.1 0 = some (.inl (.int, L, .inl xs))) (h3 : l3.toInt = ((6 * n : Nat) : Int)) (hn : 6 * n + 6 ≤ L) (hL : L ≤ 384) : ∃ μ2 z2, Inv (n + 1) μ2 z2 ∧ (
(recv (E μ z) (some 400) 0).bind fun b259 => (cal (E μ z) (mX0_image b259 (E μ z))).bind fun r258 =>
(recv r258.2 (some 537) 2).bind fun b261 => (cal r258.2 (mX2_image b261 r258.2)).bind fun r260 =>
if r258.1 = r260.1 then (
k18 r260.2 (some 0) (some 400) (some 537) (l3 + 6))
else (
none)) = k18 (E μ2 z2) (some 0) (some 400) (some 537) (l3 + 6) := by
  obtain ⟨r, μ1, z1, μ2, z2, e1, e2, g1, g2, g3, hI2⟩ := hO.2.2.2.2.2.2.2.2.2.2.2.2.2.2.2.2.2.2.2.2.2.2.2.2.2.2.2.2.2.2.2.2.2.2.2.2.2.2.2.2.2.2.2.2.1 n μ z hI
  have hs1 := g3.trans hs
  refine ⟨μ2, z2, hI2, ?_⟩
  refine bind_step (recv_400 554 (by omega) _ _) ?_
  refine bind_step (cal_Z e1 g1.1 g1.2) ?_
  refine bind_step (recv_537 554 (by omega) _ _) ?_
  refine bind_step (cal_Z e2 g2.1 g2.2) ?_
  refine (if_pos rfl).trans ?_
  rfl
theorem law_back {Inv : Nat → Mu → Zt → Prop} {L : Nat} {xs : Nat → Int32} (hO : Owed Inv L xs) {k18 : Wd → Option Nat → Option Nat → Option Nat → Int32 → Option (Unit × Wd)} {n : Nat} {μ : Mu} {z : Zt} {l3 : Int32} (hI : Inv n μ z) (hs : z.2.2.1 0 = some (.inl (.int, L, .inl xs))) (h3 : l3.toInt = ((6 * n : Nat) : Int)) (hn : 6 * n + 6 ≤ L) (hL : L ≤ 384) : ∃ μ2 z2, Inv (n + 1) μ2 z2 ∧ (
(recv (E μ z) (some 400) 0).bind fun b263 => (cal (E μ z) (mX0_back b263 (E μ z))).bind fun r262 =>
(recv r262.2 (some 537) 2).bind fun b265 => (cal r262.2 (mX2_back b265 r262.2)).bind fun r264 =>
if r262.1 = r264.1 then (
k18 r264.2 (some 0) (some 400) (some 537) (l3 + 6))
else (
none)) = k18 (E μ2 z2) (some 0) (some 400) (some 537) (l3 + 6) := by
  obtain ⟨r, μ1, z1, μ2, z2, e1, e2, g1, g2, g3, hI2⟩ := hO.2.2.2.2.2.2.2.2.2.2.2.2.2.2.2.2.2.2.2.2.2.2.2.2.2.2.2.2.2.2.2.2.2.2.2.2.2.2.2.2.2.2.2.2.2.1 n μ z hI
  have hs1 := g3.trans hs
  refine ⟨μ2, z2, hI2, ?_⟩
  refine bind_step (recv_400 554 (by omega) _ _) ?_
  refine bind_step (cal_Z e1 g1.1 g1.2) ?_
  refine bind_step (recv_537 554 (by omega) _ _) ?_
  refine bind_step (cal_Z e2 g2.1 g2.2) ?_
  refine (if_pos rfl).trans ?_
  rfl
theorem law_about {Inv : Nat → Mu → Zt → Prop} {L : Nat} {xs : Nat → Int32} (hO : Owed Inv L xs) {k18 : Wd → Option Nat → Option Nat → Option Nat → Int32 → Option (Unit × Wd)} {n : Nat} {μ : Mu} {z : Zt} {l3 : Int32} (hI : Inv n μ z) (hs : z.2.2.1 0 = some (.inl (.int, L, .inl xs))) (h3 : l3.toInt = ((6 * n : Nat) : Int)) (hn : 6 * n + 6 ≤ L) (hL : L ≤ 384) : ∃ μ2 z2, Inv (n + 1) μ2 z2 ∧ (
(ia (E μ z) (some 0) (l3 + 1)).bind fun v266 =>
(recv (E μ z) (some 400) 0).bind fun b268 => (cal (E μ z) (mX0_about b268 v266 (E μ z))).bind fun r267 =>
(ia r267.2 (some 0) (l3 + 1)).bind fun v269 =>
(recv r267.2 (some 537) 2).bind fun b271 => (cal r267.2 (mX2_about b271 v269 r267.2)).bind fun r270 =>
if r267.1 = r270.1 then (
k18 r270.2 (some 0) (some 400) (some 537) (l3 + 6))
else (
none)) = k18 (E μ2 z2) (some 0) (some 400) (some 537) (l3 + 6) := by
  obtain ⟨r, μ1, z1, μ2, z2, e1, e2, g1, g2, g3, hI2⟩ := hO.2.2.2.2.2.2.2.2.2.2.2.2.2.2.2.2.2.2.2.2.2.2.2.2.2.2.2.2.2.2.2.2.2.2.2.2.2.2.2.2.2.2.2.2.2.2 n μ z (xs (6 * n + 1)) hI
  have hs1 := g3.trans hs
  refine ⟨μ2, z2, hI2, ?_⟩
  refine bind_step (scr_E hs (add_I (k := 1) h3 rfl (by omega)) (by omega)) ?_
  refine bind_step (recv_400 554 (by omega) _ _) ?_
  refine bind_step (cal_Z e1 g1.1 g1.2) ?_
  refine bind_step (scr_E hs1 (add_I (k := 1) h3 rfl (by omega)) (by omega)) ?_
  refine bind_step (recv_537 554 (by omega) _ _) ?_
  refine bind_step (cal_Z e2 g2.1 g2.2) ?_
  refine (if_pos rfl).trans ?_
  rfl
/-- the law's loop -/
theorem law_iter {Inv : Nat → Mu → Zt → Prop} {L : Nat} {xs : Nat → Int32} (hO : Owed Inv L xs) (hL : L ≤ 384) : ∀ (d n fu : Nat) (l3 : Int32) (μ : Mu) (z : Zt), n + d = 64 → l3.toInt = ((6 * n : Nat) : Int) → d < fu → Inv n μ z →
    ∃ w', mL_law_l18 fu (E μ z) (some 0) (some 400) (some 537) l3 = some ((), w') := by
  intro d
  induction d with
  | zero =>
    intro n fu l3 μ z hnd h3 hf hI
    obtain ⟨f, rfl⟩ : ∃ f, fu = f + 1 := ⟨fu - 1, by omega⟩
    obtain ⟨hs, hb1, hb2⟩ := hO.1 n μ z hI (by omega)
    show ∃ w', mL_law_b18 _ _ _ _ _ _ = some ((), w')
    unfold mL_law_b18
    rw [scr_len hs]
    simp only [Option.bind_some]
    have hc : Int32.ofNat L - 6 < l3 := by
      rw [Int32.lt_iff_toInt_lt, Int32.toInt_sub, tI (by omega), h3, show (6 : Int32).toInt = 6 from rfl, Int.bmod_eq_of_le (by omega) (by omega)]
      omega
    rw [if_pos hc]
    exact ⟨E μ z, if_pos ⟨hb1, hb2⟩⟩
  | succ d ih =>
    intro n fu l3 μ z hnd h3 hf hI
    obtain ⟨f, rfl⟩ : ∃ f, fu = f + 1 := ⟨fu - 1, by omega⟩
    obtain ⟨hs, hb1, hb2⟩ := hO.1 n μ z hI (by omega)
    show ∃ w', mL_law_b18 _ _ _ _ _ _ = some ((), w')
    unfold mL_law_b18
    rw [scr_len hs]
    simp only [Option.bind_some]
    by_cases hc : Int32.ofNat L - 6 < l3
    · rw [if_pos hc]
      exact ⟨E μ z, if_pos ⟨hb1, hb2⟩⟩
    rw [if_neg hc]
    have hn : 6 * n + 6 ≤ L := by
      rw [Int32.lt_iff_toInt_lt, Int32.toInt_sub, tI (by omega), h3, show (6 : Int32).toInt = 6 from rfl, Int.bmod_eq_of_le (by omega) (by omega)] at hc
      omega
    rw [scr_E hs h3 (by omega)]
    simp only [Option.bind_some]
    by_cases c0 : xs (6 * n) &&& 63 = 0
    · obtain ⟨μ2, z2, hI2, e⟩ := law_order hO (k18 := mL_law_l18 f) hI hs h3 hn hL
      rw [if_pos c0]
      obtain ⟨w', hw⟩ := ih (n + 1) f (l3 + 6) μ2 z2 (by omega) (by rw [add_I h3 (k := 6) rfl (by omega)]; omega) (by omega) hI2
      exact ⟨w', e.trans hw⟩
    rw [if_neg c0]
    by_cases c1 : xs (6 * n) &&& 63 = 1
    · obtain ⟨μ2, z2, hI2, e⟩ := law_near hO (k18 := mL_law_l18 f) hI hs h3 hn hL
      rw [if_pos c1]
      obtain ⟨w', hw⟩ := ih (n + 1) f (l3 + 6) μ2 z2 (by omega) (by rw [add_I h3 (k := 6) rfl (by omega)]; omega) (by omega) hI2
      exact ⟨w', e.trans hw⟩
    rw [if_neg c1]
    by_cases c2 : xs (6 * n) &&& 63 = 2
    · obtain ⟨μ2, z2, hI2, e⟩ := law_feed hO (k18 := mL_law_l18 f) hI hs h3 hn hL
      rw [if_pos c2]
      obtain ⟨w', hw⟩ := ih (n + 1) f (l3 + 6) μ2 z2 (by omega) (by rw [add_I h3 (k := 6) rfl (by omega)]; omega) (by omega) hI2
      exact ⟨w', e.trans hw⟩
    rw [if_neg c2]
    by_cases c3 : xs (6 * n) &&& 63 = 3
    · obtain ⟨μ2, z2, hI2, e⟩ := law_end hO (k18 := mL_law_l18 f) hI hs h3 hn hL
      rw [if_pos c3]
      obtain ⟨w', hw⟩ := ih (n + 1) f (l3 + 6) μ2 z2 (by omega) (by rw [add_I h3 (k := 6) rfl (by omega)]; omega) (by omega) hI2
      exact ⟨w', e.trans hw⟩
    rw [if_neg c3]
    by_cases c4 : xs (6 * n) &&& 63 = 4
    · obtain ⟨μ2, z2, hI2, e⟩ := law_text hO (k18 := mL_law_l18 f) hI hs h3 hn hL
      rw [if_pos c4]
      obtain ⟨w', hw⟩ := ih (n + 1) f (l3 + 6) μ2 z2 (by omega) (by rw [add_I h3 (k := 6) rfl (by omega)]; omega) (by omega) hI2
      exact ⟨w', e.trans hw⟩
    rw [if_neg c4]
    by_cases c5 : xs (6 * n) &&& 63 = 5
    · obtain ⟨μ2, z2, hI2, e⟩ := law_fault hO (k18 := mL_law_l18 f) hI hs h3 hn hL
      rw [if_pos c5]
      obtain ⟨w', hw⟩ := ih (n + 1) f (l3 + 6) μ2 z2 (by omega) (by rw [add_I h3 (k := 6) rfl (by omega)]; omega) (by omega) hI2
      exact ⟨w', e.trans hw⟩
    rw [if_neg c5]
    by_cases c6 : xs (6 * n) &&& 63 = 6
    · obtain ⟨μ2, z2, hI2, e⟩ := law_by hO (k18 := mL_law_l18 f) hI hs h3 hn hL
      rw [if_pos c6]
      obtain ⟨w', hw⟩ := ih (n + 1) f (l3 + 6) μ2 z2 (by omega) (by rw [add_I h3 (k := 6) rfl (by omega)]; omega) (by omega) hI2
      exact ⟨w', e.trans hw⟩
    rw [if_neg c6]
    by_cases c7 : xs (6 * n) &&& 63 = 7
    · obtain ⟨μ2, z2, hI2, e⟩ := law_move hO (k18 := mL_law_l18 f) hI hs h3 hn hL
      rw [if_pos c7]
      obtain ⟨w', hw⟩ := ih (n + 1) f (l3 + 6) μ2 z2 (by omega) (by rw [add_I h3 (k := 6) rfl (by omega)]; omega) (by omega) hI2
      exact ⟨w', e.trans hw⟩
    rw [if_neg c7]
    by_cases c8 : xs (6 * n) &&& 63 = 8
    · obtain ⟨μ2, z2, hI2, e⟩ := law_run hO (k18 := mL_law_l18 f) hI hs h3 hn hL
      rw [if_pos c8]
      obtain ⟨w', hw⟩ := ih (n + 1) f (l3 + 6) μ2 z2 (by omega) (by rw [add_I h3 (k := 6) rfl (by omega)]; omega) (by omega) hI2
      exact ⟨w', e.trans hw⟩
    rw [if_neg c8]
    by_cases c9 : xs (6 * n) &&& 63 = 9
    · obtain ⟨μ2, z2, hI2, e⟩ := law_hoist hO (k18 := mL_law_l18 f) hI hs h3 hn hL
      rw [if_pos c9]
      obtain ⟨w', hw⟩ := ih (n + 1) f (l3 + 6) μ2 z2 (by omega) (by rw [add_I h3 (k := 6) rfl (by omega)]; omega) (by omega) hI2
      exact ⟨w', e.trans hw⟩
    rw [if_neg c9]
    by_cases c10 : xs (6 * n) &&& 63 = 10
    · obtain ⟨μ2, z2, hI2, e⟩ := law_aim hO (k18 := mL_law_l18 f) hI hs h3 hn hL
      rw [if_pos c10]
      obtain ⟨w', hw⟩ := ih (n + 1) f (l3 + 6) μ2 z2 (by omega) (by rw [add_I h3 (k := 6) rfl (by omega)]; omega) (by omega) hI2
      exact ⟨w', e.trans hw⟩
    rw [if_neg c10]
    by_cases c11 : xs (6 * n) &&& 63 = 11
    · obtain ⟨μ2, z2, hI2, e⟩ := law_hook hO (k18 := mL_law_l18 f) hI hs h3 hn hL
      rw [if_pos c11]
      obtain ⟨w', hw⟩ := ih (n + 1) f (l3 + 6) μ2 z2 (by omega) (by rw [add_I h3 (k := 6) rfl (by omega)]; omega) (by omega) hI2
      exact ⟨w', e.trans hw⟩
    rw [if_neg c11]
    by_cases c12 : xs (6 * n) &&& 63 = 12
    · obtain ⟨μ2, z2, hI2, e⟩ := law_land hO (k18 := mL_law_l18 f) hI hs h3 hn hL
      rw [if_pos c12]
      obtain ⟨w', hw⟩ := ih (n + 1) f (l3 + 6) μ2 z2 (by omega) (by rw [add_I h3 (k := 6) rfl (by omega)]; omega) (by omega) hI2
      exact ⟨w', e.trans hw⟩
    rw [if_neg c12]
    by_cases c13 : xs (6 * n) &&& 63 = 13
    · obtain ⟨μ2, z2, hI2, e⟩ := law_played hO (k18 := mL_law_l18 f) hI hs h3 hn hL
      rw [if_pos c13]
      obtain ⟨w', hw⟩ := ih (n + 1) f (l3 + 6) μ2 z2 (by omega) (by rw [add_I h3 (k := 6) rfl (by omega)]; omega) (by omega) hI2
      exact ⟨w', e.trans hw⟩
    rw [if_neg c13]
    by_cases c14 : xs (6 * n) &&& 63 = 14
    · obtain ⟨μ2, z2, hI2, e⟩ := law_storm hO (k18 := mL_law_l18 f) hI hs h3 hn hL
      rw [if_pos c14]
      obtain ⟨w', hw⟩ := ih (n + 1) f (l3 + 6) μ2 z2 (by omega) (by rw [add_I h3 (k := 6) rfl (by omega)]; omega) (by omega) hI2
      exact ⟨w', e.trans hw⟩
    rw [if_neg c14]
    by_cases c15 : xs (6 * n) &&& 63 = 15
    · obtain ⟨μ2, z2, hI2, e⟩ := law_undo hO (k18 := mL_law_l18 f) hI hs h3 hn hL
      rw [if_pos c15]
      obtain ⟨w', hw⟩ := ih (n + 1) f (l3 + 6) μ2 z2 (by omega) (by rw [add_I h3 (k := 6) rfl (by omega)]; omega) (by omega) hI2
      exact ⟨w', e.trans hw⟩
    rw [if_neg c15]
    by_cases c16 : xs (6 * n) &&& 63 = 16
    · obtain ⟨μ2, z2, hI2, e⟩ := law_jib hO (k18 := mL_law_l18 f) hI hs h3 hn hL
      rw [if_pos c16]
      obtain ⟨w', hw⟩ := ih (n + 1) f (l3 + 6) μ2 z2 (by omega) (by rw [add_I h3 (k := 6) rfl (by omega)]; omega) (by omega) hI2
      exact ⟨w', e.trans hw⟩
    rw [if_neg c16]
    by_cases c17 : xs (6 * n) &&& 63 = 17
    · obtain ⟨μ2, z2, hI2, e⟩ := law_ofOrder hO (k18 := mL_law_l18 f) hI hs h3 hn hL
      rw [if_pos c17]
      obtain ⟨w', hw⟩ := ih (n + 1) f (l3 + 6) μ2 z2 (by omega) (by rw [add_I h3 (k := 6) rfl (by omega)]; omega) (by omega) hI2
      exact ⟨w', e.trans hw⟩
    rw [if_neg c17]
    by_cases c18 : xs (6 * n) &&& 63 = 18
    · obtain ⟨μ2, z2, hI2, e⟩ := law_ago hO (k18 := mL_law_l18 f) hI hs h3 hn hL
      rw [if_pos c18]
      obtain ⟨w', hw⟩ := ih (n + 1) f (l3 + 6) μ2 z2 (by omega) (by rw [add_I h3 (k := 6) rfl (by omega)]; omega) (by omega) hI2
      exact ⟨w', e.trans hw⟩
    rw [if_neg c18]
    by_cases c19 : xs (6 * n) &&& 63 = 19
    · obtain ⟨μ2, z2, hI2, e⟩ := law_foretold hO (k18 := mL_law_l18 f) hI hs h3 hn hL
      rw [if_pos c19]
      obtain ⟨w', hw⟩ := ih (n + 1) f (l3 + 6) μ2 z2 (by omega) (by rw [add_I h3 (k := 6) rfl (by omega)]; omega) (by omega) hI2
      exact ⟨w', e.trans hw⟩
    rw [if_neg c19]
    by_cases c20 : xs (6 * n) &&& 63 = 20
    · obtain ⟨μ2, z2, hI2, e⟩ := law_soonest hO (k18 := mL_law_l18 f) hI hs h3 hn hL
      rw [if_pos c20]
      obtain ⟨w', hw⟩ := ih (n + 1) f (l3 + 6) μ2 z2 (by omega) (by rw [add_I h3 (k := 6) rfl (by omega)]; omega) (by omega) hI2
      exact ⟨w', e.trans hw⟩
    rw [if_neg c20]
    by_cases c21 : xs (6 * n) &&& 63 = 21
    · obtain ⟨μ2, z2, hI2, e⟩ := law_fewest hO (k18 := mL_law_l18 f) hI hs h3 hn hL
      rw [if_pos c21]
      obtain ⟨w', hw⟩ := ih (n + 1) f (l3 + 6) μ2 z2 (by omega) (by rw [add_I h3 (k := 6) rfl (by omega)]; omega) (by omega) hI2
      exact ⟨w', e.trans hw⟩
    rw [if_neg c21]
    by_cases c22 : xs (6 * n) &&& 63 = 22
    · obtain ⟨μ2, z2, hI2, e⟩ := law_toAndFro hO (k18 := mL_law_l18 f) hI hs h3 hn hL
      rw [if_pos c22]
      obtain ⟨w', hw⟩ := ih (n + 1) f (l3 + 6) μ2 z2 (by omega) (by rw [add_I h3 (k := 6) rfl (by omega)]; omega) (by omega) hI2
      exact ⟨w', e.trans hw⟩
    rw [if_neg c22]
    by_cases c23 : xs (6 * n) &&& 63 = 23
    · obtain ⟨μ2, z2, hI2, e⟩ := law_calm hO (k18 := mL_law_l18 f) hI hs h3 hn hL
      rw [if_pos c23]
      obtain ⟨w', hw⟩ := ih (n + 1) f (l3 + 6) μ2 z2 (by omega) (by rw [add_I h3 (k := 6) rfl (by omega)]; omega) (by omega) hI2
      exact ⟨w', e.trans hw⟩
    rw [if_neg c23]
    by_cases c24 : xs (6 * n) &&& 63 = 24
    · obtain ⟨μ2, z2, hI2, e⟩ := law_dies hO (k18 := mL_law_l18 f) hI hs h3 hn hL
      rw [if_pos c24]
      obtain ⟨w', hw⟩ := ih (n + 1) f (l3 + 6) μ2 z2 (by omega) (by rw [add_I h3 (k := 6) rfl (by omega)]; omega) (by omega) hI2
      exact ⟨w', e.trans hw⟩
    rw [if_neg c24]
    by_cases c25 : xs (6 * n) &&& 63 = 25
    · obtain ⟨μ2, z2, hI2, e⟩ := law_calmest hO (k18 := mL_law_l18 f) hI hs h3 hn hL
      rw [if_pos c25]
      obtain ⟨w', hw⟩ := ih (n + 1) f (l3 + 6) μ2 z2 (by omega) (by rw [add_I h3 (k := 6) rfl (by omega)]; omega) (by omega) hI2
      exact ⟨w', e.trans hw⟩
    rw [if_neg c25]
    by_cases c26 : xs (6 * n) &&& 63 = 26
    · obtain ⟨μ2, z2, hI2, e⟩ := law_whoseHand hO (k18 := mL_law_l18 f) hI hs h3 hn hL
      rw [if_pos c26]
      obtain ⟨w', hw⟩ := ih (n + 1) f (l3 + 6) μ2 z2 (by omega) (by rw [add_I h3 (k := 6) rfl (by omega)]; omega) (by omega) hI2
      exact ⟨w', e.trans hw⟩
    rw [if_neg c26]
    by_cases c27 : xs (6 * n) &&& 63 = 27
    · obtain ⟨μ2, z2, hI2, e⟩ := law_dayEnds hO (k18 := mL_law_l18 f) hI hs h3 hn hL
      rw [if_pos c27]
      obtain ⟨w', hw⟩ := ih (n + 1) f (l3 + 6) μ2 z2 (by omega) (by rw [add_I h3 (k := 6) rfl (by omega)]; omega) (by omega) hI2
      exact ⟨w', e.trans hw⟩
    rw [if_neg c27]
    by_cases c28 : xs (6 * n) &&& 63 = 28
    · obtain ⟨μ2, z2, hI2, e⟩ := law_saves hO (k18 := mL_law_l18 f) hI hs h3 hn hL
      rw [if_pos c28]
      obtain ⟨w', hw⟩ := ih (n + 1) f (l3 + 6) μ2 z2 (by omega) (by rw [add_I h3 (k := 6) rfl (by omega)]; omega) (by omega) hI2
      exact ⟨w', e.trans hw⟩
    rw [if_neg c28]
    by_cases c29 : xs (6 * n) &&& 63 = 29
    · obtain ⟨μ2, z2, hI2, e⟩ := law_whenToGo hO (k18 := mL_law_l18 f) hI hs h3 hn hL
      rw [if_pos c29]
      obtain ⟨w', hw⟩ := ih (n + 1) f (l3 + 6) μ2 z2 (by omega) (by rw [add_I h3 (k := 6) rfl (by omega)]; omega) (by omega) hI2
      exact ⟨w', e.trans hw⟩
    rw [if_neg c29]
    by_cases c30 : xs (6 * n) &&& 63 = 30
    · obtain ⟨μ2, z2, hI2, e⟩ := law_whichRope hO (k18 := mL_law_l18 f) hI hs h3 hn hL
      rw [if_pos c30]
      obtain ⟨w', hw⟩ := ih (n + 1) f (l3 + 6) μ2 z2 (by omega) (by rw [add_I h3 (k := 6) rfl (by omega)]; omega) (by omega) hI2
      exact ⟨w', e.trans hw⟩
    rw [if_neg c30]
    by_cases c31 : xs (6 * n) &&& 63 = 31
    · obtain ⟨μ2, z2, hI2, e⟩ := law_bar hO (k18 := mL_law_l18 f) hI hs h3 hn hL
      rw [if_pos c31]
      obtain ⟨w', hw⟩ := ih (n + 1) f (l3 + 6) μ2 z2 (by omega) (by rw [add_I h3 (k := 6) rfl (by omega)]; omega) (by omega) hI2
      exact ⟨w', e.trans hw⟩
    rw [if_neg c31]
    by_cases c32 : xs (6 * n) &&& 63 = 32
    · obtain ⟨μ2, z2, hI2, e⟩ := law_barred hO (k18 := mL_law_l18 f) hI hs h3 hn hL
      rw [if_pos c32]
      obtain ⟨w', hw⟩ := ih (n + 1) f (l3 + 6) μ2 z2 (by omega) (by rw [add_I h3 (k := 6) rfl (by omega)]; omega) (by omega) hI2
      exact ⟨w', e.trans hw⟩
    rw [if_neg c32]
    by_cases c33 : xs (6 * n) &&& 63 = 33
    · obtain ⟨μ2, z2, hI2, e⟩ := law_howFar hO (k18 := mL_law_l18 f) hI hs h3 hn hL
      rw [if_pos c33]
      obtain ⟨w', hw⟩ := ih (n + 1) f (l3 + 6) μ2 z2 (by omega) (by rw [add_I h3 (k := 6) rfl (by omega)]; omega) (by omega) hI2
      exact ⟨w', e.trans hw⟩
    rw [if_neg c33]
    by_cases c34 : xs (6 * n) &&& 63 = 34
    · obtain ⟨μ2, z2, hI2, e⟩ := law_over hO (k18 := mL_law_l18 f) hI hs h3 hn hL
      rw [if_pos c34]
      obtain ⟨w', hw⟩ := ih (n + 1) f (l3 + 6) μ2 z2 (by omega) (by rw [add_I h3 (k := 6) rfl (by omega)]; omega) (by omega) hI2
      exact ⟨w', e.trans hw⟩
    rw [if_neg c34]
    by_cases c35 : xs (6 * n) &&& 63 = 35
    · obtain ⟨μ2, z2, hI2, e⟩ := law_first hO (k18 := mL_law_l18 f) hI hs h3 hn hL
      rw [if_pos c35]
      obtain ⟨w', hw⟩ := ih (n + 1) f (l3 + 6) μ2 z2 (by omega) (by rw [add_I h3 (k := 6) rfl (by omega)]; omega) (by omega) hI2
      exact ⟨w', e.trans hw⟩
    rw [if_neg c35]
    by_cases c36 : xs (6 * n) &&& 63 = 36
    · obtain ⟨μ2, z2, hI2, e⟩ := law_twoJibs hO (k18 := mL_law_l18 f) hI hs h3 hn hL
      rw [if_pos c36]
      obtain ⟨w', hw⟩ := ih (n + 1) f (l3 + 6) μ2 z2 (by omega) (by rw [add_I h3 (k := 6) rfl (by omega)]; omega) (by omega) hI2
      exact ⟨w', e.trans hw⟩
    rw [if_neg c36]
    by_cases c37 : xs (6 * n) &&& 63 = 37
    · obtain ⟨μ2, z2, hI2, e⟩ := law_said hO (k18 := mL_law_l18 f) hI hs h3 hn hL
      rw [if_pos c37]
      obtain ⟨w', hw⟩ := ih (n + 1) f (l3 + 6) μ2 z2 (by omega) (by rw [add_I h3 (k := 6) rfl (by omega)]; omega) (by omega) hI2
      exact ⟨w', e.trans hw⟩
    rw [if_neg c37]
    by_cases c38 : xs (6 * n) &&& 63 = 38
    · obtain ⟨μ2, z2, hI2, e⟩ := law_left hO (k18 := mL_law_l18 f) hI hs h3 hn hL
      rw [if_pos c38]
      obtain ⟨w', hw⟩ := ih (n + 1) f (l3 + 6) μ2 z2 (by omega) (by rw [add_I h3 (k := 6) rfl (by omega)]; omega) (by omega) hI2
      exact ⟨w', e.trans hw⟩
    rw [if_neg c38]
    by_cases c39 : xs (6 * n) &&& 63 = 39
    · obtain ⟨μ2, z2, hI2, e⟩ := law_landed hO (k18 := mL_law_l18 f) hI hs h3 hn hL
      rw [if_pos c39]
      obtain ⟨w', hw⟩ := ih (n + 1) f (l3 + 6) μ2 z2 (by omega) (by rw [add_I h3 (k := 6) rfl (by omega)]; omega) (by omega) hI2
      exact ⟨w', e.trans hw⟩
    rw [if_neg c39]
    by_cases c40 : xs (6 * n) &&& 63 = 40
    · obtain ⟨μ2, z2, hI2, e⟩ := law_hour hO (k18 := mL_law_l18 f) hI hs h3 hn hL
      rw [if_pos c40]
      obtain ⟨w', hw⟩ := ih (n + 1) f (l3 + 6) μ2 z2 (by omega) (by rw [add_I h3 (k := 6) rfl (by omega)]; omega) (by omega) hI2
      exact ⟨w', e.trans hw⟩
    rw [if_neg c40]
    by_cases c41 : xs (6 * n) &&& 63 = 41
    · obtain ⟨μ2, z2, hI2, e⟩ := law_mean hO (k18 := mL_law_l18 f) hI hs h3 hn hL
      rw [if_pos c41]
      obtain ⟨w', hw⟩ := ih (n + 1) f (l3 + 6) μ2 z2 (by omega) (by rw [add_I h3 (k := 6) rfl (by omega)]; omega) (by omega) hI2
      exact ⟨w', e.trans hw⟩
    rw [if_neg c41]
    by_cases c42 : xs (6 * n) &&& 63 = 42
    · obtain ⟨μ2, z2, hI2, e⟩ := law_image hO (k18 := mL_law_l18 f) hI hs h3 hn hL
      rw [if_pos c42]
      obtain ⟨w', hw⟩ := ih (n + 1) f (l3 + 6) μ2 z2 (by omega) (by rw [add_I h3 (k := 6) rfl (by omega)]; omega) (by omega) hI2
      exact ⟨w', e.trans hw⟩
    rw [if_neg c42]
    by_cases c43 : xs (6 * n) &&& 63 = 43
    · obtain ⟨μ2, z2, hI2, e⟩ := law_back hO (k18 := mL_law_l18 f) hI hs h3 hn hL
      rw [if_pos c43]
      obtain ⟨w', hw⟩ := ih (n + 1) f (l3 + 6) μ2 z2 (by omega) (by rw [add_I h3 (k := 6) rfl (by omega)]; omega) (by omega) hI2
      exact ⟨w', e.trans hw⟩
    rw [if_neg c43]
    by_cases c44 : xs (6 * n) &&& 63 = 44
    · obtain ⟨μ2, z2, hI2, e⟩ := law_about hO (k18 := mL_law_l18 f) hI hs h3 hn hL
      rw [if_pos c44]
      obtain ⟨w', hw⟩ := ih (n + 1) f (l3 + 6) μ2 z2 (by omega) (by rw [add_I h3 (k := 6) rfl (by omega)]; omega) (by omega) hI2
      exact ⟨w', e.trans hw⟩
    rw [if_neg c44]
    exact ih (n + 1) f (l3 + 6) μ z (by omega) (by rw [add_I h3 (k := 6) rfl (by omega)]; omega) (by omega) (hO.2.1 n μ z hI)
theorem law_owed {Inv : Nat → Mu → Zt → Prop} {L : Nat} {xs : Nat → Int32} (hO : Owed Inv L xs) (hL : L ≤ 384) (h0 : Inv 0 mu3 (zz2 L xs)) : ∃ r, mL_law (some 0) (w00 L xs) = some r := by
  rw [law_loop]
  obtain ⟨w', h⟩ := law_iter hO hL 64 0 FU 0 mu3 (zz2 L xs) rfl rfl (by show 64 < 100000; omega) h0
  exact ⟨_, h⟩
