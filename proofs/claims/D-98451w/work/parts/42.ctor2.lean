/-- the numbers behind the constructor of HookSwings, ahead of its copy -/
def mu1 : Mu := fun k => if k = 400 then upd (upd (fun _ => 0) 4 (-1)) 5 (-1) else if k = 402 then upd (upd (fun _ => 0) 3 (-1)) 1 2 else if k = 460 then upd (upd (fun _ => 0) 3 (-1)) 1 2
  else if k = 403 then upd (upd (upd (fun _ => 0) 4 5) 9 59) 10 (-1) else if k = 461 then upd (upd (upd (fun _ => 0) 4 5) 9 59) 10 (-1) else fun _ => 0
def zz1 (L : Nat) (xs : Nat → Int32) : Zt := (fun _ _ => 0, fun _ _ => none, f0 L xs, 537, 30454)
set_option maxRecDepth 100000 in
theorem cv69_at (L : Nat) (xs : Nat → Int32) : ∀ i, i < 137 → (cv69 L xs).1 (400 + i) = celA (400 + i) (mu1 (400 + i)) (fun _ => 0) (fun _ => none) := by
  intro i h2
  match i, h2 with
  | 0, _ => rfl
  | 1, _ => rfl
  | 2, _ => rfl
  | 3, _ => rfl
  | 4, _ => rfl
  | 5, _ => rfl
  | 6, _ => rfl
  | 7, _ => rfl
  | 8, _ => rfl
  | 9, _ => rfl
  | 10, _ => rfl
  | 11, _ => rfl
  | 12, _ => rfl
  | 13, _ => rfl
  | 14, _ => rfl
  | 15, _ => rfl
  | 16, _ => rfl
  | 17, _ => rfl
  | 18, _ => rfl
  | 19, _ => rfl
  | 20, _ => rfl
  | 21, _ => rfl
  | 22, _ => rfl
  | 23, _ => rfl
  | 24, _ => rfl
  | 25, _ => rfl
  | 26, _ => rfl
  | 27, _ => rfl
  | 28, _ => rfl
  | 29, _ => rfl
  | 30, _ => rfl
  | 31, _ => rfl
  | 32, _ => rfl
  | 33, _ => rfl
  | 34, _ => rfl
  | 35, _ => rfl
  | 36, _ => rfl
  | 37, _ => rfl
  | 38, _ => rfl
  | 39, _ => rfl
  | 40, _ => rfl
  | 41, _ => rfl
  | 42, _ => rfl
  | 43, _ => rfl
  | 44, _ => rfl
  | 45, _ => rfl
  | 46, _ => rfl
  | 47, _ => rfl
  | 48, _ => rfl
  | 49, _ => rfl
  | 50, _ => rfl
  | 51, _ => rfl
  | 52, _ => rfl
  | 53, _ => rfl
  | 54, _ => rfl
  | 55, _ => rfl
  | 56, _ => rfl
  | 57, _ => rfl
  | 58, _ => rfl
  | 59, _ => rfl
  | 60, _ => rfl
  | 61, _ => rfl
  | 62, _ => rfl
  | 63, _ => rfl
  | 64, _ => rfl
  | 65, _ => rfl
  | 66, _ => rfl
  | 67, _ => rfl
  | 68, _ => rfl
  | 69, _ => rfl
  | 70, _ => rfl
  | 71, _ => rfl
  | 72, _ => rfl
  | 73, _ => rfl
  | 74, _ => rfl
  | 75, _ => rfl
  | 76, _ => rfl
  | 77, _ => rfl
  | 78, _ => rfl
  | 79, _ => rfl
  | 80, _ => rfl
  | 81, _ => rfl
  | 82, _ => rfl
  | 83, _ => rfl
  | 84, _ => rfl
  | 85, _ => rfl
  | 86, _ => rfl
  | 87, _ => rfl
  | 88, _ => rfl
  | 89, _ => rfl
  | 90, _ => rfl
  | 91, _ => rfl
  | 92, _ => rfl
  | 93, _ => rfl
  | 94, _ => rfl
  | 95, _ => rfl
  | 96, _ => rfl
  | 97, _ => rfl
  | 98, _ => rfl
  | 99, _ => rfl
  | 100, _ => rfl
  | 101, _ => rfl
  | 102, _ => rfl
  | 103, _ => rfl
  | 104, _ => rfl
  | 105, _ => rfl
  | 106, _ => rfl
  | 107, _ => rfl
  | 108, _ => rfl
  | 109, _ => rfl
  | 110, _ => rfl
  | 111, _ => rfl
  | 112, _ => rfl
  | 113, _ => rfl
  | 114, _ => rfl
  | 115, _ => rfl
  | 116, _ => rfl
  | 117, _ => rfl
  | 118, _ => rfl
  | 119, _ => rfl
  | 120, _ => rfl
  | 121, _ => rfl
  | 122, _ => rfl
  | 123, _ => rfl
  | 124, _ => rfl
  | 125, _ => rfl
  | 126, _ => rfl
  | 127, _ => rfl
  | 128, _ => rfl
  | 129, _ => rfl
  | 130, _ => rfl
  | 131, _ => rfl
  | 132, _ => rfl
  | 133, _ => rfl
  | 134, _ => rfl
  | 135, _ => rfl
  | 136, _ => rfl
  | i + 137, h2 => exact absurd h2 (by omega)
theorem f0_lt {L : Nat} {xs : Nat → Int32} {k : Nat} (h : 335 ≤ k) : f0 L xs k = none := by
  unfold f0
  simp only [show ¬ k = 0 by omega, show ¬ k = 1 by omega, show ¬ k = 2 by omega, show ¬ k = 3 by omega, show ¬ k = 4 by omega, show ¬ k = 5 by omega, show ¬ k < 262 by omega, show ¬ k = 262 by omega, show ¬ k < 298 by omega, show ¬ k < 300 by omega, show ¬ k < 335 by omega, if_false]
theorem wst_ne {w : Wd} {k q : Nat} {e : Cel} (h : q ≠ k) : (wst w k e).1 q = w.1 q := if_neg h
theorem wnew_ne {w : Wd} {q sz : Nat} {e : Cel} (h : q ≠ w.2.1) : (wnew w e sz).1 q = w.1 q := if_neg h
theorem wnew2_ne {w : Wd} {q N M : Nat} (h : q < w.2.1 ∨ w.2.1 + N < q) : (wnew2 w N M).1 q = w.1 q := by
  unfold wnew2
  show (if q = w.2.1 then _ else if w.2.1 < q ∧ q ≤ w.2.1 + N then _ else w.1 q) = _
  rw [if_neg (by omega), if_neg (by omega)]
theorem cv69_out (L : Nat) (xs : Nat → Int32) {k : Nat} (h : k < 400 ∨ 537 ≤ k) : (cv69 L xs).1 k = f0 L xs k := by
  refine (wst_ne (w := cv68 L xs) (by omega)).trans ?_
  refine (wnew_ne (w := cv67 L xs) (by rw [cv67_n]; omega)).trans ?_
  refine (wst_ne (w := cv66 L xs) (by omega)).trans ?_
  refine (wnew_ne (w := cv65 L xs) (by rw [cv65_n]; omega)).trans ?_
  refine (wst_ne (w := cv64 L xs) (by omega)).trans ?_
  refine (wnew_ne (w := cv63 L xs) (by rw [cv63_n]; omega)).trans ?_
  refine (wst_ne (w := cv62 L xs) (by omega)).trans ?_
  refine (wnew_ne (w := cv61 L xs) (by rw [cv61_n]; omega)).trans ?_
  refine (wst_ne (w := cv60 L xs) (by omega)).trans ?_
  refine (wnew_ne (w := cv59 L xs) (by rw [cv59_n]; omega)).trans ?_
  refine (wst_ne (w := cv58 L xs) (by omega)).trans ?_
  refine (wnew_ne (w := cv57 L xs) (by rw [cv57_n]; omega)).trans ?_
  refine (wst_ne (w := cv56 L xs) (by omega)).trans ?_
  refine (wnew_ne (w := cv55 L xs) (by rw [cv55_n]; omega)).trans ?_
  refine (wst_ne (w := cv54 L xs) (by omega)).trans ?_
  refine (wnew_ne (w := cv53 L xs) (by rw [cv53_n]; omega)).trans ?_
  refine (wst_ne (w := cv52 L xs) (by omega)).trans ?_
  refine (wnew2_ne (w := cv51 L xs) (by rw [cv51_n]; omega)).trans ?_
  refine (wst_ne (w := cv50 L xs) (by omega)).trans ?_
  refine (wnew_ne (w := cv49 L xs) (by rw [cv49_n]; omega)).trans ?_
  refine (wst_ne (w := cv48 L xs) (by omega)).trans ?_
  refine (wnew_ne (w := cv47 L xs) (by rw [cv47_n]; omega)).trans ?_
  refine (wst_ne (w := cv46 L xs) (by omega)).trans ?_
  refine (wst_ne (w := cv45 L xs) (by omega)).trans ?_
  refine (wst_ne (w := cv44 L xs) (by omega)).trans ?_
  refine (wnew_ne (w := cv43 L xs) (by rw [cv43_n]; omega)).trans ?_
  refine (wst_ne (w := cv42 L xs) (by omega)).trans ?_
  refine (wst_ne (w := cv41 L xs) (by omega)).trans ?_
  refine (wst_ne (w := cv40 L xs) (by omega)).trans ?_
  refine (wst_ne (w := cv39 L xs) (by omega)).trans ?_
  refine (wst_ne (w := cv38 L xs) (by omega)).trans ?_
  refine (wst_ne (w := cv37 L xs) (by omega)).trans ?_
  refine (wst_ne (w := cv36 L xs) (by omega)).trans ?_
  refine (wnew_ne (w := cv35 L xs) (by rw [cv35_n]; omega)).trans ?_
  refine (wst_ne (w := cv34 L xs) (by omega)).trans ?_
  refine (wnew2_ne (w := cv33 L xs) (by rw [cv33_n]; omega)).trans ?_
  refine (wst_ne (w := cv32 L xs) (by omega)).trans ?_
  refine (wnew2_ne (w := cv31 L xs) (by rw [cv31_n]; omega)).trans ?_
  refine (wst_ne (w := cv30 L xs) (by omega)).trans ?_
  refine (wnew2_ne (w := cv29 L xs) (by rw [cv29_n]; omega)).trans ?_
  refine (wst_ne (w := cv28 L xs) (by omega)).trans ?_
  refine (wnew2_ne (w := cv27 L xs) (by rw [cv27_n]; omega)).trans ?_
  refine (wst_ne (w := cv26 L xs) (by omega)).trans ?_
  refine (wnew_ne (w := cv25 L xs) (by rw [cv25_n]; omega)).trans ?_
  refine (wst_ne (w := cv24 L xs) (by omega)).trans ?_
  refine (wnew_ne (w := cv23 L xs) (by rw [cv23_n]; omega)).trans ?_
  refine (wnew_ne (w := cv22 L xs) (by rw [cv22_n]; omega)).trans ?_
  refine (wst_ne (w := cv21 L xs) (by omega)).trans ?_
  refine (wst_ne (w := cv20 L xs) (by omega)).trans ?_
  refine (wst_ne (w := cv19 L xs) (by omega)).trans ?_
  refine (wst_ne (w := cv18 L xs) (by omega)).trans ?_
  refine (wst_ne (w := cv17 L xs) (by omega)).trans ?_
  refine (wst_ne (w := cv16 L xs) (by omega)).trans ?_
  refine (wst_ne (w := cv15 L xs) (by omega)).trans ?_
  refine (wnew_ne (w := cv14 L xs) (by rw [cv14_n]; omega)).trans ?_
  refine (wst_ne (w := cv13 L xs) (by omega)).trans ?_
  refine (wnew2_ne (w := cv12 L xs) (by rw [cv12_n]; omega)).trans ?_
  refine (wst_ne (w := cv11 L xs) (by omega)).trans ?_
  refine (wnew2_ne (w := cv10 L xs) (by rw [cv10_n]; omega)).trans ?_
  refine (wst_ne (w := cv9 L xs) (by omega)).trans ?_
  refine (wnew2_ne (w := cv8 L xs) (by rw [cv8_n]; omega)).trans ?_
  refine (wst_ne (w := cv7 L xs) (by omega)).trans ?_
  refine (wnew2_ne (w := cv6 L xs) (by rw [cv6_n]; omega)).trans ?_
  refine (wst_ne (w := cv5 L xs) (by omega)).trans ?_
  refine (wnew_ne (w := cv4 L xs) (by rw [cv4_n]; omega)).trans ?_
  refine (wst_ne (w := cv3 L xs) (by omega)).trans ?_
  refine (wnew_ne (w := cv2 L xs) (by rw [cv2_n]; omega)).trans ?_
  refine (wnew_ne (w := cv1 L xs) (by rw [cv1_n]; omega)).trans ?_
  refine (wnew_ne (w := cv0 L xs) (by rw [cv0_n]; omega)).trans ?_
  rfl
theorem cv69_E (L : Nat) (xs : Nat → Int32) : cv69 L xs = Ep 537 mu1 (zz1 L xs) := by
  have h2 := cv69_n L xs
  refine Prod.ext ?_ h2
  funext k
  show (cv69 L xs).1 k = if 400 ≤ k ∧ k < 537 then celA k (mu1 k) (fun _ => 0) (fun _ => none) else f0 L xs k
  by_cases h : 400 ≤ k ∧ k < 537
  · rw [if_pos h]
    obtain ⟨i, rfl⟩ : ∃ i, k = 400 + i := ⟨k - 400, by omega⟩
    exact cv69_at L xs i (by omega)
  · rw [if_neg h]
    exact cv69_out L xs (by omega)
