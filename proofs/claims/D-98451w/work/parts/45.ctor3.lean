/-! ===== the constructor of HookSwingsModel ===== -/
noncomputable def dv0 (L : Nat) (xs : Nat → Int32) : Wd := Ep 537 (beM mu1 401 459) (beZ (zz1 L xs) 401 459)
theorem dv0_n (L : Nat) (xs : Nat → Int32) : (dv0 L xs).2 = (537, 30454) := rfl
noncomputable def dv1 (L : Nat) (xs : Nat → Int32) : Wd := wnew (dv0 L xs) (.inr (2, [.null, .null, .null, .null, .int 0, .int 0, .int 0, .int 0, .int 0, .int 0, .int 0, .long 0, .int 0, .int 0, .int 0, .null, .int 0, .int 0, .int 0, .int 0, .null, .int 0, .int 0, .null, .null, .int 0, .null, .int 0, .int 0, .null, .null, .null, .null, .null, .int 0, .null, .null])) 37
theorem dv1_n (L : Nat) (xs : Nat → Int32) : (dv1 L xs).2 = (538, 30491) := (by show ((dv0 L xs).2.1 + 1, (dv0 L xs).2.2 + 37) = _; rw [dv0_n])
noncomputable def dv2 (L : Nat) (xs : Nat → Int32) : Wd := wnew (dv1 L xs) (.inl (.int, 9834, .inl (fun _ => 0))) 9834
theorem dv2_n (L : Nat) (xs : Nat → Int32) : (dv2 L xs).2 = (539, 40325) := (by show ((dv1 L xs).2.1 + 1, (dv1 L xs).2.2 + 9834) = _; rw [dv1_n])
noncomputable def dv3 (L : Nat) (xs : Nat → Int32) : Wd := wst (dv2 L xs) 537 (.inr (2, [.ref 538, .null, .null, .null, .int 0, .int 0, .int 0, .int 0, .int 0, .int 0, .int 0, .long 0, .int 0, .int 0, .int 0, .null, .int 0, .int 0, .int 0, .int 0, .null, .int 0, .int 0, .null, .null, .int 0, .null, .int 0, .int 0, .null, .null, .null, .null, .null, .int 0, .null, .null]))
theorem dv3_n (L : Nat) (xs : Nat → Int32) : (dv3 L xs).2 = (539, 40325) := dv2_n L xs
theorem dv3_s (L : Nat) (xs : Nat → Int32) : pf (dv2 L xs) (some 537) 2 0 (.ref 538) = some (dv3 L xs) := pf_at (l := [.null, .null, .null, .null, .int 0, .int 0, .int 0, .int 0, .int 0, .int 0, .int 0, .long 0, .int 0, .int 0, .int 0, .null, .int 0, .int 0, .int 0, .int 0, .null, .int 0, .int 0, .null, .null, .int 0, .null, .int 0, .int 0, .null, .null, .null, .null, .null, .int 0, .null, .null]) rfl (by omega) (Nat.le_of_ble_eq_true rfl)
noncomputable def dv4 (L : Nat) (xs : Nat → Int32) : Wd := wnew (dv3 L xs) (.inl (.int, 9834, .inl (fun _ => 0))) 9834
theorem dv4_n (L : Nat) (xs : Nat → Int32) : (dv4 L xs).2 = (540, 50159) := (by show ((dv3 L xs).2.1 + 1, (dv3 L xs).2.2 + 9834) = _; rw [dv3_n])
noncomputable def dv5 (L : Nat) (xs : Nat → Int32) : Wd := wst (dv4 L xs) 537 (.inr (2, [.ref 538, .ref 539, .null, .null, .int 0, .int 0, .int 0, .int 0, .int 0, .int 0, .int 0, .long 0, .int 0, .int 0, .int 0, .null, .int 0, .int 0, .int 0, .int 0, .null, .int 0, .int 0, .null, .null, .int 0, .null, .int 0, .int 0, .null, .null, .null, .null, .null, .int 0, .null, .null]))
theorem dv5_n (L : Nat) (xs : Nat → Int32) : (dv5 L xs).2 = (540, 50159) := dv4_n L xs
theorem dv5_s (L : Nat) (xs : Nat → Int32) : pf (dv4 L xs) (some 537) 2 1 (.ref 539) = some (dv5 L xs) := pf_at (l := [.ref 538, .null, .null, .null, .int 0, .int 0, .int 0, .int 0, .int 0, .int 0, .int 0, .long 0, .int 0, .int 0, .int 0, .null, .int 0, .int 0, .int 0, .int 0, .null, .int 0, .int 0, .null, .null, .int 0, .null, .int 0, .int 0, .null, .null, .null, .null, .null, .int 0, .null, .null]) rfl (by omega) (Nat.le_of_ble_eq_true rfl)
noncomputable def dv6 (L : Nat) (xs : Nat → Int32) : Wd := wnew (dv5 L xs) (.inl (.int, 3012, .inl (fun _ => 0))) 3012
theorem dv6_n (L : Nat) (xs : Nat → Int32) : (dv6 L xs).2 = (541, 53171) := (by show ((dv5 L xs).2.1 + 1, (dv5 L xs).2.2 + 3012) = _; rw [dv5_n])
noncomputable def dv7 (L : Nat) (xs : Nat → Int32) : Wd := wst (dv6 L xs) 537 (.inr (2, [.ref 538, .ref 539, .ref 540, .null, .int 0, .int 0, .int 0, .int 0, .int 0, .int 0, .int 0, .long 0, .int 0, .int 0, .int 0, .null, .int 0, .int 0, .int 0, .int 0, .null, .int 0, .int 0, .null, .null, .int 0, .null, .int 0, .int 0, .null, .null, .null, .null, .null, .int 0, .null, .null]))
theorem dv7_n (L : Nat) (xs : Nat → Int32) : (dv7 L xs).2 = (541, 53171) := dv6_n L xs
theorem dv7_s (L : Nat) (xs : Nat → Int32) : pf (dv6 L xs) (some 537) 2 2 (.ref 540) = some (dv7 L xs) := pf_at (l := [.ref 538, .ref 539, .null, .null, .int 0, .int 0, .int 0, .int 0, .int 0, .int 0, .int 0, .long 0, .int 0, .int 0, .int 0, .null, .int 0, .int 0, .int 0, .int 0, .null, .int 0, .int 0, .null, .null, .int 0, .null, .int 0, .int 0, .null, .null, .null, .null, .null, .int 0, .null, .null]) rfl (by omega) (Nat.le_of_ble_eq_true rfl)
noncomputable def dv8 (L : Nat) (xs : Nat → Int32) : Wd := wnew (dv7 L xs) (.inl (.int, 300, .inl (fun _ => 0))) 300
theorem dv8_n (L : Nat) (xs : Nat → Int32) : (dv8 L xs).2 = (542, 53471) := (by show ((dv7 L xs).2.1 + 1, (dv7 L xs).2.2 + 300) = _; rw [dv7_n])
noncomputable def dv9 (L : Nat) (xs : Nat → Int32) : Wd := wst (dv8 L xs) 537 (.inr (2, [.ref 538, .ref 539, .ref 540, .ref 541, .int 0, .int 0, .int 0, .int 0, .int 0, .int 0, .int 0, .long 0, .int 0, .int 0, .int 0, .null, .int 0, .int 0, .int 0, .int 0, .null, .int 0, .int 0, .null, .null, .int 0, .null, .int 0, .int 0, .null, .null, .null, .null, .null, .int 0, .null, .null]))
theorem dv9_n (L : Nat) (xs : Nat → Int32) : (dv9 L xs).2 = (542, 53471) := dv8_n L xs
theorem dv9_s (L : Nat) (xs : Nat → Int32) : pf (dv8 L xs) (some 537) 2 3 (.ref 541) = some (dv9 L xs) := pf_at (l := [.ref 538, .ref 539, .ref 540, .null, .int 0, .int 0, .int 0, .int 0, .int 0, .int 0, .int 0, .long 0, .int 0, .int 0, .int 0, .null, .int 0, .int 0, .int 0, .int 0, .null, .int 0, .int 0, .null, .null, .int 0, .null, .int 0, .int 0, .null, .null, .null, .null, .null, .int 0, .null, .null]) rfl (by omega) (Nat.le_of_ble_eq_true rfl)
noncomputable def dv10 (L : Nat) (xs : Nat → Int32) : Wd := wst (dv9 L xs) 537 (.inr (2, [.ref 538, .ref 539, .ref 540, .ref 541, .int 0, .int (-1), .int 0, .int 0, .int 0, .int 0, .int 0, .long 0, .int 0, .int 0, .int 0, .null, .int 0, .int 0, .int 0, .int 0, .null, .int 0, .int 0, .null, .null, .int 0, .null, .int 0, .int 0, .null, .null, .null, .null, .null, .int 0, .null, .null]))
theorem dv10_n (L : Nat) (xs : Nat → Int32) : (dv10 L xs).2 = (542, 53471) := dv9_n L xs
theorem dv10_s (L : Nat) (xs : Nat → Int32) : pf (dv9 L xs) (some 537) 2 5 (.int (-1)) = some (dv10 L xs) := pf_at (l := [.ref 538, .ref 539, .ref 540, .ref 541, .int 0, .int 0, .int 0, .int 0, .int 0, .int 0, .int 0, .long 0, .int 0, .int 0, .int 0, .null, .int 0, .int 0, .int 0, .int 0, .null, .int 0, .int 0, .null, .null, .int 0, .null, .int 0, .int 0, .null, .null, .null, .null, .null, .int 0, .null, .null]) rfl (by omega) (Nat.le_of_ble_eq_true rfl)
noncomputable def dv11 (L : Nat) (xs : Nat → Int32) : Wd := wst (dv10 L xs) 537 (.inr (2, [.ref 538, .ref 539, .ref 540, .ref 541, .int 0, .int (-1), .int (-1), .int 0, .int 0, .int 0, .int 0, .long 0, .int 0, .int 0, .int 0, .null, .int 0, .int 0, .int 0, .int 0, .null, .int 0, .int 0, .null, .null, .int 0, .null, .int 0, .int 0, .null, .null, .null, .null, .null, .int 0, .null, .null]))
theorem dv11_n (L : Nat) (xs : Nat → Int32) : (dv11 L xs).2 = (542, 53471) := dv10_n L xs
theorem dv11_s (L : Nat) (xs : Nat → Int32) : pf (dv10 L xs) (some 537) 2 6 (.int (-1)) = some (dv11 L xs) := pf_at (l := [.ref 538, .ref 539, .ref 540, .ref 541, .int 0, .int (-1), .int 0, .int 0, .int 0, .int 0, .int 0, .long 0, .int 0, .int 0, .int 0, .null, .int 0, .int 0, .int 0, .int 0, .null, .int 0, .int 0, .null, .null, .int 0, .null, .int 0, .int 0, .null, .null, .null, .null, .null, .int 0, .null, .null]) rfl (by omega) (Nat.le_of_ble_eq_true rfl)
noncomputable def dv12 (L : Nat) (xs : Nat → Int32) : Wd := wnew (dv11 L xs) (.inl (.int, 160, .inl (fun _ => 0))) 160
theorem dv12_n (L : Nat) (xs : Nat → Int32) : (dv12 L xs).2 = (543, 53631) := (by show ((dv11 L xs).2.1 + 1, (dv11 L xs).2.2 + 160) = _; rw [dv11_n])
noncomputable def dv13 (L : Nat) (xs : Nat → Int32) : Wd := wst (dv12 L xs) 537 (.inr (2, [.ref 538, .ref 539, .ref 540, .ref 541, .int 0, .int (-1), .int (-1), .int 0, .int 0, .int 0, .int 0, .long 0, .int 0, .int 0, .int 0, .ref 542, .int 0, .int 0, .int 0, .int 0, .null, .int 0, .int 0, .null, .null, .int 0, .null, .int 0, .int 0, .null, .null, .null, .null, .null, .int 0, .null, .null]))
theorem dv13_n (L : Nat) (xs : Nat → Int32) : (dv13 L xs).2 = (543, 53631) := dv12_n L xs
theorem dv13_s (L : Nat) (xs : Nat → Int32) : pf (dv12 L xs) (some 537) 2 15 (.ref 542) = some (dv13 L xs) := pf_at (l := [.ref 538, .ref 539, .ref 540, .ref 541, .int 0, .int (-1), .int (-1), .int 0, .int 0, .int 0, .int 0, .long 0, .int 0, .int 0, .int 0, .null, .int 0, .int 0, .int 0, .int 0, .null, .int 0, .int 0, .null, .null, .int 0, .null, .int 0, .int 0, .null, .null, .null, .null, .null, .int 0, .null, .null]) rfl (by omega) (Nat.le_of_ble_eq_true rfl)
noncomputable def dv14 (L : Nat) (xs : Nat → Int32) : Wd := wnew (dv13 L xs) (.inl (.int, 8, .inl (fun _ => 0))) 8
theorem dv14_n (L : Nat) (xs : Nat → Int32) : (dv14 L xs).2 = (544, 53639) := (by show ((dv13 L xs).2.1 + 1, (dv13 L xs).2.2 + 8) = _; rw [dv13_n])
noncomputable def dv15 (L : Nat) (xs : Nat → Int32) : Wd := wst (dv14 L xs) 537 (.inr (2, [.ref 538, .ref 539, .ref 540, .ref 541, .int 0, .int (-1), .int (-1), .int 0, .int 0, .int 0, .int 0, .long 0, .int 0, .int 0, .int 0, .ref 542, .int 0, .int 0, .int 0, .int 0, .ref 543, .int 0, .int 0, .null, .null, .int 0, .null, .int 0, .int 0, .null, .null, .null, .null, .null, .int 0, .null, .null]))
theorem dv15_n (L : Nat) (xs : Nat → Int32) : (dv15 L xs).2 = (544, 53639) := dv14_n L xs
theorem dv15_s (L : Nat) (xs : Nat → Int32) : pf (dv14 L xs) (some 537) 2 20 (.ref 543) = some (dv15 L xs) := pf_at (l := [.ref 538, .ref 539, .ref 540, .ref 541, .int 0, .int (-1), .int (-1), .int 0, .int 0, .int 0, .int 0, .long 0, .int 0, .int 0, .int 0, .ref 542, .int 0, .int 0, .int 0, .int 0, .null, .int 0, .int 0, .null, .null, .int 0, .null, .int 0, .int 0, .null, .null, .null, .null, .null, .int 0, .null, .null]) rfl (by omega) (Nat.le_of_ble_eq_true rfl)
noncomputable def dv16 (L : Nat) (xs : Nat → Int32) : Wd := wnew (dv15 L xs) (.inl (.long, 330, .inr (.inl (fun _ => 0)))) 330
theorem dv16_n (L : Nat) (xs : Nat → Int32) : (dv16 L xs).2 = (545, 53969) := (by show ((dv15 L xs).2.1 + 1, (dv15 L xs).2.2 + 330) = _; rw [dv15_n])
noncomputable def dv17 (L : Nat) (xs : Nat → Int32) : Wd := wst (dv16 L xs) 537 (.inr (2, [.ref 538, .ref 539, .ref 540, .ref 541, .int 0, .int (-1), .int (-1), .int 0, .int 0, .int 0, .int 0, .long 0, .int 0, .int 0, .int 0, .ref 542, .int 0, .int 0, .int 0, .int 0, .ref 543, .int 0, .int 0, .ref 544, .null, .int 0, .null, .int 0, .int 0, .null, .null, .null, .null, .null, .int 0, .null, .null]))
theorem dv17_n (L : Nat) (xs : Nat → Int32) : (dv17 L xs).2 = (545, 53969) := dv16_n L xs
theorem dv17_s (L : Nat) (xs : Nat → Int32) : pf (dv16 L xs) (some 537) 2 23 (.ref 544) = some (dv17 L xs) := pf_at (l := [.ref 538, .ref 539, .ref 540, .ref 541, .int 0, .int (-1), .int (-1), .int 0, .int 0, .int 0, .int 0, .long 0, .int 0, .int 0, .int 0, .ref 542, .int 0, .int 0, .int 0, .int 0, .ref 543, .int 0, .int 0, .null, .null, .int 0, .null, .int 0, .int 0, .null, .null, .null, .null, .null, .int 0, .null, .null]) rfl (by omega) (Nat.le_of_ble_eq_true rfl)
noncomputable def dv18 (L : Nat) (xs : Nat → Int32) : Wd := wnew (dv17 L xs) (.inl (.boolean, 330, .inl (fun _ => 0))) 330
theorem dv18_n (L : Nat) (xs : Nat → Int32) : (dv18 L xs).2 = (546, 54299) := (by show ((dv17 L xs).2.1 + 1, (dv17 L xs).2.2 + 330) = _; rw [dv17_n])
noncomputable def dv19 (L : Nat) (xs : Nat → Int32) : Wd := wst (dv18 L xs) 537 (.inr (2, [.ref 538, .ref 539, .ref 540, .ref 541, .int 0, .int (-1), .int (-1), .int 0, .int 0, .int 0, .int 0, .long 0, .int 0, .int 0, .int 0, .ref 542, .int 0, .int 0, .int 0, .int 0, .ref 543, .int 0, .int 0, .ref 544, .ref 545, .int 0, .null, .int 0, .int 0, .null, .null, .null, .null, .null, .int 0, .null, .null]))
theorem dv19_n (L : Nat) (xs : Nat → Int32) : (dv19 L xs).2 = (546, 54299) := dv18_n L xs
theorem dv19_s (L : Nat) (xs : Nat → Int32) : pf (dv18 L xs) (some 537) 2 24 (.ref 545) = some (dv19 L xs) := pf_at (l := [.ref 538, .ref 539, .ref 540, .ref 541, .int 0, .int (-1), .int (-1), .int 0, .int 0, .int 0, .int 0, .long 0, .int 0, .int 0, .int 0, .ref 542, .int 0, .int 0, .int 0, .int 0, .ref 543, .int 0, .int 0, .ref 544, .null, .int 0, .null, .int 0, .int 0, .null, .null, .null, .null, .null, .int 0, .null, .null]) rfl (by omega) (Nat.le_of_ble_eq_true rfl)
noncomputable def dv20 (L : Nat) (xs : Nat → Int32) : Wd := wnew (dv19 L xs) (.inl (.int, 18, .inl (fun _ => 0))) 18
theorem dv20_n (L : Nat) (xs : Nat → Int32) : (dv20 L xs).2 = (547, 54317) := (by show ((dv19 L xs).2.1 + 1, (dv19 L xs).2.2 + 18) = _; rw [dv19_n])
noncomputable def dv21 (L : Nat) (xs : Nat → Int32) : Wd := wst (dv20 L xs) 537 (.inr (2, [.ref 538, .ref 539, .ref 540, .ref 541, .int 0, .int (-1), .int (-1), .int 0, .int 0, .int 0, .int 0, .long 0, .int 0, .int 0, .int 0, .ref 542, .int 0, .int 0, .int 0, .int 0, .ref 543, .int 0, .int 0, .ref 544, .ref 545, .int 0, .ref 546, .int 0, .int 0, .null, .null, .null, .null, .null, .int 0, .null, .null]))
theorem dv21_n (L : Nat) (xs : Nat → Int32) : (dv21 L xs).2 = (547, 54317) := dv20_n L xs
theorem dv21_s (L : Nat) (xs : Nat → Int32) : pf (dv20 L xs) (some 537) 2 26 (.ref 546) = some (dv21 L xs) := pf_at (l := [.ref 538, .ref 539, .ref 540, .ref 541, .int 0, .int (-1), .int (-1), .int 0, .int 0, .int 0, .int 0, .long 0, .int 0, .int 0, .int 0, .ref 542, .int 0, .int 0, .int 0, .int 0, .ref 543, .int 0, .int 0, .ref 544, .ref 545, .int 0, .null, .int 0, .int 0, .null, .null, .null, .null, .null, .int 0, .null, .null]) rfl (by omega) (Nat.le_of_ble_eq_true rfl)
noncomputable def dv22 (L : Nat) (xs : Nat → Int32) : Wd := wnew (dv21 L xs) (.inl (.int, 1200, .inl (fun _ => 0))) 1200
theorem dv22_n (L : Nat) (xs : Nat → Int32) : (dv22 L xs).2 = (548, 55517) := (by show ((dv21 L xs).2.1 + 1, (dv21 L xs).2.2 + 1200) = _; rw [dv21_n])
noncomputable def dv23 (L : Nat) (xs : Nat → Int32) : Wd := wst (dv22 L xs) 537 (.inr (2, [.ref 538, .ref 539, .ref 540, .ref 541, .int 0, .int (-1), .int (-1), .int 0, .int 0, .int 0, .int 0, .long 0, .int 0, .int 0, .int 0, .ref 542, .int 0, .int 0, .int 0, .int 0, .ref 543, .int 0, .int 0, .ref 544, .ref 545, .int 0, .ref 546, .int 0, .int 0, .ref 547, .null, .null, .null, .null, .int 0, .null, .null]))
theorem dv23_n (L : Nat) (xs : Nat → Int32) : (dv23 L xs).2 = (548, 55517) := dv22_n L xs
theorem dv23_s (L : Nat) (xs : Nat → Int32) : pf (dv22 L xs) (some 537) 2 29 (.ref 547) = some (dv23 L xs) := pf_at (l := [.ref 538, .ref 539, .ref 540, .ref 541, .int 0, .int (-1), .int (-1), .int 0, .int 0, .int 0, .int 0, .long 0, .int 0, .int 0, .int 0, .ref 542, .int 0, .int 0, .int 0, .int 0, .ref 543, .int 0, .int 0, .ref 544, .ref 545, .int 0, .ref 546, .int 0, .int 0, .null, .null, .null, .null, .null, .int 0, .null, .null]) rfl (by omega) (Nat.le_of_ble_eq_true rfl)
noncomputable def dv24 (L : Nat) (xs : Nat → Int32) : Wd := wnew (dv23 L xs) (.inl (.int, 8, .inl (fun _ => 0))) 8
theorem dv24_n (L : Nat) (xs : Nat → Int32) : (dv24 L xs).2 = (549, 55525) := (by show ((dv23 L xs).2.1 + 1, (dv23 L xs).2.2 + 8) = _; rw [dv23_n])
noncomputable def dv25 (L : Nat) (xs : Nat → Int32) : Wd := wst (dv24 L xs) 537 (.inr (2, [.ref 538, .ref 539, .ref 540, .ref 541, .int 0, .int (-1), .int (-1), .int 0, .int 0, .int 0, .int 0, .long 0, .int 0, .int 0, .int 0, .ref 542, .int 0, .int 0, .int 0, .int 0, .ref 543, .int 0, .int 0, .ref 544, .ref 545, .int 0, .ref 546, .int 0, .int 0, .ref 547, .ref 548, .null, .null, .null, .int 0, .null, .null]))
theorem dv25_n (L : Nat) (xs : Nat → Int32) : (dv25 L xs).2 = (549, 55525) := dv24_n L xs
theorem dv25_s (L : Nat) (xs : Nat → Int32) : pf (dv24 L xs) (some 537) 2 30 (.ref 548) = some (dv25 L xs) := pf_at (l := [.ref 538, .ref 539, .ref 540, .ref 541, .int 0, .int (-1), .int (-1), .int 0, .int 0, .int 0, .int 0, .long 0, .int 0, .int 0, .int 0, .ref 542, .int 0, .int 0, .int 0, .int 0, .ref 543, .int 0, .int 0, .ref 544, .ref 545, .int 0, .ref 546, .int 0, .int 0, .ref 547, .null, .null, .null, .null, .int 0, .null, .null]) rfl (by omega) (Nat.le_of_ble_eq_true rfl)
noncomputable def dv26 (L : Nat) (xs : Nat → Int32) : Wd := wnew (dv25 L xs) (.inl (.int, 8, .inl (fun _ => 0))) 8
theorem dv26_n (L : Nat) (xs : Nat → Int32) : (dv26 L xs).2 = (550, 55533) := (by show ((dv25 L xs).2.1 + 1, (dv25 L xs).2.2 + 8) = _; rw [dv25_n])
noncomputable def dv27 (L : Nat) (xs : Nat → Int32) : Wd := wst (dv26 L xs) 537 (.inr (2, [.ref 538, .ref 539, .ref 540, .ref 541, .int 0, .int (-1), .int (-1), .int 0, .int 0, .int 0, .int 0, .long 0, .int 0, .int 0, .int 0, .ref 542, .int 0, .int 0, .int 0, .int 0, .ref 543, .int 0, .int 0, .ref 544, .ref 545, .int 0, .ref 546, .int 0, .int 0, .ref 547, .ref 548, .ref 549, .null, .null, .int 0, .null, .null]))
theorem dv27_n (L : Nat) (xs : Nat → Int32) : (dv27 L xs).2 = (550, 55533) := dv26_n L xs
theorem dv27_s (L : Nat) (xs : Nat → Int32) : pf (dv26 L xs) (some 537) 2 31 (.ref 549) = some (dv27 L xs) := pf_at (l := [.ref 538, .ref 539, .ref 540, .ref 541, .int 0, .int (-1), .int (-1), .int 0, .int 0, .int 0, .int 0, .long 0, .int 0, .int 0, .int 0, .ref 542, .int 0, .int 0, .int 0, .int 0, .ref 543, .int 0, .int 0, .ref 544, .ref 545, .int 0, .ref 546, .int 0, .int 0, .ref 547, .ref 548, .null, .null, .null, .int 0, .null, .null]) rfl (by omega) (Nat.le_of_ble_eq_true rfl)
noncomputable def dv28 (L : Nat) (xs : Nat → Int32) : Wd := wnew (dv27 L xs) (.inl (.int, 8, .inl (fun _ => 0))) 8
theorem dv28_n (L : Nat) (xs : Nat → Int32) : (dv28 L xs).2 = (551, 55541) := (by show ((dv27 L xs).2.1 + 1, (dv27 L xs).2.2 + 8) = _; rw [dv27_n])
noncomputable def dv29 (L : Nat) (xs : Nat → Int32) : Wd := wst (dv28 L xs) 537 (.inr (2, [.ref 538, .ref 539, .ref 540, .ref 541, .int 0, .int (-1), .int (-1), .int 0, .int 0, .int 0, .int 0, .long 0, .int 0, .int 0, .int 0, .ref 542, .int 0, .int 0, .int 0, .int 0, .ref 543, .int 0, .int 0, .ref 544, .ref 545, .int 0, .ref 546, .int 0, .int 0, .ref 547, .ref 548, .ref 549, .ref 550, .null, .int 0, .null, .null]))
theorem dv29_n (L : Nat) (xs : Nat → Int32) : (dv29 L xs).2 = (551, 55541) := dv28_n L xs
theorem dv29_s (L : Nat) (xs : Nat → Int32) : pf (dv28 L xs) (some 537) 2 32 (.ref 550) = some (dv29 L xs) := pf_at (l := [.ref 538, .ref 539, .ref 540, .ref 541, .int 0, .int (-1), .int (-1), .int 0, .int 0, .int 0, .int 0, .long 0, .int 0, .int 0, .int 0, .ref 542, .int 0, .int 0, .int 0, .int 0, .ref 543, .int 0, .int 0, .ref 544, .ref 545, .int 0, .ref 546, .int 0, .int 0, .ref 547, .ref 548, .ref 549, .null, .null, .int 0, .null, .null]) rfl (by omega) (Nat.le_of_ble_eq_true rfl)
noncomputable def dv30 (L : Nat) (xs : Nat → Int32) : Wd := wnew (dv29 L xs) (.inl (.int, 8, .inl (fun _ => 0))) 8
theorem dv30_n (L : Nat) (xs : Nat → Int32) : (dv30 L xs).2 = (552, 55549) := (by show ((dv29 L xs).2.1 + 1, (dv29 L xs).2.2 + 8) = _; rw [dv29_n])
noncomputable def dv31 (L : Nat) (xs : Nat → Int32) : Wd := wst (dv30 L xs) 537 (.inr (2, [.ref 538, .ref 539, .ref 540, .ref 541, .int 0, .int (-1), .int (-1), .int 0, .int 0, .int 0, .int 0, .long 0, .int 0, .int 0, .int 0, .ref 542, .int 0, .int 0, .int 0, .int 0, .ref 543, .int 0, .int 0, .ref 544, .ref 545, .int 0, .ref 546, .int 0, .int 0, .ref 547, .ref 548, .ref 549, .ref 550, .ref 551, .int 0, .null, .null]))
theorem dv31_n (L : Nat) (xs : Nat → Int32) : (dv31 L xs).2 = (552, 55549) := dv30_n L xs
theorem dv31_s (L : Nat) (xs : Nat → Int32) : pf (dv30 L xs) (some 537) 2 33 (.ref 551) = some (dv31 L xs) := pf_at (l := [.ref 538, .ref 539, .ref 540, .ref 541, .int 0, .int (-1), .int (-1), .int 0, .int 0, .int 0, .int 0, .long 0, .int 0, .int 0, .int 0, .ref 542, .int 0, .int 0, .int 0, .int 0, .ref 543, .int 0, .int 0, .ref 544, .ref 545, .int 0, .ref 546, .int 0, .int 0, .ref 547, .ref 548, .ref 549, .ref 550, .null, .int 0, .null, .null]) rfl (by omega) (Nat.le_of_ble_eq_true rfl)
noncomputable def dv32 (L : Nat) (xs : Nat → Int32) : Wd := wnew (dv31 L xs) (.inl (.int, 8, .inl (fun _ => 0))) 8
theorem dv32_n (L : Nat) (xs : Nat → Int32) : (dv32 L xs).2 = (553, 55557) := (by show ((dv31 L xs).2.1 + 1, (dv31 L xs).2.2 + 8) = _; rw [dv31_n])
noncomputable def dv33 (L : Nat) (xs : Nat → Int32) : Wd := wst (dv32 L xs) 537 (.inr (2, [.ref 538, .ref 539, .ref 540, .ref 541, .int 0, .int (-1), .int (-1), .int 0, .int 0, .int 0, .int 0, .long 0, .int 0, .int 0, .int 0, .ref 542, .int 0, .int 0, .int 0, .int 0, .ref 543, .int 0, .int 0, .ref 544, .ref 545, .int 0, .ref 546, .int 0, .int 0, .ref 547, .ref 548, .ref 549, .ref 550, .ref 551, .int 0, .ref 552, .null]))
theorem dv33_n (L : Nat) (xs : Nat → Int32) : (dv33 L xs).2 = (553, 55557) := dv32_n L xs
theorem dv33_s (L : Nat) (xs : Nat → Int32) : pf (dv32 L xs) (some 537) 2 35 (.ref 552) = some (dv33 L xs) := pf_at (l := [.ref 538, .ref 539, .ref 540, .ref 541, .int 0, .int (-1), .int (-1), .int 0, .int 0, .int 0, .int 0, .long 0, .int 0, .int 0, .int 0, .ref 542, .int 0, .int 0, .int 0, .int 0, .ref 543, .int 0, .int 0, .ref 544, .ref 545, .int 0, .ref 546, .int 0, .int 0, .ref 547, .ref 548, .ref 549, .ref 550, .ref 551, .int 0, .null, .null]) rfl (by omega) (Nat.le_of_ble_eq_true rfl)
noncomputable def dv34 (L : Nat) (xs : Nat → Int32) : Wd := wnew (dv33 L xs) (.inl (.int, 8, .inl (fun _ => 0))) 8
theorem dv34_n (L : Nat) (xs : Nat → Int32) : (dv34 L xs).2 = (554, 55565) := (by show ((dv33 L xs).2.1 + 1, (dv33 L xs).2.2 + 8) = _; rw [dv33_n])
noncomputable def dv35 (L : Nat) (xs : Nat → Int32) : Wd := wst (dv34 L xs) 537 (.inr (2, [.ref 538, .ref 539, .ref 540, .ref 541, .int 0, .int (-1), .int (-1), .int 0, .int 0, .int 0, .int 0, .long 0, .int 0, .int 0, .int 0, .ref 542, .int 0, .int 0, .int 0, .int 0, .ref 543, .int 0, .int 0, .ref 544, .ref 545, .int 0, .ref 546, .int 0, .int 0, .ref 547, .ref 548, .ref 549, .ref 550, .ref 551, .int 0, .ref 552, .ref 553]))
theorem dv35_n (L : Nat) (xs : Nat → Int32) : (dv35 L xs).2 = (554, 55565) := dv34_n L xs
theorem dv35_s (L : Nat) (xs : Nat → Int32) : pf (dv34 L xs) (some 537) 2 36 (.ref 553) = some (dv35 L xs) := pf_at (l := [.ref 538, .ref 539, .ref 540, .ref 541, .int 0, .int (-1), .int (-1), .int 0, .int 0, .int 0, .int 0, .long 0, .int 0, .int 0, .int 0, .ref 542, .int 0, .int 0, .int 0, .int 0, .ref 543, .int 0, .int 0, .ref 544, .ref 545, .int 0, .ref 546, .int 0, .int 0, .ref 547, .ref 548, .ref 549, .ref 550, .ref 551, .int 0, .ref 552, .null]) rfl (by omega) (Nat.le_of_ble_eq_true rfl)
noncomputable def dv36 (L : Nat) (xs : Nat → Int32) : Wd := wst (dv35 L xs) 538 (.inl (.int, 9834, .inl (upd (fun _ => 0) 1 2)))
theorem dv36_n (L : Nat) (xs : Nat → Int32) : (dv36 L xs).2 = (554, 55565) := dv35_n L xs
theorem dv36_s (L : Nat) (xs : Nat → Int32) : ias (dv35 L xs) (some 538) 1 2 = some (dv36 L xs) := ias_at (n := 1) (f := (fun _ => 0)) (len := 9834) rfl (by omega) (by decide +kernel) (by omega)
noncomputable def dv37 (L : Nat) (xs : Nat → Int32) : Wd := wst (dv36 L xs) 538 (.inl (.int, 9834, .inl (upd (upd (fun _ => 0) 1 2) 2 59)))
theorem dv37_n (L : Nat) (xs : Nat → Int32) : (dv37 L xs).2 = (554, 55565) := dv36_n L xs
theorem dv37_s (L : Nat) (xs : Nat → Int32) : ias (dv36 L xs) (some 538) 2 59 = some (dv37 L xs) := ias_at (n := 2) (f := (upd (fun _ => 0) 1 2)) (len := 9834) rfl (by omega) (by decide +kernel) (by omega)
noncomputable def dv38 (L : Nat) (xs : Nat → Int32) : Wd := wst (dv37 L xs) 538 (.inl (.int, 9834, .inl (upd (upd (upd (fun _ => 0) 1 2) 2 59) 4 (-1))))
theorem dv38_n (L : Nat) (xs : Nat → Int32) : (dv38 L xs).2 = (554, 55565) := dv37_n L xs
theorem dv38_s (L : Nat) (xs : Nat → Int32) : ias (dv37 L xs) (some 538) 4 (-1) = some (dv38 L xs) := ias_at (n := 4) (f := (upd (upd (fun _ => 0) 1 2) 2 59)) (len := 9834) rfl (by omega) (by decide +kernel) (by omega)
noncomputable def dv39 (L : Nat) (xs : Nat → Int32) : Wd := wst (dv38 L xs) 538 (.inl (.int, 9834, .inl (upd (upd (upd (upd (fun _ => 0) 1 2) 2 59) 4 (-1)) 12 5)))
theorem dv39_n (L : Nat) (xs : Nat → Int32) : (dv39 L xs).2 = (554, 55565) := dv38_n L xs
theorem dv39_s (L : Nat) (xs : Nat → Int32) : ias (dv38 L xs) (some 538) 12 5 = some (dv39 L xs) := ias_at (n := 12) (f := (upd (upd (upd (fun _ => 0) 1 2) 2 59) 4 (-1))) (len := 9834) rfl (by omega) (by decide +kernel) (by omega)
noncomputable def dv40 (L : Nat) (xs : Nat → Int32) : Wd := wst (dv39 L xs) 538 (.inl (.int, 9834, .inl (upd (upd (upd (upd (upd (fun _ => 0) 1 2) 2 59) 4 (-1)) 12 5) 17 (-1))))
theorem dv40_n (L : Nat) (xs : Nat → Int32) : (dv40 L xs).2 = (554, 55565) := dv39_n L xs
theorem dv40_s (L : Nat) (xs : Nat → Int32) : ias (dv39 L xs) (some 538) 17 (-1) = some (dv40 L xs) := ias_at (n := 17) (f := (upd (upd (upd (upd (fun _ => 0) 1 2) 2 59) 4 (-1)) 12 5)) (len := 9834) rfl (by omega) (by decide +kernel) (by omega)
set_option maxRecDepth 100000 in
theorem X2_upto (L : Nat) (xs : Nat → Int32) : mX2_init 537 (dv1 L xs) = (cal (dv40 L xs) (mX2_copy (some 538) (some 539) (dv40 L xs))).bind fun r64 => some ((), r64.2) := by
  unfold mX2_init
  refine bind_step rfl ?_
  refine bind_step rfl ?_
  refine bind_step rfl ?_
  refine bind_step (dv3_s L xs) ?_
  refine bind_step rfl ?_
  refine bind_step rfl ?_
  refine bind_step (dv5_s L xs) ?_
  refine bind_step rfl ?_
  refine bind_step rfl ?_
  refine bind_step (dv7_s L xs) ?_
  refine bind_step rfl ?_
  refine bind_step rfl ?_
  refine bind_step (dv9_s L xs) ?_
  refine bind_step (dv10_s L xs) ?_
  refine bind_step (dv11_s L xs) ?_
  refine bind_step rfl ?_
  refine bind_step rfl ?_
  refine bind_step (dv13_s L xs) ?_
  refine bind_step rfl ?_
  refine bind_step rfl ?_
  refine bind_step (dv15_s L xs) ?_
  refine bind_step rfl ?_
  refine bind_step rfl ?_
  refine bind_step (dv17_s L xs) ?_
  refine bind_step rfl ?_
  refine bind_step rfl ?_
  refine bind_step (dv19_s L xs) ?_
  refine bind_step rfl ?_
  refine bind_step rfl ?_
  refine bind_step (dv21_s L xs) ?_
  refine bind_step rfl ?_
  refine bind_step rfl ?_
  refine bind_step (dv23_s L xs) ?_
  refine bind_step rfl ?_
  refine bind_step rfl ?_
  refine bind_step (dv25_s L xs) ?_
  refine bind_step rfl ?_
  refine bind_step rfl ?_
  refine bind_step (dv27_s L xs) ?_
  refine bind_step rfl ?_
  refine bind_step rfl ?_
  refine bind_step (dv29_s L xs) ?_
  refine bind_step rfl ?_
  refine bind_step rfl ?_
  refine bind_step (dv31_s L xs) ?_
  refine bind_step rfl ?_
  refine bind_step rfl ?_
  refine bind_step (dv33_s L xs) ?_
  refine bind_step rfl ?_
  refine bind_step rfl ?_
  refine bind_step (dv35_s L xs) ?_
  refine bind_step (gR_at (l := [.ref 538, .ref 539, .ref 540, .ref 541, .int 0, .int (-1), .int (-1), .int 0, .int 0, .int 0, .int 0, .long 0, .int 0, .int 0, .int 0, .ref 542, .int 0, .int 0, .int 0, .int 0, .ref 543, .int 0, .int 0, .ref 544, .ref 545, .int 0, .ref 546, .int 0, .int 0, .ref 547, .ref 548, .ref 549, .ref 550, .ref 551, .int 0, .ref 552, .ref 553]) rfl rfl) ?_
  refine bind_step (dv36_s L xs) ?_
  refine bind_step (gR_at (l := [.ref 538, .ref 539, .ref 540, .ref 541, .int 0, .int (-1), .int (-1), .int 0, .int 0, .int 0, .int 0, .long 0, .int 0, .int 0, .int 0, .ref 542, .int 0, .int 0, .int 0, .int 0, .ref 543, .int 0, .int 0, .ref 544, .ref 545, .int 0, .ref 546, .int 0, .int 0, .ref 547, .ref 548, .ref 549, .ref 550, .ref 551, .int 0, .ref 552, .ref 553]) rfl rfl) ?_
  refine bind_step (dv37_s L xs) ?_
  refine bind_step (gR_at (l := [.ref 538, .ref 539, .ref 540, .ref 541, .int 0, .int (-1), .int (-1), .int 0, .int 0, .int 0, .int 0, .long 0, .int 0, .int 0, .int 0, .ref 542, .int 0, .int 0, .int 0, .int 0, .ref 543, .int 0, .int 0, .ref 544, .ref 545, .int 0, .ref 546, .int 0, .int 0, .ref 547, .ref 548, .ref 549, .ref 550, .ref 551, .int 0, .ref 552, .ref 553]) rfl rfl) ?_
  refine bind_step (dv38_s L xs) ?_
  refine bind_step (gR_at (l := [.ref 538, .ref 539, .ref 540, .ref 541, .int 0, .int (-1), .int (-1), .int 0, .int 0, .int 0, .int 0, .long 0, .int 0, .int 0, .int 0, .ref 542, .int 0, .int 0, .int 0, .int 0, .ref 543, .int 0, .int 0, .ref 544, .ref 545, .int 0, .ref 546, .int 0, .int 0, .ref 547, .ref 548, .ref 549, .ref 550, .ref 551, .int 0, .ref 552, .ref 553]) rfl rfl) ?_
  refine bind_step (dv39_s L xs) ?_
  refine bind_step (gR_at (l := [.ref 538, .ref 539, .ref 540, .ref 541, .int 0, .int (-1), .int (-1), .int 0, .int 0, .int 0, .int 0, .long 0, .int 0, .int 0, .int 0, .ref 542, .int 0, .int 0, .int 0, .int 0, .ref 543, .int 0, .int 0, .ref 544, .ref 545, .int 0, .ref 546, .int 0, .int 0, .ref 547, .ref 548, .ref 549, .ref 550, .ref 551, .int 0, .ref 552, .ref 553]) rfl rfl) ?_
  refine bind_step (dv40_s L xs) ?_
  refine bind_step (gR_at (l := [.ref 538, .ref 539, .ref 540, .ref 541, .int 0, .int (-1), .int (-1), .int 0, .int 0, .int 0, .int 0, .long 0, .int 0, .int 0, .int 0, .ref 542, .int 0, .int 0, .int 0, .int 0, .ref 543, .int 0, .int 0, .ref 544, .ref 545, .int 0, .ref 546, .int 0, .int 0, .ref 547, .ref 548, .ref 549, .ref 550, .ref 551, .int 0, .ref 552, .ref 553]) rfl rfl) ?_
  refine bind_step (gR_at (l := [.ref 538, .ref 539, .ref 540, .ref 541, .int 0, .int (-1), .int (-1), .int 0, .int 0, .int 0, .int 0, .long 0, .int 0, .int 0, .int 0, .ref 542, .int 0, .int 0, .int 0, .int 0, .ref 543, .int 0, .int 0, .ref 544, .ref 545, .int 0, .ref 546, .int 0, .int 0, .ref 547, .ref 548, .ref 549, .ref 550, .ref 551, .int 0, .ref 552, .ref 553]) rfl rfl) ?_
  rfl
/-- the numbers behind the model's constructor, ahead of its copy -/
def mu2 : Mu := fun k => if k = 537 then upd (upd (fun _ => 0) 5 (-1)) 6 (-1) else if k = 538 then (upd (upd (upd (upd (upd (fun _ => 0) 1 2) 2 59) 4 (-1)) 12 5) 17 (-1)) else if k < 537 then beM mu1 401 459 k else fun _ => 0
def zz2 (L : Nat) (xs : Nat → Int32) : Zt := ((fun _ _ => 0), (beZ (zz1 L xs) 401 459).2.1, f0 L xs, 554, 55565)
theorem dv_at (L : Nat) (xs : Nat → Int32) : ∀ i, i < 17 → (dv40 L xs).1 (537 + i) = celA (537 + i) (mu2 (537 + i)) (fun _ => 0) ((beZ (zz1 L xs) 401 459).2.1 (537 + i)) := by
  intro i h2
  match i, h2 with
  | 0, _ => rfl
  | 1, _ => rfl
  | 2, _ => rfl
  | 3, _ => rfl
  | 4, _ => rfl
  | 5, _ => rfl
  | 6, _ => rfl
  | 7, _ => rfl
  | 8, _ => rfl
  | 9, _ => rfl
  | 10, _ => rfl
  | 11, _ => rfl
  | 12, _ => rfl
  | 13, _ => rfl
  | 14, _ => rfl
  | 15, _ => rfl
  | 16, _ => rfl
  | i + 17, h2 => exact absurd h2 (by omega)
theorem dv_out (L : Nat) (xs : Nat → Int32) {k : Nat} (h : k < 537 ∨ 554 ≤ k) : (dv40 L xs).1 k = (dv0 L xs).1 k := by
  refine (wst_ne (w := dv39 L xs) (by omega)).trans ?_
  refine (wst_ne (w := dv38 L xs) (by omega)).trans ?_
  refine (wst_ne (w := dv37 L xs) (by omega)).trans ?_
  refine (wst_ne (w := dv36 L xs) (by omega)).trans ?_
  refine (wst_ne (w := dv35 L xs) (by omega)).trans ?_
  refine (wst_ne (w := dv34 L xs) (by omega)).trans ?_
  refine (wnew_ne (w := dv33 L xs) (by rw [dv33_n]; omega)).trans ?_
  refine (wst_ne (w := dv32 L xs) (by omega)).trans ?_
  refine (wnew_ne (w := dv31 L xs) (by rw [dv31_n]; omega)).trans ?_
  refine (wst_ne (w := dv30 L xs) (by omega)).trans ?_
  refine (wnew_ne (w := dv29 L xs) (by rw [dv29_n]; omega)).trans ?_
  refine (wst_ne (w := dv28 L xs) (by omega)).trans ?_
  refine (wnew_ne (w := dv27 L xs) (by rw [dv27_n]; omega)).trans ?_
  refine (wst_ne (w := dv26 L xs) (by omega)).trans ?_
  refine (wnew_ne (w := dv25 L xs) (by rw [dv25_n]; omega)).trans ?_
  refine (wst_ne (w := dv24 L xs) (by omega)).trans ?_
  refine (wnew_ne (w := dv23 L xs) (by rw [dv23_n]; omega)).trans ?_
  refine (wst_ne (w := dv22 L xs) (by omega)).trans ?_
  refine (wnew_ne (w := dv21 L xs) (by rw [dv21_n]; omega)).trans ?_
  refine (wst_ne (w := dv20 L xs) (by omega)).trans ?_
  refine (wnew_ne (w := dv19 L xs) (by rw [dv19_n]; omega)).trans ?_
  refine (wst_ne (w := dv18 L xs) (by omega)).trans ?_
  refine (wnew_ne (w := dv17 L xs) (by rw [dv17_n]; omega)).trans ?_
  refine (wst_ne (w := dv16 L xs) (by omega)).trans ?_
  refine (wnew_ne (w := dv15 L xs) (by rw [dv15_n]; omega)).trans ?_
  refine (wst_ne (w := dv14 L xs) (by omega)).trans ?_
  refine (wnew_ne (w := dv13 L xs) (by rw [dv13_n]; omega)).trans ?_
  refine (wst_ne (w := dv12 L xs) (by omega)).trans ?_
  refine (wnew_ne (w := dv11 L xs) (by rw [dv11_n]; omega)).trans ?_
  refine (wst_ne (w := dv10 L xs) (by omega)).trans ?_
  refine (wst_ne (w := dv9 L xs) (by omega)).trans ?_
  refine (wst_ne (w := dv8 L xs) (by omega)).trans ?_
  refine (wnew_ne (w := dv7 L xs) (by rw [dv7_n]; omega)).trans ?_
  refine (wst_ne (w := dv6 L xs) (by omega)).trans ?_
  refine (wnew_ne (w := dv5 L xs) (by rw [dv5_n]; omega)).trans ?_
  refine (wst_ne (w := dv4 L xs) (by omega)).trans ?_
  refine (wnew_ne (w := dv3 L xs) (by rw [dv3_n]; omega)).trans ?_
  refine (wst_ne (w := dv2 L xs) (by omega)).trans ?_
  refine (wnew_ne (w := dv1 L xs) (by rw [dv1_n]; omega)).trans ?_
  refine (wnew_ne (w := dv0 L xs) (by rw [dv0_n]; omega)).trans ?_
  rfl
theorem dv_E (L : Nat) (xs : Nat → Int32) : dv40 L xs = E mu2 (zz2 L xs) := by
  refine Prod.ext ?_ (dv40_n L xs)
  funext k
  show (dv40 L xs).1 k = if 400 ≤ k ∧ k < 554 then celA k (mu2 k) (fun _ => 0) ((beZ (zz1 L xs) 401 459).2.1 k) else f0 L xs k
  by_cases h : 537 ≤ k ∧ k < 554
  · rw [if_pos ⟨by omega, h.2⟩]
    obtain ⟨i, rfl⟩ : ∃ i, k = 537 + i := ⟨k - 537, by omega⟩
    exact dv_at L xs i (by omega)
  · rw [dv_out L xs (by omega)]
    show (if 400 ≤ k ∧ k < 537 then celA k (beM mu1 401 459 k) (fun _ => 0) ((beZ (zz1 L xs) 401 459).2.1 k) else f0 L xs k) = _
    by_cases h2 : 400 ≤ k ∧ k < 537
    · rw [if_pos h2, if_pos ⟨h2.1, by omega⟩]
      have e : mu2 k = beM mu1 401 459 k := by
        unfold mu2
        rw [if_neg (by omega), if_neg (by omega), if_pos h2.2]
      rw [e]
    · rw [if_neg h2, if_neg (by omega)]
/-- the first n numbers of an array copied, one by one -/
theorem cpy_step {f g : Nat → Int32} {i : Nat} : upd (va_cpy f g 0 0 i) i (f i) = va_cpy f g 0 0 (i + 1) := by
  funext j
  unfold upd va_cpy
  by_cases h : j = i
  · subst h
    rw [if_pos rfl, if_pos (by omega), Nat.zero_add, Nat.sub_zero]
  · rw [if_neg h]
    by_cases h1 : j < i
    · rw [if_pos (by omega), if_pos (by omega)]
    · rw [if_neg (by omega), if_neg (by omega)]
theorem setM_setM (μ : Mu) (k : Nat) (f g : Nat → Int32) : setM (setM μ k f) k g = setM μ k g := by
  funext q
  unfold setM
  by_cases h : q = k
  · rw [if_pos h, if_pos h]
  · rw [if_neg h, if_neg h, if_neg h]
theorem setM_id (μ : Mu) (k : Nat) : setM μ k (μ k) = μ := by
  funext q
  unfold setM
  by_cases h : q = k
  · rw [if_pos h, h]
  · rw [if_neg h]
theorem cpy_0 (f g : Nat → Int32) : va_cpy f g 0 0 0 = g := by
  funext j
  unfold va_cpy
  rw [if_neg (by omega)]
theorem mcopy_loop {μ : Mu} {z : Zt} {k k' : Nat} (h : isI k 9834) (h' : isI k' 9834) (hp : k < 554) (hp' : k' < 554) (hd : k ≠ k') : ∀ (d i fu : Nat) (l2 : Int32), 9834 = i + d → l2.toInt = (i : Int) → d < fu →
    mX2_copy_l2 fu (E (setM μ k' (va_cpy (μ k) (μ k') 0 0 i)) z) (some k) (some k') l2 = some ((), E (setM μ k' (va_cpy (μ k) (μ k') 0 0 9834)) z) := by
  intro d
  induction d with
  | zero =>
    intro i fu l2 hni h2 hf
    obtain ⟨f, rfl⟩ : ∃ f, fu = f + 1 := ⟨fu - 1, by omega⟩
    show mX2_copy_b2 _ _ _ _ _ = _
    unfold mX2_copy_b2
    have : (9834 : Int32) ≤ l2 := by
      rw [Int32.le_iff_toInt_le, h2]
      show (9834 : Int) ≤ _
      omega
    rw [if_pos this]
    have e : i = 9834 := by omega
    rw [e]
  | succ d ih =>
    intro i fu l2 hni h2 hf
    obtain ⟨f, rfl⟩ : ∃ f, fu = f + 1 := ⟨fu - 1, by omega⟩
    show mX2_copy_b2 _ _ _ _ _ = _
    unfold mX2_copy_b2
    have : ¬ (9834 : Int32) ≤ l2 := by
      rw [Int32.le_iff_toInt_le, h2]
      show ¬ (9834 : Int) ≤ _
      omega
    rw [if_neg this]
    refine bind_step (ia_E h h2 (by omega) hp) ?_
    refine bind_step (ias_E h' h2 (by omega) hp') ?_
    have e : up (setM μ k' (va_cpy (μ k) (μ k') 0 0 i)) k' i (setM μ k' (va_cpy (μ k) (μ k') 0 0 i) k i) = setM μ k' (va_cpy (μ k) (μ k') 0 0 (i + 1)) := by
      show setM (setM μ k' (va_cpy (μ k) (μ k') 0 0 i)) k' (upd (setM μ k' (va_cpy (μ k) (μ k') 0 0 i) k') i (setM μ k' (va_cpy (μ k) (μ k') 0 0 i) k i)) = _
      rw [setM_ne hd, setM_same, setM_setM, cpy_step]
    rw [e]
    exact ih (i + 1) f (l2 + 1) (by omega) (inc_I h2 (by omega)) (by omega)
theorem mcopy_E {μ : Mu} {z : Zt} {k k' : Nat} (h : isI k 9834) (h' : isI k' 9834) (hp : k < 554) (hp' : k' < 554) (hd : k ≠ k') : mX2_copy (some k) (some k') (E μ z) = some ((), E (setM μ k' (va_cpy (μ k) (μ k') 0 0 9834)) z) := by
  have h9 := mcopy_loop (μ := μ) (z := z) h h' hp hp' hd 9834 0 FU 0 (by omega) rfl (by show 9834 < 100000; omega)
  rw [cpy_0, setM_id] at h9
  exact h9
/-- the numbers at the law's loop -/
def mu3 : Mu := setM mu2 539 (va_cpy (mu2 538) (mu2 539) 0 0 9834)
/-- the law from its loop on -/
theorem law_loop (L : Nat) (xs : Nat → Int32) : mL_law (some 0) (w00 L xs) = mL_law_l18 FU (E mu3 (zz2 L xs)) (some 0) (some 400) (some 537) 0 := by
  unfold mL_law
  refine bind_step rfl ?_
  refine bind_step rfl ?_
  refine bind_step (cal_at (w := cv1 L xs) (X0_init_E L xs) (by show (cv1 L xs).2.1 ≤ 537; rw [cv1_n]; decide) (by show (cv1 L xs).2.2 ≤ 30454; rw [cv1_n]; decide)) ?_
  refine bind_step rfl ?_
  refine bind_step rfl ?_
  refine bind_step (cal_at (w := dv1 L xs) (w' := E mu3 (zz2 L xs)) (v := ()) ?_ (by show (dv1 L xs).2.1 ≤ 554; rw [dv1_n]; decide) (by show (dv1 L xs).2.2 ≤ 55565; rw [dv1_n]; decide)) ?_
  · refine (X2_upto L xs).trans ?_
    rw [dv_E]
    refine bind_step (cal_E (mcopy_E isI_538 isI_539 (by omega) (by omega) (by omega))) ?_
    rfl
  · rfl

