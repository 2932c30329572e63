/-! ===== the constructors, up to their copies ===== -/
theorem bind_step {α β : Type} {f : Option α} {a : α} {k : α → Option β} {r : Option β} (h : f = some a) (hk : k a = r) : f.bind k = r := by subst h; exact hk
theorem pf_at {w : Wd} {k ci j : Nat} {l : List Value} {v : Value} (h : w.1 k = some (.inr (ci, l))) (hk : 400 ≤ k) (hj : j < l.length) : pf w (some k) ci j v = some (wst w k (.inr (ci, l.set j v))) := by
  unfold pf ob
  simp only [Option.bind_some, h, if_true]
  exact if_pos ⟨hk, hj⟩
theorem ias_at {w : Wd} {k len n : Nat} {f : Nat → Int32} {i v : Int32} (h : w.1 k = some (.inl (.int, len, .inl f))) (hk : 400 ≤ k) (hi : i.toInt = (n : Int)) (hn : n < len) : ias w (some k) i v = some (wst w k (.inl (.int, len, .inl (upd f n v)))) := by
  obtain ⟨h1, h2⟩ := cl_of hi
  unfold ias arr
  simp only [Option.bind_some, h]
  rw [if_pos ⟨by first | rfl | trivial, hk, by rw [h2]; exact fun q => q.elim h1 (by omega)⟩, h2]
  rfl
theorem gR_at {w : Wd} {k ci j : Nat} {l : List Value} {r : Option Nat} (h : w.1 k = some (.inr (ci, l))) (hv : vR l[j]? = some r) : gR w (some k) ci j = some r := by
  unfold gR ob
  simp only [Option.bind_some, h, if_true]
  exact hv
theorem cal_at {ρ : Type} {w w' : Wd} {f : Option (ρ × Wd)} {v : ρ} (h : f = some (v, w')) (h1 : wnx w ≤ wnx w') (h2 : wsl w ≤ wsl w') : cal w f = some (v, w') := by
  subst h
  exact if_pos ⟨h1, h2⟩
def cv0 (L : Nat) (xs : Nat → Int32) : Wd := w00 L xs
theorem cv0_n (L : Nat) (xs : Nat → Int32) : (cv0 L xs).2 = (400, 0) := rfl
def cv1 (L : Nat) (xs : Nat → Int32) : Wd := wnew (cv0 L xs) (.inr (0, [.null, .null, .null, .int 0, .int 0, .int 0, .null, .int 0, .null, .int 0, .int 0, .null, .null, .null, .null, .null, .null, .null, .null, .null, .int 0, .int 0])) 22
theorem cv1_n (L : Nat) (xs : Nat → Int32) : (cv1 L xs).2 = (401, 22) := (by show ((cv0 L xs).2.1 + 1, (cv0 L xs).2.2 + 22) = _; rw [cv0_n])
def cv2 (L : Nat) (xs : Nat → Int32) : Wd := wnew (cv1 L xs) (.inr (1, [.null, .null, .null, .null, .null, .null, .null])) 7
theorem cv2_n (L : Nat) (xs : Nat → Int32) : (cv2 L xs).2 = (402, 29) := (by show ((cv1 L xs).2.1 + 1, (cv1 L xs).2.2 + 7) = _; rw [cv1_n])
def cv3 (L : Nat) (xs : Nat → Int32) : Wd := wnew (cv2 L xs) (.inl (.int, 7, .inl (fun _ => 0))) 7
theorem cv3_n (L : Nat) (xs : Nat → Int32) : (cv3 L xs).2 = (403, 36) := (by show ((cv2 L xs).2.1 + 1, (cv2 L xs).2.2 + 7) = _; rw [cv2_n])
def cv4 (L : Nat) (xs : Nat → Int32) : Wd := wst (cv3 L xs) 401 (.inr (1, [.ref 402, .null, .null, .null, .null, .null, .null]))
theorem cv4_n (L : Nat) (xs : Nat → Int32) : (cv4 L xs).2 = (403, 36) := cv3_n L xs
theorem cv4_s (L : Nat) (xs : Nat → Int32) : pf (cv3 L xs) (some 401) 1 0 (.ref 402) = some (cv4 L xs) := pf_at (l := [.null, .null, .null, .null, .null, .null, .null]) rfl (by omega) (Nat.le_of_ble_eq_true rfl)
def cv5 (L : Nat) (xs : Nat → Int32) : Wd := wnew (cv4 L xs) (.inl (.int, 413, .inl (fun _ => 0))) 413
theorem cv5_n (L : Nat) (xs : Nat → Int32) : (cv5 L xs).2 = (404, 449) := (by show ((cv4 L xs).2.1 + 1, (cv4 L xs).2.2 + 413) = _; rw [cv4_n])
def cv6 (L : Nat) (xs : Nat → Int32) : Wd := wst (cv5 L xs) 401 (.inr (1, [.ref 402, .ref 403, .null, .null, .null, .null, .null]))
theorem cv6_n (L : Nat) (xs : Nat → Int32) : (cv6 L xs).2 = (404, 449) := cv5_n L xs
theorem cv6_s (L : Nat) (xs : Nat → Int32) : pf (cv5 L xs) (some 401) 1 1 (.ref 403) = some (cv6 L xs) := pf_at (l := [.ref 402, .null, .null, .null, .null, .null, .null]) rfl (by omega) (Nat.le_of_ble_eq_true rfl)
def cv7 (L : Nat) (xs : Nat → Int32) : Wd := wnew2 (cv6 L xs) 8 5
theorem cv7_n (L : Nat) (xs : Nat → Int32) : (cv7 L xs).2 = (413, 497) := (by show ((cv6 L xs).2.1 + 1 + 8, (cv6 L xs).2.2 + 8 + 8 * 5) = _; rw [cv6_n])
def cv8 (L : Nat) (xs : Nat → Int32) : Wd := wst (cv7 L xs) 401 (.inr (1, [.ref 402, .ref 403, .ref 404, .null, .null, .null, .null]))
theorem cv8_n (L : Nat) (xs : Nat → Int32) : (cv8 L xs).2 = (413, 497) := cv7_n L xs
theorem cv8_s (L : Nat) (xs : Nat → Int32) : pf (cv7 L xs) (some 401) 1 2 (.ref 404) = some (cv8 L xs) := pf_at (l := [.ref 402, .ref 403, .null, .null, .null, .null, .null]) rfl (by omega) (Nat.le_of_ble_eq_true rfl)
def cv9 (L : Nat) (xs : Nat → Int32) : Wd := wnew2 (cv8 L xs) 8 2
theorem cv9_n (L : Nat) (xs : Nat → Int32) : (cv9 L xs).2 = (422, 521) := (by show ((cv8 L xs).2.1 + 1 + 8, (cv8 L xs).2.2 + 8 + 8 * 2) = _; rw [cv8_n])
def cv10 (L : Nat) (xs : Nat → Int32) : Wd := wst (cv9 L xs) 401 (.inr (1, [.ref 402, .ref 403, .ref 404, .ref 413, .null, .null, .null]))
theorem cv10_n (L : Nat) (xs : Nat → Int32) : (cv10 L xs).2 = (422, 521) := cv9_n L xs
theorem cv10_s (L : Nat) (xs : Nat → Int32) : pf (cv9 L xs) (some 401) 1 3 (.ref 413) = some (cv10 L xs) := pf_at (l := [.ref 402, .ref 403, .ref 404, .null, .null, .null, .null]) rfl (by omega) (Nat.le_of_ble_eq_true rfl)
def cv11 (L : Nat) (xs : Nat → Int32) : Wd := wnew2 (cv10 L xs) 4 4
theorem cv11_n (L : Nat) (xs : Nat → Int32) : (cv11 L xs).2 = (427, 541) := (by show ((cv10 L xs).2.1 + 1 + 4, (cv10 L xs).2.2 + 4 + 4 * 4) = _; rw [cv10_n])
def cv12 (L : Nat) (xs : Nat → Int32) : Wd := wst (cv11 L xs) 401 (.inr (1, [.ref 402, .ref 403, .ref 404, .ref 413, .ref 422, .null, .null]))
theorem cv12_n (L : Nat) (xs : Nat → Int32) : (cv12 L xs).2 = (427, 541) := cv11_n L xs
theorem cv12_s (L : Nat) (xs : Nat → Int32) : pf (cv11 L xs) (some 401) 1 4 (.ref 422) = some (cv12 L xs) := pf_at (l := [.ref 402, .ref 403, .ref 404, .ref 413, .null, .null, .null]) rfl (by omega) (Nat.le_of_ble_eq_true rfl)
def cv13 (L : Nat) (xs : Nat → Int32) : Wd := wnew2 (cv12 L xs) 30 413
theorem cv13_n (L : Nat) (xs : Nat → Int32) : (cv13 L xs).2 = (458, 12961) := (by show ((cv12 L xs).2.1 + 1 + 30, (cv12 L xs).2.2 + 30 + 30 * 413) = _; rw [cv12_n])
def cv14 (L : Nat) (xs : Nat → Int32) : Wd := wst (cv13 L xs) 401 (.inr (1, [.ref 402, .ref 403, .ref 404, .ref 413, .ref 422, .ref 427, .null]))
theorem cv14_n (L : Nat) (xs : Nat → Int32) : (cv14 L xs).2 = (458, 12961) := cv13_n L xs
theorem cv14_s (L : Nat) (xs : Nat → Int32) : pf (cv13 L xs) (some 401) 1 5 (.ref 427) = some (cv14 L xs) := pf_at (l := [.ref 402, .ref 403, .ref 404, .ref 413, .ref 422, .null, .null]) rfl (by omega) (Nat.le_of_ble_eq_true rfl)
def cv15 (L : Nat) (xs : Nat → Int32) : Wd := wnew (cv14 L xs) (.inl (.object "HookSwings$Text", 4, .inr (.inr (.inr (.inr (fun _ => none)))))) 4
theorem cv15_n (L : Nat) (xs : Nat → Int32) : (cv15 L xs).2 = (459, 12965) := (by show ((cv14 L xs).2.1 + 1, (cv14 L xs).2.2 + 4) = _; rw [cv14_n])
def cv16 (L : Nat) (xs : Nat → Int32) : Wd := wst (cv15 L xs) 401 (.inr (1, [.ref 402, .ref 403, .ref 404, .ref 413, .ref 422, .ref 427, .ref 458]))
theorem cv16_n (L : Nat) (xs : Nat → Int32) : (cv16 L xs).2 = (459, 12965) := cv15_n L xs
theorem cv16_s (L : Nat) (xs : Nat → Int32) : pf (cv15 L xs) (some 401) 1 6 (.ref 458) = some (cv16 L xs) := pf_at (l := [.ref 402, .ref 403, .ref 404, .ref 413, .ref 422, .ref 427, .null]) rfl (by omega) (Nat.le_of_ble_eq_true rfl)
def cv17 (L : Nat) (xs : Nat → Int32) : Wd := wst (cv16 L xs) 402 (.inl (.int, 7, .inl (upd (fun _ => 0) 3 (-1))))
theorem cv17_n (L : Nat) (xs : Nat → Int32) : (cv17 L xs).2 = (459, 12965) := cv16_n L xs
theorem cv17_s (L : Nat) (xs : Nat → Int32) : ias (cv16 L xs) (some 402) 3 (-1) = some (cv17 L xs) := ias_at (n := 3) (f := (fun _ => 0)) (len := 7) rfl (by omega) (by decide +kernel) (by omega)
def cv18 (L : Nat) (xs : Nat → Int32) : Wd := wst (cv17 L xs) 402 (.inl (.int, 7, .inl (upd (upd (fun _ => 0) 3 (-1)) 1 2)))
theorem cv18_n (L : Nat) (xs : Nat → Int32) : (cv18 L xs).2 = (459, 12965) := cv17_n L xs
theorem cv18_s (L : Nat) (xs : Nat → Int32) : ias (cv17 L xs) (some 402) 1 2 = some (cv18 L xs) := ias_at (n := 1) (f := (upd (fun _ => 0) 3 (-1))) (len := 7) rfl (by omega) (by decide +kernel) (by omega)
def cv19 (L : Nat) (xs : Nat → Int32) : Wd := wst (cv18 L xs) 403 (.inl (.int, 413, .inl (upd (fun _ => 0) 4 5)))
theorem cv19_n (L : Nat) (xs : Nat → Int32) : (cv19 L xs).2 = (459, 12965) := cv18_n L xs
theorem cv19_s (L : Nat) (xs : Nat → Int32) : ias (cv18 L xs) (some 403) 4 5 = some (cv19 L xs) := ias_at (n := 4) (f := (fun _ => 0)) (len := 413) rfl (by omega) (by decide +kernel) (by omega)
def cv20 (L : Nat) (xs : Nat → Int32) : Wd := wst (cv19 L xs) 403 (.inl (.int, 413, .inl (upd (upd (fun _ => 0) 4 5) 9 59)))
theorem cv20_n (L : Nat) (xs : Nat → Int32) : (cv20 L xs).2 = (459, 12965) := cv19_n L xs
theorem cv20_s (L : Nat) (xs : Nat → Int32) : ias (cv19 L xs) (some 403) 9 59 = some (cv20 L xs) := ias_at (n := 9) (f := (upd (fun _ => 0) 4 5)) (len := 413) rfl (by omega) (by decide +kernel) (by omega)
def cv21 (L : Nat) (xs : Nat → Int32) : Wd := wst (cv20 L xs) 403 (.inl (.int, 413, .inl (upd (upd (upd (fun _ => 0) 4 5) 9 59) 10 (-1))))
theorem cv21_n (L : Nat) (xs : Nat → Int32) : (cv21 L xs).2 = (459, 12965) := cv20_n L xs
theorem cv21_s (L : Nat) (xs : Nat → Int32) : ias (cv20 L xs) (some 403) 10 (-1) = some (cv21 L xs) := ias_at (n := 10) (f := (upd (upd (fun _ => 0) 4 5) 9 59)) (len := 413) rfl (by omega) (by decide +kernel) (by omega)
set_option maxRecDepth 100000 in
theorem st401 (L : Nat) (xs : Nat → Int32) : mX1_init 401 (cv2 L xs) = some ((), cv21 L xs) := by
  unfold mX1_init
  refine bind_step rfl ?_
  refine bind_step rfl ?_
  refine bind_step rfl ?_
  refine bind_step (cv4_s L xs) ?_
  refine bind_step rfl ?_
  refine bind_step rfl ?_
  refine bind_step (cv6_s L xs) ?_
  refine bind_step rfl ?_
  refine bind_step rfl ?_
  refine bind_step rfl ?_
  refine bind_step (cv8_s L xs) ?_
  refine bind_step rfl ?_
  refine bind_step rfl ?_
  refine bind_step rfl ?_
  refine bind_step (cv10_s L xs) ?_
  refine bind_step rfl ?_
  refine bind_step rfl ?_
  refine bind_step rfl ?_
  refine bind_step (cv12_s L xs) ?_
  refine bind_step rfl ?_
  refine bind_step rfl ?_
  refine bind_step rfl ?_
  refine bind_step (cv14_s L xs) ?_
  refine bind_step rfl ?_
  refine bind_step rfl ?_
  refine bind_step (cv16_s L xs) ?_
  refine bind_step (gR_at (l := [.ref 402, .ref 403, .ref 404, .ref 413, .ref 422, .ref 427, .ref 458]) rfl rfl) ?_
  refine bind_step (cv17_s L xs) ?_
  refine bind_step (gR_at (l := [.ref 402, .ref 403, .ref 404, .ref 413, .ref 422, .ref 427, .ref 458]) rfl rfl) ?_
  refine bind_step (cv18_s L xs) ?_
  refine bind_step (gR_at (l := [.ref 402, .ref 403, .ref 404, .ref 413, .ref 422, .ref 427, .ref 458]) rfl rfl) ?_
  refine bind_step (cv19_s L xs) ?_
  refine bind_step (gR_at (l := [.ref 402, .ref 403, .ref 404, .ref 413, .ref 422, .ref 427, .ref 458]) rfl rfl) ?_
  refine bind_step (cv20_s L xs) ?_
  refine bind_step (gR_at (l := [.ref 402, .ref 403, .ref 404, .ref 413, .ref 422, .ref 427, .ref 458]) rfl rfl) ?_
  refine bind_step (cv21_s L xs) ?_
  rfl
def cv22 (L : Nat) (xs : Nat → Int32) : Wd := wst (cv21 L xs) 400 (.inr (0, [.ref 401, .null, .null, .int 0, .int 0, .int 0, .null, .int 0, .null, .int 0, .int 0, .null, .null, .null, .null, .null, .null, .null, .null, .null, .int 0, .int 0]))
theorem cv22_n (L : Nat) (xs : Nat → Int32) : (cv22 L xs).2 = (459, 12965) := cv21_n L xs
theorem cv22_s (L : Nat) (xs : Nat → Int32) : pf (cv21 L xs) (some 400) 0 0 (.ref 401) = some (cv22 L xs) := pf_at (l := [.null, .null, .null, .int 0, .int 0, .int 0, .null, .int 0, .null, .int 0, .int 0, .null, .null, .null, .null, .null, .null, .null, .null, .null, .int 0, .int 0]) rfl (by omega) (Nat.le_of_ble_eq_true rfl)
def cv23 (L : Nat) (xs : Nat → Int32) : Wd := wnew (cv22 L xs) (.inr (1, [.null, .null, .null, .null, .null, .null, .null])) 7
theorem cv23_n (L : Nat) (xs : Nat → Int32) : (cv23 L xs).2 = (460, 12972) := (by show ((cv22 L xs).2.1 + 1, (cv22 L xs).2.2 + 7) = _; rw [cv22_n])
def cv24 (L : Nat) (xs : Nat → Int32) : Wd := wnew (cv23 L xs) (.inl (.int, 7, .inl (fun _ => 0))) 7
theorem cv24_n (L : Nat) (xs : Nat → Int32) : (cv24 L xs).2 = (461, 12979) := (by show ((cv23 L xs).2.1 + 1, (cv23 L xs).2.2 + 7) = _; rw [cv23_n])
def cv25 (L : Nat) (xs : Nat → Int32) : Wd := wst (cv24 L xs) 459 (.inr (1, [.ref 460, .null, .null, .null, .null, .null, .null]))
theorem cv25_n (L : Nat) (xs : Nat → Int32) : (cv25 L xs).2 = (461, 12979) := cv24_n L xs
theorem cv25_s (L : Nat) (xs : Nat → Int32) : pf (cv24 L xs) (some 459) 1 0 (.ref 460) = some (cv25 L xs) := pf_at (l := [.null, .null, .null, .null, .null, .null, .null]) rfl (by omega) (Nat.le_of_ble_eq_true rfl)
def cv26 (L : Nat) (xs : Nat → Int32) : Wd := wnew (cv25 L xs) (.inl (.int, 413, .inl (fun _ => 0))) 413
theorem cv26_n (L : Nat) (xs : Nat → Int32) : (cv26 L xs).2 = (462, 13392) := (by show ((cv25 L xs).2.1 + 1, (cv25 L xs).2.2 + 413) = _; rw [cv25_n])
def cv27 (L : Nat) (xs : Nat → Int32) : Wd := wst (cv26 L xs) 459 (.inr (1, [.ref 460, .ref 461, .null, .null, .null, .null, .null]))
theorem cv27_n (L : Nat) (xs : Nat → Int32) : (cv27 L xs).2 = (462, 13392) := cv26_n L xs
theorem cv27_s (L : Nat) (xs : Nat → Int32) : pf (cv26 L xs) (some 459) 1 1 (.ref 461) = some (cv27 L xs) := pf_at (l := [.ref 460, .null, .null, .null, .null, .null, .null]) rfl (by omega) (Nat.le_of_ble_eq_true rfl)
def cv28 (L : Nat) (xs : Nat → Int32) : Wd := wnew2 (cv27 L xs) 8 5
theorem cv28_n (L : Nat) (xs : Nat → Int32) : (cv28 L xs).2 = (471, 13440) := (by show ((cv27 L xs).2.1 + 1 + 8, (cv27 L xs).2.2 + 8 + 8 * 5) = _; rw [cv27_n])
def cv29 (L : Nat) (xs : Nat → Int32) : Wd := wst (cv28 L xs) 459 (.inr (1, [.ref 460, .ref 461, .ref 462, .null, .null, .null, .null]))
theorem cv29_n (L : Nat) (xs : Nat → Int32) : (cv29 L xs).2 = (471, 13440) := cv28_n L xs
theorem cv29_s (L : Nat) (xs : Nat → Int32) : pf (cv28 L xs) (some 459) 1 2 (.ref 462) = some (cv29 L xs) := pf_at (l := [.ref 460, .ref 461, .null, .null, .null, .null, .null]) rfl (by omega) (Nat.le_of_ble_eq_true rfl)
def cv30 (L : Nat) (xs : Nat → Int32) : Wd := wnew2 (cv29 L xs) 8 2
theorem cv30_n (L : Nat) (xs : Nat → Int32) : (cv30 L xs).2 = (480, 13464) := (by show ((cv29 L xs).2.1 + 1 + 8, (cv29 L xs).2.2 + 8 + 8 * 2) = _; rw [cv29_n])
def cv31 (L : Nat) (xs : Nat → Int32) : Wd := wst (cv30 L xs) 459 (.inr (1, [.ref 460, .ref 461, .ref 462, .ref 471, .null, .null, .null]))
theorem cv31_n (L : Nat) (xs : Nat → Int32) : (cv31 L xs).2 = (480, 13464) := cv30_n L xs
theorem cv31_s (L : Nat) (xs : Nat → Int32) : pf (cv30 L xs) (some 459) 1 3 (.ref 471) = some (cv31 L xs) := pf_at (l := [.ref 460, .ref 461, .ref 462, .null, .null, .null, .null]) rfl (by omega) (Nat.le_of_ble_eq_true rfl)
def cv32 (L : Nat) (xs : Nat → Int32) : Wd := wnew2 (cv31 L xs) 4 4
theorem cv32_n (L : Nat) (xs : Nat → Int32) : (cv32 L xs).2 = (485, 13484) := (by show ((cv31 L xs).2.1 + 1 + 4, (cv31 L xs).2.2 + 4 + 4 * 4) = _; rw [cv31_n])
def cv33 (L : Nat) (xs : Nat → Int32) : Wd := wst (cv32 L xs) 459 (.inr (1, [.ref 460, .ref 461, .ref 462, .ref 471, .ref 480, .null, .null]))
theorem cv33_n (L : Nat) (xs : Nat → Int32) : (cv33 L xs).2 = (485, 13484) := cv32_n L xs
theorem cv33_s (L : Nat) (xs : Nat → Int32) : pf (cv32 L xs) (some 459) 1 4 (.ref 480) = some (cv33 L xs) := pf_at (l := [.ref 460, .ref 461, .ref 462, .ref 471, .null, .null, .null]) rfl (by omega) (Nat.le_of_ble_eq_true rfl)
def cv34 (L : Nat) (xs : Nat → Int32) : Wd := wnew2 (cv33 L xs) 30 413
theorem cv34_n (L : Nat) (xs : Nat → Int32) : (cv34 L xs).2 = (516, 25904) := (by show ((cv33 L xs).2.1 + 1 + 30, (cv33 L xs).2.2 + 30 + 30 * 413) = _; rw [cv33_n])
def cv35 (L : Nat) (xs : Nat → Int32) : Wd := wst (cv34 L xs) 459 (.inr (1, [.ref 460, .ref 461, .ref 462, .ref 471, .ref 480, .ref 485, .null]))
theorem cv35_n (L : Nat) (xs : Nat → Int32) : (cv35 L xs).2 = (516, 25904) := cv34_n L xs
theorem cv35_s (L : Nat) (xs : Nat → Int32) : pf (cv34 L xs) (some 459) 1 5 (.ref 485) = some (cv35 L xs) := pf_at (l := [.ref 460, .ref 461, .ref 462, .ref 471, .ref 480, .null, .null]) rfl (by omega) (Nat.le_of_ble_eq_true rfl)
def cv36 (L : Nat) (xs : Nat → Int32) : Wd := wnew (cv35 L xs) (.inl (.object "HookSwings$Text", 4, .inr (.inr (.inr (.inr (fun _ => none)))))) 4
theorem cv36_n (L : Nat) (xs : Nat → Int32) : (cv36 L xs).2 = (517, 25908) := (by show ((cv35 L xs).2.1 + 1, (cv35 L xs).2.2 + 4) = _; rw [cv35_n])
def cv37 (L : Nat) (xs : Nat → Int32) : Wd := wst (cv36 L xs) 459 (.inr (1, [.ref 460, .ref 461, .ref 462, .ref 471, .ref 480, .ref 485, .ref 516]))
theorem cv37_n (L : Nat) (xs : Nat → Int32) : (cv37 L xs).2 = (517, 25908) := cv36_n L xs
theorem cv37_s (L : Nat) (xs : Nat → Int32) : pf (cv36 L xs) (some 459) 1 6 (.ref 516) = some (cv37 L xs) := pf_at (l := [.ref 460, .ref 461, .ref 462, .ref 471, .ref 480, .ref 485, .null]) rfl (by omega) (Nat.le_of_ble_eq_true rfl)
def cv38 (L : Nat) (xs : Nat → Int32) : Wd := wst (cv37 L xs) 460 (.inl (.int, 7, .inl (upd (fun _ => 0) 3 (-1))))
theorem cv38_n (L : Nat) (xs : Nat → Int32) : (cv38 L xs).2 = (517, 25908) := cv37_n L xs
theorem cv38_s (L : Nat) (xs : Nat → Int32) : ias (cv37 L xs) (some 460) 3 (-1) = some (cv38 L xs) := ias_at (n := 3) (f := (fun _ => 0)) (len := 7) rfl (by omega) (by decide +kernel) (by omega)
def cv39 (L : Nat) (xs : Nat → Int32) : Wd := wst (cv38 L xs) 460 (.inl (.int, 7, .inl (upd (upd (fun _ => 0) 3 (-1)) 1 2)))
theorem cv39_n (L : Nat) (xs : Nat → Int32) : (cv39 L xs).2 = (517, 25908) := cv38_n L xs
theorem cv39_s (L : Nat) (xs : Nat → Int32) : ias (cv38 L xs) (some 460) 1 2 = some (cv39 L xs) := ias_at (n := 1) (f := (upd (fun _ => 0) 3 (-1))) (len := 7) rfl (by omega) (by decide +kernel) (by omega)
def cv40 (L : Nat) (xs : Nat → Int32) : Wd := wst (cv39 L xs) 461 (.inl (.int, 413, .inl (upd (fun _ => 0) 4 5)))
theorem cv40_n (L : Nat) (xs : Nat → Int32) : (cv40 L xs).2 = (517, 25908) := cv39_n L xs
theorem cv40_s (L : Nat) (xs : Nat → Int32) : ias (cv39 L xs) (some 461) 4 5 = some (cv40 L xs) := ias_at (n := 4) (f := (fun _ => 0)) (len := 413) rfl (by omega) (by decide +kernel) (by omega)
def cv41 (L : Nat) (xs : Nat → Int32) : Wd := wst (cv40 L xs) 461 (.inl (.int, 413, .inl (upd (upd (fun _ => 0) 4 5) 9 59)))
theorem cv41_n (L : Nat) (xs : Nat → Int32) : (cv41 L xs).2 = (517, 25908) := cv40_n L xs
theorem cv41_s (L : Nat) (xs : Nat → Int32) : ias (cv40 L xs) (some 461) 9 59 = some (cv41 L xs) := ias_at (n := 9) (f := (upd (fun _ => 0) 4 5)) (len := 413) rfl (by omega) (by decide +kernel) (by omega)
def cv42 (L : Nat) (xs : Nat → Int32) : Wd := wst (cv41 L xs) 461 (.inl (.int, 413, .inl (upd (upd (upd (fun _ => 0) 4 5) 9 59) 10 (-1))))
theorem cv42_n (L : Nat) (xs : Nat → Int32) : (cv42 L xs).2 = (517, 25908) := cv41_n L xs
theorem cv42_s (L : Nat) (xs : Nat → Int32) : ias (cv41 L xs) (some 461) 10 (-1) = some (cv42 L xs) := ias_at (n := 10) (f := (upd (upd (fun _ => 0) 4 5) 9 59)) (len := 413) rfl (by omega) (by decide +kernel) (by omega)
set_option maxRecDepth 100000 in
theorem st459 (L : Nat) (xs : Nat → Int32) : mX1_init 459 (cv23 L xs) = some ((), cv42 L xs) := by
  unfold mX1_init
  refine bind_step rfl ?_
  refine bind_step rfl ?_
  refine bind_step rfl ?_
  refine bind_step (cv25_s L xs) ?_
  refine bind_step rfl ?_
  refine bind_step rfl ?_
  refine bind_step (cv27_s L xs) ?_
  refine bind_step rfl ?_
  refine bind_step rfl ?_
  refine bind_step rfl ?_
  refine bind_step (cv29_s L xs) ?_
  refine bind_step rfl ?_
  refine bind_step rfl ?_
  refine bind_step rfl ?_
  refine bind_step (cv31_s L xs) ?_
  refine bind_step rfl ?_
  refine bind_step rfl ?_
  refine bind_step rfl ?_
  refine bind_step (cv33_s L xs) ?_
  refine bind_step rfl ?_
  refine bind_step rfl ?_
  refine bind_step rfl ?_
  refine bind_step (cv35_s L xs) ?_
  refine bind_step rfl ?_
  refine bind_step rfl ?_
  refine bind_step (cv37_s L xs) ?_
  refine bind_step (gR_at (l := [.ref 460, .ref 461, .ref 462, .ref 471, .ref 480, .ref 485, .ref 516]) rfl rfl) ?_
  refine bind_step (cv38_s L xs) ?_
  refine bind_step (gR_at (l := [.ref 460, .ref 461, .ref 462, .ref 471, .ref 480, .ref 485, .ref 516]) rfl rfl) ?_
  refine bind_step (cv39_s L xs) ?_
  refine bind_step (gR_at (l := [.ref 460, .ref 461, .ref 462, .ref 471, .ref 480, .ref 485, .ref 516]) rfl rfl) ?_
  refine bind_step (cv40_s L xs) ?_
  refine bind_step (gR_at (l := [.ref 460, .ref 461, .ref 462, .ref 471, .ref 480, .ref 485, .ref 516]) rfl rfl) ?_
  refine bind_step (cv41_s L xs) ?_
  refine bind_step (gR_at (l := [.ref 460, .ref 461, .ref 462, .ref 471, .ref 480, .ref 485, .ref 516]) rfl rfl) ?_
  refine bind_step (cv42_s L xs) ?_
  rfl
def cv43 (L : Nat) (xs : Nat → Int32) : Wd := wst (cv42 L xs) 400 (.inr (0, [.ref 401, .ref 459, .null, .int 0, .int 0, .int 0, .null, .int 0, .null, .int 0, .int 0, .null, .null, .null, .null, .null, .null, .null, .null, .null, .int 0, .int 0]))
theorem cv43_n (L : Nat) (xs : Nat → Int32) : (cv43 L xs).2 = (517, 25908) := cv42_n L xs
theorem cv43_s (L : Nat) (xs : Nat → Int32) : pf (cv42 L xs) (some 400) 0 1 (.ref 459) = some (cv43 L xs) := pf_at (l := [.ref 401, .null, .null, .int 0, .int 0, .int 0, .null, .int 0, .null, .int 0, .int 0, .null, .null, .null, .null, .null, .null, .null, .null, .null, .int 0, .int 0]) rfl (by omega) (Nat.le_of_ble_eq_true rfl)
def cv44 (L : Nat) (xs : Nat → Int32) : Wd := wnew (cv43 L xs) (.inl (.byte, 300, .inl (fun _ => 0))) 300
theorem cv44_n (L : Nat) (xs : Nat → Int32) : (cv44 L xs).2 = (518, 26208) := (by show ((cv43 L xs).2.1 + 1, (cv43 L xs).2.2 + 300) = _; rw [cv43_n])
def cv45 (L : Nat) (xs : Nat → Int32) : Wd := wst (cv44 L xs) 400 (.inr (0, [.ref 401, .ref 459, .ref 517, .int 0, .int 0, .int 0, .null, .int 0, .null, .int 0, .int 0, .null, .null, .null, .null, .null, .null, .null, .null, .null, .int 0, .int 0]))
theorem cv45_n (L : Nat) (xs : Nat → Int32) : (cv45 L xs).2 = (518, 26208) := cv44_n L xs
theorem cv45_s (L : Nat) (xs : Nat → Int32) : pf (cv44 L xs) (some 400) 0 2 (.ref 517) = some (cv45 L xs) := pf_at (l := [.ref 401, .ref 459, .null, .int 0, .int 0, .int 0, .null, .int 0, .null, .int 0, .int 0, .null, .null, .null, .null, .null, .null, .null, .null, .null, .int 0, .int 0]) rfl (by omega) (Nat.le_of_ble_eq_true rfl)
def cv46 (L : Nat) (xs : Nat → Int32) : Wd := wst (cv45 L xs) 400 (.inr (0, [.ref 401, .ref 459, .ref 517, .int 0, .int (-1), .int 0, .null, .int 0, .null, .int 0, .int 0, .null, .null, .null, .null, .null, .null, .null, .null, .null, .int 0, .int 0]))
theorem cv46_n (L : Nat) (xs : Nat → Int32) : (cv46 L xs).2 = (518, 26208) := cv45_n L xs
theorem cv46_s (L : Nat) (xs : Nat → Int32) : pf (cv45 L xs) (some 400) 0 4 (.int (-1)) = some (cv46 L xs) := pf_at (l := [.ref 401, .ref 459, .ref 517, .int 0, .int 0, .int 0, .null, .int 0, .null, .int 0, .int 0, .null, .null, .null, .null, .null, .null, .null, .null, .null, .int 0, .int 0]) rfl (by omega) (Nat.le_of_ble_eq_true rfl)
def cv47 (L : Nat) (xs : Nat → Int32) : Wd := wst (cv46 L xs) 400 (.inr (0, [.ref 401, .ref 459, .ref 517, .int 0, .int (-1), .int (-1), .null, .int 0, .null, .int 0, .int 0, .null, .null, .null, .null, .null, .null, .null, .null, .null, .int 0, .int 0]))
theorem cv47_n (L : Nat) (xs : Nat → Int32) : (cv47 L xs).2 = (518, 26208) := cv46_n L xs
theorem cv47_s (L : Nat) (xs : Nat → Int32) : pf (cv46 L xs) (some 400) 0 5 (.int (-1)) = some (cv47 L xs) := pf_at (l := [.ref 401, .ref 459, .ref 517, .int 0, .int (-1), .int 0, .null, .int 0, .null, .int 0, .int 0, .null, .null, .null, .null, .null, .null, .null, .null, .null, .int 0, .int 0]) rfl (by omega) (Nat.le_of_ble_eq_true rfl)
def cv48 (L : Nat) (xs : Nat → Int32) : Wd := wnew (cv47 L xs) (.inl (.int, 53, .inl (fun _ => 0))) 53
theorem cv48_n (L : Nat) (xs : Nat → Int32) : (cv48 L xs).2 = (519, 26261) := (by show ((cv47 L xs).2.1 + 1, (cv47 L xs).2.2 + 53) = _; rw [cv47_n])
def cv49 (L : Nat) (xs : Nat → Int32) : Wd := wst (cv48 L xs) 400 (.inr (0, [.ref 401, .ref 459, .ref 517, .int 0, .int (-1), .int (-1), .ref 518, .int 0, .null, .int 0, .int 0, .null, .null, .null, .null, .null, .null, .null, .null, .null, .int 0, .int 0]))
theorem cv49_n (L : Nat) (xs : Nat → Int32) : (cv49 L xs).2 = (519, 26261) := cv48_n L xs
theorem cv49_s (L : Nat) (xs : Nat → Int32) : pf (cv48 L xs) (some 400) 0 6 (.ref 518) = some (cv49 L xs) := pf_at (l := [.ref 401, .ref 459, .ref 517, .int 0, .int (-1), .int (-1), .null, .int 0, .null, .int 0, .int 0, .null, .null, .null, .null, .null, .null, .null, .null, .null, .int 0, .int 0]) rfl (by omega) (Nat.le_of_ble_eq_true rfl)
def cv50 (L : Nat) (xs : Nat → Int32) : Wd := wnew (cv49 L xs) (.inl (.int, 413, .inl (fun _ => 0))) 413
theorem cv50_n (L : Nat) (xs : Nat → Int32) : (cv50 L xs).2 = (520, 26674) := (by show ((cv49 L xs).2.1 + 1, (cv49 L xs).2.2 + 413) = _; rw [cv49_n])
def cv51 (L : Nat) (xs : Nat → Int32) : Wd := wst (cv50 L xs) 400 (.inr (0, [.ref 401, .ref 459, .ref 517, .int 0, .int (-1), .int (-1), .ref 518, .int 0, .ref 519, .int 0, .int 0, .null, .null, .null, .null, .null, .null, .null, .null, .null, .int 0, .int 0]))
theorem cv51_n (L : Nat) (xs : Nat → Int32) : (cv51 L xs).2 = (520, 26674) := cv50_n L xs
theorem cv51_s (L : Nat) (xs : Nat → Int32) : pf (cv50 L xs) (some 400) 0 8 (.ref 519) = some (cv51 L xs) := pf_at (l := [.ref 401, .ref 459, .ref 517, .int 0, .int (-1), .int (-1), .ref 518, .int 0, .null, .int 0, .int 0, .null, .null, .null, .null, .null, .null, .null, .null, .null, .int 0, .int 0]) rfl (by omega) (Nat.le_of_ble_eq_true rfl)
def cv52 (L : Nat) (xs : Nat → Int32) : Wd := wnew2 (cv51 L xs) 8 413
theorem cv52_n (L : Nat) (xs : Nat → Int32) : (cv52 L xs).2 = (529, 29986) := (by show ((cv51 L xs).2.1 + 1 + 8, (cv51 L xs).2.2 + 8 + 8 * 413) = _; rw [cv51_n])
def cv53 (L : Nat) (xs : Nat → Int32) : Wd := wst (cv52 L xs) 400 (.inr (0, [.ref 401, .ref 459, .ref 517, .int 0, .int (-1), .int (-1), .ref 518, .int 0, .ref 519, .int 0, .int 0, .ref 520, .null, .null, .null, .null, .null, .null, .null, .null, .int 0, .int 0]))
theorem cv53_n (L : Nat) (xs : Nat → Int32) : (cv53 L xs).2 = (529, 29986) := cv52_n L xs
theorem cv53_s (L : Nat) (xs : Nat → Int32) : pf (cv52 L xs) (some 400) 0 11 (.ref 520) = some (cv53 L xs) := pf_at (l := [.ref 401, .ref 459, .ref 517, .int 0, .int (-1), .int (-1), .ref 518, .int 0, .ref 519, .int 0, .int 0, .null, .null, .null, .null, .null, .null, .null, .null, .null, .int 0, .int 0]) rfl (by omega) (Nat.le_of_ble_eq_true rfl)
def cv54 (L : Nat) (xs : Nat → Int32) : Wd := wnew (cv53 L xs) (.inl (.int, 7, .inl (fun _ => 0))) 7
theorem cv54_n (L : Nat) (xs : Nat → Int32) : (cv54 L xs).2 = (530, 29993) := (by show ((cv53 L xs).2.1 + 1, (cv53 L xs).2.2 + 7) = _; rw [cv53_n])
def cv55 (L : Nat) (xs : Nat → Int32) : Wd := wst (cv54 L xs) 400 (.inr (0, [.ref 401, .ref 459, .ref 517, .int 0, .int (-1), .int (-1), .ref 518, .int 0, .ref 519, .int 0, .int 0, .ref 520, .ref 529, .null, .null, .null, .null, .null, .null, .null, .int 0, .int 0]))
theorem cv55_n (L : Nat) (xs : Nat → Int32) : (cv55 L xs).2 = (530, 29993) := cv54_n L xs
theorem cv55_s (L : Nat) (xs : Nat → Int32) : pf (cv54 L xs) (some 400) 0 12 (.ref 529) = some (cv55 L xs) := pf_at (l := [.ref 401, .ref 459, .ref 517, .int 0, .int (-1), .int (-1), .ref 518, .int 0, .ref 519, .int 0, .int 0, .ref 520, .null, .null, .null, .null, .null, .null, .null, .null, .int 0, .int 0]) rfl (by omega) (Nat.le_of_ble_eq_true rfl)
def cv56 (L : Nat) (xs : Nat → Int32) : Wd := wnew (cv55 L xs) (.inl (.int, 413, .inl (fun _ => 0))) 413
theorem cv56_n (L : Nat) (xs : Nat → Int32) : (cv56 L xs).2 = (531, 30406) := (by show ((cv55 L xs).2.1 + 1, (cv55 L xs).2.2 + 413) = _; rw [cv55_n])
def cv57 (L : Nat) (xs : Nat → Int32) : Wd := wst (cv56 L xs) 400 (.inr (0, [.ref 401, .ref 459, .ref 517, .int 0, .int (-1), .int (-1), .ref 518, .int 0, .ref 519, .int 0, .int 0, .ref 520, .ref 529, .ref 530, .null, .null, .null, .null, .null, .null, .int 0, .int 0]))
theorem cv57_n (L : Nat) (xs : Nat → Int32) : (cv57 L xs).2 = (531, 30406) := cv56_n L xs
theorem cv57_s (L : Nat) (xs : Nat → Int32) : pf (cv56 L xs) (some 400) 0 13 (.ref 530) = some (cv57 L xs) := pf_at (l := [.ref 401, .ref 459, .ref 517, .int 0, .int (-1), .int (-1), .ref 518, .int 0, .ref 519, .int 0, .int 0, .ref 520, .ref 529, .null, .null, .null, .null, .null, .null, .null, .int 0, .int 0]) rfl (by omega) (Nat.le_of_ble_eq_true rfl)
def cv58 (L : Nat) (xs : Nat → Int32) : Wd := wnew (cv57 L xs) (.inl (.int, 8, .inl (fun _ => 0))) 8
theorem cv58_n (L : Nat) (xs : Nat → Int32) : (cv58 L xs).2 = (532, 30414) := (by show ((cv57 L xs).2.1 + 1, (cv57 L xs).2.2 + 8) = _; rw [cv57_n])
def cv59 (L : Nat) (xs : Nat → Int32) : Wd := wst (cv58 L xs) 400 (.inr (0, [.ref 401, .ref 459, .ref 517, .int 0, .int (-1), .int (-1), .ref 518, .int 0, .ref 519, .int 0, .int 0, .ref 520, .ref 529, .ref 530, .ref 531, .null, .null, .null, .null, .null, .int 0, .int 0]))
theorem cv59_n (L : Nat) (xs : Nat → Int32) : (cv59 L xs).2 = (532, 30414) := cv58_n L xs
theorem cv59_s (L : Nat) (xs : Nat → Int32) : pf (cv58 L xs) (some 400) 0 14 (.ref 531) = some (cv59 L xs) := pf_at (l := [.ref 401, .ref 459, .ref 517, .int 0, .int (-1), .int (-1), .ref 518, .int 0, .ref 519, .int 0, .int 0, .ref 520, .ref 529, .ref 530, .null, .null, .null, .null, .null, .null, .int 0, .int 0]) rfl (by omega) (Nat.le_of_ble_eq_true rfl)
def cv60 (L : Nat) (xs : Nat → Int32) : Wd := wnew (cv59 L xs) (.inl (.int, 8, .inl (fun _ => 0))) 8
theorem cv60_n (L : Nat) (xs : Nat → Int32) : (cv60 L xs).2 = (533, 30422) := (by show ((cv59 L xs).2.1 + 1, (cv59 L xs).2.2 + 8) = _; rw [cv59_n])
def cv61 (L : Nat) (xs : Nat → Int32) : Wd := wst (cv60 L xs) 400 (.inr (0, [.ref 401, .ref 459, .ref 517, .int 0, .int (-1), .int (-1), .ref 518, .int 0, .ref 519, .int 0, .int 0, .ref 520, .ref 529, .ref 530, .ref 531, .ref 532, .null, .null, .null, .null, .int 0, .int 0]))
theorem cv61_n (L : Nat) (xs : Nat → Int32) : (cv61 L xs).2 = (533, 30422) := cv60_n L xs
theorem cv61_s (L : Nat) (xs : Nat → Int32) : pf (cv60 L xs) (some 400) 0 15 (.ref 532) = some (cv61 L xs) := pf_at (l := [.ref 401, .ref 459, .ref 517, .int 0, .int (-1), .int (-1), .ref 518, .int 0, .ref 519, .int 0, .int 0, .ref 520, .ref 529, .ref 530, .ref 531, .null, .null, .null, .null, .null, .int 0, .int 0]) rfl (by omega) (Nat.le_of_ble_eq_true rfl)
def cv62 (L : Nat) (xs : Nat → Int32) : Wd := wnew (cv61 L xs) (.inl (.int, 8, .inl (fun _ => 0))) 8
theorem cv62_n (L : Nat) (xs : Nat → Int32) : (cv62 L xs).2 = (534, 30430) := (by show ((cv61 L xs).2.1 + 1, (cv61 L xs).2.2 + 8) = _; rw [cv61_n])
def cv63 (L : Nat) (xs : Nat → Int32) : Wd := wst (cv62 L xs) 400 (.inr (0, [.ref 401, .ref 459, .ref 517, .int 0, .int (-1), .int (-1), .ref 518, .int 0, .ref 519, .int 0, .int 0, .ref 520, .ref 529, .ref 530, .ref 531, .ref 532, .ref 533, .null, .null, .null, .int 0, .int 0]))
theorem cv63_n (L : Nat) (xs : Nat → Int32) : (cv63 L xs).2 = (534, 30430) := cv62_n L xs
theorem cv63_s (L : Nat) (xs : Nat → Int32) : pf (cv62 L xs) (some 400) 0 16 (.ref 533) = some (cv63 L xs) := pf_at (l := [.ref 401, .ref 459, .ref 517, .int 0, .int (-1), .int (-1), .ref 518, .int 0, .ref 519, .int 0, .int 0, .ref 520, .ref 529, .ref 530, .ref 531, .ref 532, .null, .null, .null, .null, .int 0, .int 0]) rfl (by omega) (Nat.le_of_ble_eq_true rfl)
def cv64 (L : Nat) (xs : Nat → Int32) : Wd := wnew (cv63 L xs) (.inl (.int, 8, .inl (fun _ => 0))) 8
theorem cv64_n (L : Nat) (xs : Nat → Int32) : (cv64 L xs).2 = (535, 30438) := (by show ((cv63 L xs).2.1 + 1, (cv63 L xs).2.2 + 8) = _; rw [cv63_n])
def cv65 (L : Nat) (xs : Nat → Int32) : Wd := wst (cv64 L xs) 400 (.inr (0, [.ref 401, .ref 459, .ref 517, .int 0, .int (-1), .int (-1), .ref 518, .int 0, .ref 519, .int 0, .int 0, .ref 520, .ref 529, .ref 530, .ref 531, .ref 532, .ref 533, .ref 534, .null, .null, .int 0, .int 0]))
theorem cv65_n (L : Nat) (xs : Nat → Int32) : (cv65 L xs).2 = (535, 30438) := cv64_n L xs
theorem cv65_s (L : Nat) (xs : Nat → Int32) : pf (cv64 L xs) (some 400) 0 17 (.ref 534) = some (cv65 L xs) := pf_at (l := [.ref 401, .ref 459, .ref 517, .int 0, .int (-1), .int (-1), .ref 518, .int 0, .ref 519, .int 0, .int 0, .ref 520, .ref 529, .ref 530, .ref 531, .ref 532, .ref 533, .null, .null, .null, .int 0, .int 0]) rfl (by omega) (Nat.le_of_ble_eq_true rfl)
def cv66 (L : Nat) (xs : Nat → Int32) : Wd := wnew (cv65 L xs) (.inl (.int, 8, .inl (fun _ => 0))) 8
theorem cv66_n (L : Nat) (xs : Nat → Int32) : (cv66 L xs).2 = (536, 30446) := (by show ((cv65 L xs).2.1 + 1, (cv65 L xs).2.2 + 8) = _; rw [cv65_n])
def cv67 (L : Nat) (xs : Nat → Int32) : Wd := wst (cv66 L xs) 400 (.inr (0, [.ref 401, .ref 459, .ref 517, .int 0, .int (-1), .int (-1), .ref 518, .int 0, .ref 519, .int 0, .int 0, .ref 520, .ref 529, .ref 530, .ref 531, .ref 532, .ref 533, .ref 534, .ref 535, .null, .int 0, .int 0]))
theorem cv67_n (L : Nat) (xs : Nat → Int32) : (cv67 L xs).2 = (536, 30446) := cv66_n L xs
theorem cv67_s (L : Nat) (xs : Nat → Int32) : pf (cv66 L xs) (some 400) 0 18 (.ref 535) = some (cv67 L xs) := pf_at (l := [.ref 401, .ref 459, .ref 517, .int 0, .int (-1), .int (-1), .ref 518, .int 0, .ref 519, .int 0, .int 0, .ref 520, .ref 529, .ref 530, .ref 531, .ref 532, .ref 533, .ref 534, .null, .null, .int 0, .int 0]) rfl (by omega) (Nat.le_of_ble_eq_true rfl)
def cv68 (L : Nat) (xs : Nat → Int32) : Wd := wnew (cv67 L xs) (.inl (.int, 8, .inl (fun _ => 0))) 8
theorem cv68_n (L : Nat) (xs : Nat → Int32) : (cv68 L xs).2 = (537, 30454) := (by show ((cv67 L xs).2.1 + 1, (cv67 L xs).2.2 + 8) = _; rw [cv67_n])
def cv69 (L : Nat) (xs : Nat → Int32) : Wd := wst (cv68 L xs) 400 (.inr (0, [.ref 401, .ref 459, .ref 517, .int 0, .int (-1), .int (-1), .ref 518, .int 0, .ref 519, .int 0, .int 0, .ref 520, .ref 529, .ref 530, .ref 531, .ref 532, .ref 533, .ref 534, .ref 535, .ref 536, .int 0, .int 0]))
theorem cv69_n (L : Nat) (xs : Nat → Int32) : (cv69 L xs).2 = (537, 30454) := cv68_n L xs
theorem cv69_s (L : Nat) (xs : Nat → Int32) : pf (cv68 L xs) (some 400) 0 19 (.ref 536) = some (cv69 L xs) := pf_at (l := [.ref 401, .ref 459, .ref 517, .int 0, .int (-1), .int (-1), .ref 518, .int 0, .ref 519, .int 0, .int 0, .ref 520, .ref 529, .ref 530, .ref 531, .ref 532, .ref 533, .ref 534, .ref 535, .null, .int 0, .int 0]) rfl (by omega) (Nat.le_of_ble_eq_true rfl)
set_option maxRecDepth 100000 in
theorem X0_upto (L : Nat) (xs : Nat → Int32) : mX0_init 400 (cv1 L xs) = (cal (cv69 L xs) (mX1_be 459 (some 401) (cv69 L xs))).bind fun r51 => some ((), r51.2) := by
  unfold mX0_init
  refine bind_step rfl ?_
  refine bind_step rfl ?_
  refine bind_step rfl ?_
  refine bind_step (cal_at (st401 L xs) (by show (cv2 L xs).2.1 ≤ (cv21 L xs).2.1; rw [cv2_n, cv21_n]; decide) (by show (cv2 L xs).2.2 ≤ (cv21 L xs).2.2; rw [cv2_n, cv21_n]; decide)) ?_
  refine bind_step (cv22_s L xs) ?_
  refine bind_step rfl ?_
  refine bind_step rfl ?_
  refine bind_step (cal_at (st459 L xs) (by show (cv23 L xs).2.1 ≤ (cv42 L xs).2.1; rw [cv23_n, cv42_n]; decide) (by show (cv23 L xs).2.2 ≤ (cv42 L xs).2.2; rw [cv23_n, cv42_n]; decide)) ?_
  refine bind_step (cv43_s L xs) ?_
  refine bind_step rfl ?_
  refine bind_step rfl ?_
  refine bind_step (cv45_s L xs) ?_
  refine bind_step (cv46_s L xs) ?_
  refine bind_step (cv47_s L xs) ?_
  refine bind_step rfl ?_
  refine bind_step rfl ?_
  refine bind_step (cv49_s L xs) ?_
  refine bind_step rfl ?_
  refine bind_step rfl ?_
  refine bind_step (cv51_s L xs) ?_
  refine bind_step rfl ?_
  refine bind_step rfl ?_
  refine bind_step rfl ?_
  refine bind_step (cv53_s L xs) ?_
  refine bind_step rfl ?_
  refine bind_step rfl ?_
  refine bind_step (cv55_s L xs) ?_
  refine bind_step rfl ?_
  refine bind_step rfl ?_
  refine bind_step (cv57_s L xs) ?_
  refine bind_step rfl ?_
  refine bind_step rfl ?_
  refine bind_step (cv59_s L xs) ?_
  refine bind_step rfl ?_
  refine bind_step rfl ?_
  refine bind_step (cv61_s L xs) ?_
  refine bind_step rfl ?_
  refine bind_step rfl ?_
  refine bind_step (cv63_s L xs) ?_
  refine bind_step rfl ?_
  refine bind_step rfl ?_
  refine bind_step (cv65_s L xs) ?_
  refine bind_step rfl ?_
  refine bind_step rfl ?_
  refine bind_step (cv67_s L xs) ?_
  refine bind_step rfl ?_
  refine bind_step rfl ?_
  refine bind_step (cv69_s L xs) ?_
  refine bind_step (gR_at (l := [.ref 401, .ref 459, .ref 517, .int 0, .int (-1), .int (-1), .ref 518, .int 0, .ref 519, .int 0, .int 0, .ref 520, .ref 529, .ref 530, .ref 531, .ref 532, .ref 533, .ref 534, .ref 535, .ref 536, .int 0, .int 0]) rfl rfl) ?_
  refine bind_step (gR_at (l := [.ref 401, .ref 459, .ref 517, .int 0, .int (-1), .int (-1), .ref 518, .int 0, .ref 519, .int 0, .int 0, .ref 520, .ref 529, .ref 530, .ref 531, .ref 532, .ref 533, .ref 534, .ref 535, .ref 536, .int 0, .int 0]) rfl rfl) ?_
  refine bind_step rfl ?_
  rfl
