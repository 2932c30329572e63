/-! ===== the fixed cells of both objects: contents by labels ===== -/
-- labels: 400 HookSwings, 401 now, 402 n, 403 row, 404.. order, 413.. said, 422.. bar, 427.. step, 458 text; 459 image and its; 517 tape, 518 names, 519 tried, 520.. gone, 529 commands, 530 waiting, 531 which, 532 lasts, 533 row, 534 best, 535 begins, 536 bestBegins;
-- 537 HookSwingsModel, 538 a, 539 image, 540 texts, 541 tape, 542 pile, 543 named, 544 values, 545 truth, 546 aside, 547 pastAside, 548 member, 549 length, 550 row, 551 bestRow, 552 begins, 553 bestBegins
abbrev Mu : Type := Nat → Nat → Int32
abbrev Zt : Type := (Nat → Nat → Int64) × (Nat → Nat → Option Nat) × (Nat → Option Cel) × Nat × Nat
/-- the length of a fixed array of ints -/
def lenI (k : Nat) : Nat := if k = 402 then 7 else if k = 403 then 413 else if 405 ≤ k ∧ k ≤ 412 then 5 else if 414 ≤ k ∧ k ≤ 421 then 2 else if 423 ≤ k ∧ k ≤ 426 then 4 else if 428 ≤ k ∧ k ≤ 457 then 413 else if k = 460 then 7 else if k = 461 then 413 else if 463 ≤ k ∧ k ≤ 470 then 5 else if 472 ≤ k ∧ k ≤ 479 then 2 else if 481 ≤ k ∧ k ≤ 484 then 4 else if 486 ≤ k ∧ k ≤ 515 then 413 else if k = 518 then 53 else if k = 519 then 413 else if 521 ≤ k ∧ k ≤ 528 then 413 else if k = 529 then 7 else if k = 530 then 413 else if k = 531 then 8 else if k = 532 then 8 else if k = 533 then 8 else if k = 534 then 8 else if k = 535 then 8 else if k = 536 then 8 else if k = 538 then 9834 else if k = 539 then 9834 else if k = 540 then 3012 else if k = 541 then 300 else if k = 542 then 160 else if k = 543 then 8 else if k = 546 then 18 else if k = 547 then 1200 else if k = 548 then 8 else if k = 549 then 8 else if k = 550 then 8 else if k = 551 then 8 else if k = 552 then 8 else if k = 553 then 8 else 0
/-- a fixed cell, by its contents -/
def celA (k : Nat) (m : Nat → Int32) (n : Nat → Int64) (r : Nat → Option Nat) : Option Cel :=
  if k = 400 then some (.inr (0, [.ref 401, .ref 459, .ref 517, .int (m 3), .int (m 4), .int (m 5), .ref 518, .int (m 7), .ref 519, .int (m 9), .int (m 10), .ref 520, .ref 529, .ref 530, .ref 531, .ref 532, .ref 533, .ref 534, .ref 535, .ref 536, .int (m 20), .int (m 21)]))
  else if k = 401 then some (.inr (1, [.ref 402, .ref 403, .ref 404, .ref 413, .ref 422, .ref 427, .ref 458])) else if k = 459 then some (.inr (1, [.ref 460, .ref 461, .ref 462, .ref 471, .ref 480, .ref 485, .ref 516]))
  else if k = 537 then some (.inr (2, [.ref 538, .ref 539, .ref 540, .ref 541, .int (m 4), .int (m 5), .int (m 6), .int (m 7), .int (m 8), .int (m 9), .int (m 10), .long (n 11), .int (m 12), .int (m 13), .int (m 14), .ref 542, .int (m 16), .int (m 17), .int (m 18), .int (m 19), .ref 543, .int (m 21), .int (m 22), .ref 544, .ref 545, .int (m 25), .ref 546, .int (m 27), .int (m 28), .ref 547, .ref 548, .ref 549, .ref 550, .ref 551, .int (m 34), .ref 552, .ref 553]))
  else if k = 517 then some (.inl (.byte, 300, .inl m)) else if k = 544 then some (.inl (.long, 330, .inr (.inl n))) else if k = 545 then some (.inl (.boolean, 330, .inl m))
  else if k = 458 then some (.inl (.object "HookSwings$Text", 4, .inr (.inr (.inr (.inr r))))) else if k = 516 then some (.inl (.object "HookSwings$Text", 4, .inr (.inr (.inr (.inr r)))))
  else if k = 404 then some (.inl (.array .int, 8, .inr (.inr (.inr (.inr (fun i => some (405 + i))))))) else if k = 413 then some (.inl (.array .int, 8, .inr (.inr (.inr (.inr (fun i => some (414 + i))))))) else if k = 422 then some (.inl (.array .int, 4, .inr (.inr (.inr (.inr (fun i => some (423 + i))))))) else if k = 427 then some (.inl (.array .int, 30, .inr (.inr (.inr (.inr (fun i => some (428 + i))))))) else if k = 462 then some (.inl (.array .int, 8, .inr (.inr (.inr (.inr (fun i => some (463 + i))))))) else if k = 471 then some (.inl (.array .int, 8, .inr (.inr (.inr (.inr (fun i => some (472 + i))))))) else if k = 480 then some (.inl (.array .int, 4, .inr (.inr (.inr (.inr (fun i => some (481 + i))))))) else if k = 485 then some (.inl (.array .int, 30, .inr (.inr (.inr (.inr (fun i => some (486 + i))))))) else if k = 520 then some (.inl (.array .int, 8, .inr (.inr (.inr (.inr (fun i => some (521 + i)))))))
  else some (.inl (.int, lenI k, .inl m))
/-- the world by its contents: the fixed cells' numbers, and z: their longs, their texts, all else, the next label, the slots used -/
def Ep (p : Nat) (μ : Mu) (z : Zt) : Wd := (fun k => if 400 ≤ k ∧ k < p then celA k (μ k) (z.1 k) (z.2.1 k) else z.2.2.1 k, z.2.2.2.1, z.2.2.2.2)
abbrev E (μ : Mu) (z : Zt) : Wd := Ep 554 μ z
def setM (μ : Mu) (k : Nat) (f : Nat → Int32) : Mu := fun k' => if k' = k then f else μ k'
abbrev up (μ : Mu) (k j : Nat) (v : Int32) : Mu := setM μ k (upd (μ k) j v)
theorem setM_same (μ : Mu) (k : Nat) (f : Nat → Int32) : setM μ k f k = f := if_pos rfl
theorem setM_ne {μ : Mu} {k k' : Nat} {f : Nat → Int32} (h : k' ≠ k) : setM μ k f k' = μ k' := if_neg h
theorem E_at {p : Nat} {μ : Mu} {z : Zt} {k : Nat} (h : 400 ≤ k) (hp : k < p) : (Ep p μ z).1 k = celA k (μ k) (z.1 k) (z.2.1 k) := if_pos ⟨h, hp⟩
/-- writing a fixed cell -/
theorem E_wst {p : Nat} {μ : Mu} {z : Zt} {k : Nat} {f : Nat → Int32} {e : Cel} (h : 400 ≤ k) (hp : k < p) (he : celA k f (z.1 k) (z.2.1 k) = some e) : wst (Ep p μ z) k e = Ep p (setM μ k f) z := by
  unfold wst Ep
  congr 1
  funext q
  by_cases hq : q = k
  · subst hq
    simp only [if_true]
    rw [if_pos ⟨h, hp⟩, setM_same, he]
  · rw [if_neg hq]
    by_cases h2 : 400 ≤ q ∧ q < p
    · simp only [if_pos h2, setM_ne hq]
    · simp only [if_neg h2]
def isI (k len : Nat) : Prop := 400 ≤ k ∧ ∀ m n r, celA k m n r = some (.inl (.int, len, .inl m))
theorem cl_of {i : Int32} {n : Nat} (h : i.toInt = (n : Int)) : ¬ i < 0 ∧ i.toNatClampNeg = n := by
  constructor
  · intro q
    have := Int32.lt_iff_toInt_lt.mp q
    simp at this
    omega
  · show i.toInt.toNat = n
    rw [h]
    rfl
theorem ia_E {p9 : Nat} {μ : Mu} {z : Zt} {k len n : Nat} {i : Int32} (h : isI k len) (hi : i.toInt = (n : Int)) (hn : n < len) (hp : k < p9 := by omega) : ia (Ep p9 μ z) (some k) i = some (μ k n) := by
  obtain ⟨h1, h2⟩ := cl_of hi
  unfold ia arr
  simp only [Option.bind_some, E_at h.1 hp, h.2]
  rw [if_pos ⟨by first | rfl | trivial, by rw [h2]; exact fun q => q.elim h1 (by omega)⟩, h2]
  rfl
theorem ias_E {p9 : Nat} {μ : Mu} {z : Zt} {k len n : Nat} {i v : Int32} (h : isI k len) (hi : i.toInt = (n : Int)) (hn : n < len) (hp : k < p9 := by omega) : ias (Ep p9 μ z) (some k) i v = some (Ep p9 (up μ k n v) z) := by
  obtain ⟨h1, h2⟩ := cl_of hi
  unfold ias arr
  simp only [Option.bind_some, E_at h.1 hp, h.2]
  rw [if_pos ⟨by first | rfl | trivial, h.1, by rw [h2]; exact fun q => q.elim h1 (by omega)⟩, h2]
  show some (wst (Ep p9 μ z) k (.inl (.int, len, .inl (upd (μ k) n v)))) = _
  rw [E_wst h.1 hp (f := upd (μ k) n v) (h.2 _ _ _)]
theorem alen_E {p9 : Nat} {μ : Mu} {z : Zt} {k len : Nat} (h : isI k len) (hp : k < p9 := by omega) : alen (Ep p9 μ z) (some k) = some (Int32.ofNat len) := by
  unfold alen arr
  simp only [Option.bind_some, E_at h.1 hp, h.2]
def isF (k ci j : Nat) : Prop := 400 ≤ k ∧ ∀ m n r v, ∃ l, celA k m n r = some (.inr (ci, l)) ∧ j < l.length ∧ celA k (upd m j v) n r = some (.inr (ci, l.set j (.int v)))
theorem pf_E {p9 : Nat} {μ : Mu} {z : Zt} {k ci j : Nat} {v : Int32} (h : isF k ci j) (hp : k < p9 := by omega) : pf (Ep p9 μ z) (some k) ci j (.int v) = some (Ep p9 (up μ k j v) z) := by
  obtain ⟨l, h1, h2, h3⟩ := h.2 (μ k) (z.1 k) (z.2.1 k) v
  unfold pf ob
  simp only [Option.bind_some, E_at h.1 hp, h1, if_true]
  rw [if_pos ⟨h.1, h2⟩, E_wst h.1 hp h3]
theorem cal_E {ρ : Type} {p9 : Nat} {μ μ' : Mu} {z : Zt} {f : Option (ρ × Wd)} {v : ρ} (h : f = some (v, Ep p9 μ' z)) : cal (Ep p9 μ z) f = some (v, Ep p9 μ' z) := by
  subst h
  unfold cal
  exact if_pos ⟨Nat.le_refl _, Nat.le_refl _⟩
theorem cal_Z {ρ : Type} {p9 p9' : Nat} {μ μ' : Mu} {z z' : Zt} {f : Option (ρ × Wd)} {v : ρ} (h : f = some (v, Ep p9' μ' z')) (h1 : z.2.2.2.1 ≤ z'.2.2.2.1) (h2 : z.2.2.2.2 ≤ z'.2.2.2.2) : cal (Ep p9 μ z) f = some (v, Ep p9' μ' z') := by
  subst h
  unfold cal
  exact if_pos ⟨h1, h2⟩
/-- an array of arrays of ints: their labels begin at b -/
def isA (k b len : Nat) : Prop := 400 ≤ k ∧ ∀ m n r, celA k m n r = some (.inl (.array .int, len, .inr (.inr (.inr (.inr (fun i => some (b + i)))))))
theorem aa_E {p9 : Nat} {μ : Mu} {z : Zt} {k b len n : Nat} {i : Int32} (h : isA k b len) (hi : i.toInt = (n : Int)) (hn : n < len) (hp : k < p9 := by omega) : aa (Ep p9 μ z) (some k) i = some (some (b + n)) := by
  obtain ⟨h1, h2⟩ := cl_of hi
  unfold aa arr
  simp only [Option.bind_some, E_at h.1 hp, h.2]
  rw [if_pos ⟨by first | rfl | trivial, by rw [h2]; exact fun q => q.elim h1 (by omega)⟩, h2]
  rfl
theorem alen_A {p9 : Nat} {μ : Mu} {z : Zt} {k b len : Nat} (h : isA k b len) (hp : k < p9 := by omega) : alen (Ep p9 μ z) (some k) = some (Int32.ofNat len) := by
  unfold alen arr
  simp only [Option.bind_some, E_at h.1 hp, h.2]
/-- arrays of texts -/
def isX (k : Nat) : Prop := 400 ≤ k ∧ ∀ m n r, celA k m n r = some (.inl (.object "HookSwings$Text", 4, .inr (.inr (.inr (.inr r)))))
theorem aaX_E {p9 : Nat} {μ : Mu} {z : Zt} {k n : Nat} {i : Int32} (h : isX k) (hi : i.toInt = (n : Int)) (hn : n < 4) (hp : k < p9 := by omega) : aa (Ep p9 μ z) (some k) i = some (z.2.1 k n) := by
  obtain ⟨h1, h2⟩ := cl_of hi
  unfold aa arr
  simp only [Option.bind_some, E_at h.1 hp, h.2]
  rw [if_pos ⟨by first | rfl | trivial, by rw [h2]; exact fun q => q.elim h1 (by omega)⟩, h2]
  rfl
/-- copying between arrays of ints -/
theorem acpI_E {p9 : Nat} {μ : Mu} {z : Zt} {k k' len len' p p' n : Nat} {i i' c : Int32} (h : isI k len) (h' : isI k' len') (hi : i.toInt = (p : Int)) (hi' : i'.toInt = (p' : Int)) (hc : c.toInt = (n : Int)) (h1 : p + n ≤ len) (h2 : p' + n ≤ len') (hp : k < p9 := by omega) (hp' : k' < p9 := by omega) : acpI (Ep p9 μ z) (some k) i (some k') i' c = some (Ep p9 (setM μ k' (va_cpy (μ k) (μ k') p p' n)) z) := by
  obtain ⟨a1, a2⟩ := cl_of hi
  obtain ⟨b1, b2⟩ := cl_of hi'
  obtain ⟨c1, c2⟩ := cl_of hc
  unfold acpI arr
  simp only [Option.bind_some, E_at h.1 hp, h.2, E_at h'.1 hp', h'.2]
  rw [if_pos ⟨by simp, ⟨h.1, h'.1⟩, ⟨a1, b1, c1⟩, by rw [a2, b2, c2]; exact ⟨h1, h2⟩⟩, a2, b2, c2]
  show some (wst (Ep p9 μ z) k' (.inl (.int, len', .inl (va_cpy (μ k) (μ k') p p' n)))) = _
  rw [E_wst h'.1 hp' (f := va_cpy (μ k) (μ k') p p' n) (h'.2 _ _ _)]

theorem gR_400_0 (p : Nat) (hp : 400 < p) (μ : Mu) (z : Zt) : gR (Ep p μ z) (some 400) 0 0 = some (some 401) := by unfold gR ob; simp only [Option.bind_some, E_at (show 400 ≤ 400 by omega) hp]; rfl
theorem gR_400_1 (p : Nat) (hp : 400 < p) (μ : Mu) (z : Zt) : gR (Ep p μ z) (some 400) 0 1 = some (some 459) := by unfold gR ob; simp only [Option.bind_some, E_at (show 400 ≤ 400 by omega) hp]; rfl
theorem gR_400_2 (p : Nat) (hp : 400 < p) (μ : Mu) (z : Zt) : gR (Ep p μ z) (some 400) 0 2 = some (some 517) := by unfold gR ob; simp only [Option.bind_some, E_at (show 400 ≤ 400 by omega) hp]; rfl
theorem gI_400_3 (p : Nat) (hp : 400 < p) (μ : Mu) (z : Zt) : gI (Ep p μ z) (some 400) 0 3 = some (μ 400 3) := by unfold gI ob; simp only [Option.bind_some, E_at (show 400 ≤ 400 by omega) hp]; rfl
theorem isF_400_3 : isF 400 0 3 := ⟨by omega, fun _ _ _ _ => ⟨_, rfl, Nat.le_of_ble_eq_true rfl, rfl⟩⟩
theorem gI_400_4 (p : Nat) (hp : 400 < p) (μ : Mu) (z : Zt) : gI (Ep p μ z) (some 400) 0 4 = some (μ 400 4) := by unfold gI ob; simp only [Option.bind_some, E_at (show 400 ≤ 400 by omega) hp]; rfl
theorem isF_400_4 : isF 400 0 4 := ⟨by omega, fun _ _ _ _ => ⟨_, rfl, Nat.le_of_ble_eq_true rfl, rfl⟩⟩
theorem gI_400_5 (p : Nat) (hp : 400 < p) (μ : Mu) (z : Zt) : gI (Ep p μ z) (some 400) 0 5 = some (μ 400 5) := by unfold gI ob; simp only [Option.bind_some, E_at (show 400 ≤ 400 by omega) hp]; rfl
theorem isF_400_5 : isF 400 0 5 := ⟨by omega, fun _ _ _ _ => ⟨_, rfl, Nat.le_of_ble_eq_true rfl, rfl⟩⟩
theorem gR_400_6 (p : Nat) (hp : 400 < p) (μ : Mu) (z : Zt) : gR (Ep p μ z) (some 400) 0 6 = some (some 518) := by unfold gR ob; simp only [Option.bind_some, E_at (show 400 ≤ 400 by omega) hp]; rfl
theorem gI_400_7 (p : Nat) (hp : 400 < p) (μ : Mu) (z : Zt) : gI (Ep p μ z) (some 400) 0 7 = some (μ 400 7) := by unfold gI ob; simp only [Option.bind_some, E_at (show 400 ≤ 400 by omega) hp]; rfl
theorem isF_400_7 : isF 400 0 7 := ⟨by omega, fun _ _ _ _ => ⟨_, rfl, Nat.le_of_ble_eq_true rfl, rfl⟩⟩
theorem gR_400_8 (p : Nat) (hp : 400 < p) (μ : Mu) (z : Zt) : gR (Ep p μ z) (some 400) 0 8 = some (some 519) := by unfold gR ob; simp only [Option.bind_some, E_at (show 400 ≤ 400 by omega) hp]; rfl
theorem gI_400_9 (p : Nat) (hp : 400 < p) (μ : Mu) (z : Zt) : gI (Ep p μ z) (some 400) 0 9 = some (μ 400 9) := by unfold gI ob; simp only [Option.bind_some, E_at (show 400 ≤ 400 by omega) hp]; rfl
theorem isF_400_9 : isF 400 0 9 := ⟨by omega, fun _ _ _ _ => ⟨_, rfl, Nat.le_of_ble_eq_true rfl, rfl⟩⟩
theorem gI_400_10 (p : Nat) (hp : 400 < p) (μ : Mu) (z : Zt) : gI (Ep p μ z) (some 400) 0 10 = some (μ 400 10) := by unfold gI ob; simp only [Option.bind_some, E_at (show 400 ≤ 400 by omega) hp]; rfl
theorem isF_400_10 : isF 400 0 10 := ⟨by omega, fun _ _ _ _ => ⟨_, rfl, Nat.le_of_ble_eq_true rfl, rfl⟩⟩
theorem gR_400_11 (p : Nat) (hp : 400 < p) (μ : Mu) (z : Zt) : gR (Ep p μ z) (some 400) 0 11 = some (some 520) := by unfold gR ob; simp only [Option.bind_some, E_at (show 400 ≤ 400 by omega) hp]; rfl
theorem gR_400_12 (p : Nat) (hp : 400 < p) (μ : Mu) (z : Zt) : gR (Ep p μ z) (some 400) 0 12 = some (some 529) := by unfold gR ob; simp only [Option.bind_some, E_at (show 400 ≤ 400 by omega) hp]; rfl
theorem gR_400_13 (p : Nat) (hp : 400 < p) (μ : Mu) (z : Zt) : gR (Ep p μ z) (some 400) 0 13 = some (some 530) := by unfold gR ob; simp only [Option.bind_some, E_at (show 400 ≤ 400 by omega) hp]; rfl
theorem gR_400_14 (p : Nat) (hp : 400 < p) (μ : Mu) (z : Zt) : gR (Ep p μ z) (some 400) 0 14 = some (some 531) := by unfold gR ob; simp only [Option.bind_some, E_at (show 400 ≤ 400 by omega) hp]; rfl
theorem gR_400_15 (p : Nat) (hp : 400 < p) (μ : Mu) (z : Zt) : gR (Ep p μ z) (some 400) 0 15 = some (some 532) := by unfold gR ob; simp only [Option.bind_some, E_at (show 400 ≤ 400 by omega) hp]; rfl
theorem gR_400_16 (p : Nat) (hp : 400 < p) (μ : Mu) (z : Zt) : gR (Ep p μ z) (some 400) 0 16 = some (some 533) := by unfold gR ob; simp only [Option.bind_some, E_at (show 400 ≤ 400 by omega) hp]; rfl
theorem gR_400_17 (p : Nat) (hp : 400 < p) (μ : Mu) (z : Zt) : gR (Ep p μ z) (some 400) 0 17 = some (some 534) := by unfold gR ob; simp only [Option.bind_some, E_at (show 400 ≤ 400 by omega) hp]; rfl
theorem gR_400_18 (p : Nat) (hp : 400 < p) (μ : Mu) (z : Zt) : gR (Ep p μ z) (some 400) 0 18 = some (some 535) := by unfold gR ob; simp only [Option.bind_some, E_at (show 400 ≤ 400 by omega) hp]; rfl
theorem gR_400_19 (p : Nat) (hp : 400 < p) (μ : Mu) (z : Zt) : gR (Ep p μ z) (some 400) 0 19 = some (some 536) := by unfold gR ob; simp only [Option.bind_some, E_at (show 400 ≤ 400 by omega) hp]; rfl
theorem gI_400_20 (p : Nat) (hp : 400 < p) (μ : Mu) (z : Zt) : gI (Ep p μ z) (some 400) 0 20 = some (μ 400 20) := by unfold gI ob; simp only [Option.bind_some, E_at (show 400 ≤ 400 by omega) hp]; rfl
theorem isF_400_20 : isF 400 0 20 := ⟨by omega, fun _ _ _ _ => ⟨_, rfl, Nat.le_of_ble_eq_true rfl, rfl⟩⟩
theorem gI_400_21 (p : Nat) (hp : 400 < p) (μ : Mu) (z : Zt) : gI (Ep p μ z) (some 400) 0 21 = some (μ 400 21) := by unfold gI ob; simp only [Option.bind_some, E_at (show 400 ≤ 400 by omega) hp]; rfl
theorem isF_400_21 : isF 400 0 21 := ⟨by omega, fun _ _ _ _ => ⟨_, rfl, Nat.le_of_ble_eq_true rfl, rfl⟩⟩
theorem gR_537_0 (p : Nat) (hp : 537 < p) (μ : Mu) (z : Zt) : gR (Ep p μ z) (some 537) 2 0 = some (some 538) := by unfold gR ob; simp only [Option.bind_some, E_at (show 400 ≤ 537 by omega) hp]; rfl
theorem gR_537_1 (p : Nat) (hp : 537 < p) (μ : Mu) (z : Zt) : gR (Ep p μ z) (some 537) 2 1 = some (some 539) := by unfold gR ob; simp only [Option.bind_some, E_at (show 400 ≤ 537 by omega) hp]; rfl
theorem gR_537_2 (p : Nat) (hp : 537 < p) (μ : Mu) (z : Zt) : gR (Ep p μ z) (some 537) 2 2 = some (some 540) := by unfold gR ob; simp only [Option.bind_some, E_at (show 400 ≤ 537 by omega) hp]; rfl
theorem gR_537_3 (p : Nat) (hp : 537 < p) (μ : Mu) (z : Zt) : gR (Ep p μ z) (some 537) 2 3 = some (some 541) := by unfold gR ob; simp only [Option.bind_some, E_at (show 400 ≤ 537 by omega) hp]; rfl
theorem gI_537_4 (p : Nat) (hp : 537 < p) (μ : Mu) (z : Zt) : gI (Ep p μ z) (some 537) 2 4 = some (μ 537 4) := by unfold gI ob; simp only [Option.bind_some, E_at (show 400 ≤ 537 by omega) hp]; rfl
theorem isF_537_4 : isF 537 2 4 := ⟨by omega, fun _ _ _ _ => ⟨_, rfl, Nat.le_of_ble_eq_true rfl, rfl⟩⟩
theorem gI_537_5 (p : Nat) (hp : 537 < p) (μ : Mu) (z : Zt) : gI (Ep p μ z) (some 537) 2 5 = some (μ 537 5) := by unfold gI ob; simp only [Option.bind_some, E_at (show 400 ≤ 537 by omega) hp]; rfl
theorem isF_537_5 : isF 537 2 5 := ⟨by omega, fun _ _ _ _ => ⟨_, rfl, Nat.le_of_ble_eq_true rfl, rfl⟩⟩
theorem gI_537_6 (p : Nat) (hp : 537 < p) (μ : Mu) (z : Zt) : gI (Ep p μ z) (some 537) 2 6 = some (μ 537 6) := by unfold gI ob; simp only [Option.bind_some, E_at (show 400 ≤ 537 by omega) hp]; rfl
theorem isF_537_6 : isF 537 2 6 := ⟨by omega, fun _ _ _ _ => ⟨_, rfl, Nat.le_of_ble_eq_true rfl, rfl⟩⟩
theorem gI_537_7 (p : Nat) (hp : 537 < p) (μ : Mu) (z : Zt) : gI (Ep p μ z) (some 537) 2 7 = some (μ 537 7) := by unfold gI ob; simp only [Option.bind_some, E_at (show 400 ≤ 537 by omega) hp]; rfl
theorem isF_537_7 : isF 537 2 7 := ⟨by omega, fun _ _ _ _ => ⟨_, rfl, Nat.le_of_ble_eq_true rfl, rfl⟩⟩
theorem gI_537_8 (p : Nat) (hp : 537 < p) (μ : Mu) (z : Zt) : gI (Ep p μ z) (some 537) 2 8 = some (μ 537 8) := by unfold gI ob; simp only [Option.bind_some, E_at (show 400 ≤ 537 by omega) hp]; rfl
theorem isF_537_8 : isF 537 2 8 := ⟨by omega, fun _ _ _ _ => ⟨_, rfl, Nat.le_of_ble_eq_true rfl, rfl⟩⟩
theorem gI_537_9 (p : Nat) (hp : 537 < p) (μ : Mu) (z : Zt) : gI (Ep p μ z) (some 537) 2 9 = some (μ 537 9) := by unfold gI ob; simp only [Option.bind_some, E_at (show 400 ≤ 537 by omega) hp]; rfl
theorem isF_537_9 : isF 537 2 9 := ⟨by omega, fun _ _ _ _ => ⟨_, rfl, Nat.le_of_ble_eq_true rfl, rfl⟩⟩
theorem gI_537_10 (p : Nat) (hp : 537 < p) (μ : Mu) (z : Zt) : gI (Ep p μ z) (some 537) 2 10 = some (μ 537 10) := by unfold gI ob; simp only [Option.bind_some, E_at (show 400 ≤ 537 by omega) hp]; rfl
theorem isF_537_10 : isF 537 2 10 := ⟨by omega, fun _ _ _ _ => ⟨_, rfl, Nat.le_of_ble_eq_true rfl, rfl⟩⟩
theorem gJ_537_11 (p : Nat) (hp : 537 < p) (μ : Mu) (z : Zt) : gJ (Ep p μ z) (some 537) 2 11 = some (z.1 537 11) := by unfold gJ ob; simp only [Option.bind_some, E_at (show 400 ≤ 537 by omega) hp]; rfl
theorem gI_537_12 (p : Nat) (hp : 537 < p) (μ : Mu) (z : Zt) : gI (Ep p μ z) (some 537) 2 12 = some (μ 537 12) := by unfold gI ob; simp only [Option.bind_some, E_at (show 400 ≤ 537 by omega) hp]; rfl
theorem isF_537_12 : isF 537 2 12 := ⟨by omega, fun _ _ _ _ => ⟨_, rfl, Nat.le_of_ble_eq_true rfl, rfl⟩⟩
theorem gI_537_13 (p : Nat) (hp : 537 < p) (μ : Mu) (z : Zt) : gI (Ep p μ z) (some 537) 2 13 = some (μ 537 13) := by unfold gI ob; simp only [Option.bind_some, E_at (show 400 ≤ 537 by omega) hp]; rfl
theorem isF_537_13 : isF 537 2 13 := ⟨by omega, fun _ _ _ _ => ⟨_, rfl, Nat.le_of_ble_eq_true rfl, rfl⟩⟩
theorem gI_537_14 (p : Nat) (hp : 537 < p) (μ : Mu) (z : Zt) : gI (Ep p μ z) (some 537) 2 14 = some (μ 537 14) := by unfold gI ob; simp only [Option.bind_some, E_at (show 400 ≤ 537 by omega) hp]; rfl
theorem isF_537_14 : isF 537 2 14 := ⟨by omega, fun _ _ _ _ => ⟨_, rfl, Nat.le_of_ble_eq_true rfl, rfl⟩⟩
theorem gR_537_15 (p : Nat) (hp : 537 < p) (μ : Mu) (z : Zt) : gR (Ep p μ z) (some 537) 2 15 = some (some 542) := by unfold gR ob; simp only [Option.bind_some, E_at (show 400 ≤ 537 by omega) hp]; rfl
theorem gI_537_16 (p : Nat) (hp : 537 < p) (μ : Mu) (z : Zt) : gI (Ep p μ z) (some 537) 2 16 = some (μ 537 16) := by unfold gI ob; simp only [Option.bind_some, E_at (show 400 ≤ 537 by omega) hp]; rfl
theorem isF_537_16 : isF 537 2 16 := ⟨by omega, fun _ _ _ _ => ⟨_, rfl, Nat.le_of_ble_eq_true rfl, rfl⟩⟩
theorem gI_537_17 (p : Nat) (hp : 537 < p) (μ : Mu) (z : Zt) : gI (Ep p μ z) (some 537) 2 17 = some (μ 537 17) := by unfold gI ob; simp only [Option.bind_some, E_at (show 400 ≤ 537 by omega) hp]; rfl
theorem isF_537_17 : isF 537 2 17 := ⟨by omega, fun _ _ _ _ => ⟨_, rfl, Nat.le_of_ble_eq_true rfl, rfl⟩⟩
theorem gI_537_18 (p : Nat) (hp : 537 < p) (μ : Mu) (z : Zt) : gI (Ep p μ z) (some 537) 2 18 = some (μ 537 18) := by unfold gI ob; simp only [Option.bind_some, E_at (show 400 ≤ 537 by omega) hp]; rfl
theorem isF_537_18 : isF 537 2 18 := ⟨by omega, fun _ _ _ _ => ⟨_, rfl, Nat.le_of_ble_eq_true rfl, rfl⟩⟩
theorem gI_537_19 (p : Nat) (hp : 537 < p) (μ : Mu) (z : Zt) : gI (Ep p μ z) (some 537) 2 19 = some (μ 537 19) := by unfold gI ob; simp only [Option.bind_some, E_at (show 400 ≤ 537 by omega) hp]; rfl
theorem isF_537_19 : isF 537 2 19 := ⟨by omega, fun _ _ _ _ => ⟨_, rfl, Nat.le_of_ble_eq_true rfl, rfl⟩⟩
theorem gR_537_20 (p : Nat) (hp : 537 < p) (μ : Mu) (z : Zt) : gR (Ep p μ z) (some 537) 2 20 = some (some 543) := by unfold gR ob; simp only [Option.bind_some, E_at (show 400 ≤ 537 by omega) hp]; rfl
theorem gI_537_21 (p : Nat) (hp : 537 < p) (μ : Mu) (z : Zt) : gI (Ep p μ z) (some 537) 2 21 = some (μ 537 21) := by unfold gI ob; simp only [Option.bind_some, E_at (show 400 ≤ 537 by omega) hp]; rfl
theorem isF_537_21 : isF 537 2 21 := ⟨by omega, fun _ _ _ _ => ⟨_, rfl, Nat.le_of_ble_eq_true rfl, rfl⟩⟩
theorem gI_537_22 (p : Nat) (hp : 537 < p) (μ : Mu) (z : Zt) : gI (Ep p μ z) (some 537) 2 22 = some (μ 537 22) := by unfold gI ob; simp only [Option.bind_some, E_at (show 400 ≤ 537 by omega) hp]; rfl
theorem isF_537_22 : isF 537 2 22 := ⟨by omega, fun _ _ _ _ => ⟨_, rfl, Nat.le_of_ble_eq_true rfl, rfl⟩⟩
theorem gR_537_23 (p : Nat) (hp : 537 < p) (μ : Mu) (z : Zt) : gR (Ep p μ z) (some 537) 2 23 = some (some 544) := by unfold gR ob; simp only [Option.bind_some, E_at (show 400 ≤ 537 by omega) hp]; rfl
theorem gR_537_24 (p : Nat) (hp : 537 < p) (μ : Mu) (z : Zt) : gR (Ep p μ z) (some 537) 2 24 = some (some 545) := by unfold gR ob; simp only [Option.bind_some, E_at (show 400 ≤ 537 by omega) hp]; rfl
theorem gI_537_25 (p : Nat) (hp : 537 < p) (μ : Mu) (z : Zt) : gI (Ep p μ z) (some 537) 2 25 = some (μ 537 25) := by unfold gI ob; simp only [Option.bind_some, E_at (show 400 ≤ 537 by omega) hp]; rfl
theorem isF_537_25 : isF 537 2 25 := ⟨by omega, fun _ _ _ _ => ⟨_, rfl, Nat.le_of_ble_eq_true rfl, rfl⟩⟩
theorem gR_537_26 (p : Nat) (hp : 537 < p) (μ : Mu) (z : Zt) : gR (Ep p μ z) (some 537) 2 26 = some (some 546) := by unfold gR ob; simp only [Option.bind_some, E_at (show 400 ≤ 537 by omega) hp]; rfl
theorem gI_537_27 (p : Nat) (hp : 537 < p) (μ : Mu) (z : Zt) : gI (Ep p μ z) (some 537) 2 27 = some (μ 537 27) := by unfold gI ob; simp only [Option.bind_some, E_at (show 400 ≤ 537 by omega) hp]; rfl
theorem isF_537_27 : isF 537 2 27 := ⟨by omega, fun _ _ _ _ => ⟨_, rfl, Nat.le_of_ble_eq_true rfl, rfl⟩⟩
theorem gI_537_28 (p : Nat) (hp : 537 < p) (μ : Mu) (z : Zt) : gI (Ep p μ z) (some 537) 2 28 = some (μ 537 28) := by unfold gI ob; simp only [Option.bind_some, E_at (show 400 ≤ 537 by omega) hp]; rfl
theorem isF_537_28 : isF 537 2 28 := ⟨by omega, fun _ _ _ _ => ⟨_, rfl, Nat.le_of_ble_eq_true rfl, rfl⟩⟩
theorem gR_537_29 (p : Nat) (hp : 537 < p) (μ : Mu) (z : Zt) : gR (Ep p μ z) (some 537) 2 29 = some (some 547) := by unfold gR ob; simp only [Option.bind_some, E_at (show 400 ≤ 537 by omega) hp]; rfl
theorem gR_537_30 (p : Nat) (hp : 537 < p) (μ : Mu) (z : Zt) : gR (Ep p μ z) (some 537) 2 30 = some (some 548) := by unfold gR ob; simp only [Option.bind_some, E_at (show 400 ≤ 537 by omega) hp]; rfl
theorem gR_537_31 (p : Nat) (hp : 537 < p) (μ : Mu) (z : Zt) : gR (Ep p μ z) (some 537) 2 31 = some (some 549) := by unfold gR ob; simp only [Option.bind_some, E_at (show 400 ≤ 537 by omega) hp]; rfl
theorem gR_537_32 (p : Nat) (hp : 537 < p) (μ : Mu) (z : Zt) : gR (Ep p μ z) (some 537) 2 32 = some (some 550) := by unfold gR ob; simp only [Option.bind_some, E_at (show 400 ≤ 537 by omega) hp]; rfl
theorem gR_537_33 (p : Nat) (hp : 537 < p) (μ : Mu) (z : Zt) : gR (Ep p μ z) (some 537) 2 33 = some (some 551) := by unfold gR ob; simp only [Option.bind_some, E_at (show 400 ≤ 537 by omega) hp]; rfl
theorem gI_537_34 (p : Nat) (hp : 537 < p) (μ : Mu) (z : Zt) : gI (Ep p μ z) (some 537) 2 34 = some (μ 537 34) := by unfold gI ob; simp only [Option.bind_some, E_at (show 400 ≤ 537 by omega) hp]; rfl
theorem isF_537_34 : isF 537 2 34 := ⟨by omega, fun _ _ _ _ => ⟨_, rfl, Nat.le_of_ble_eq_true rfl, rfl⟩⟩
theorem gR_537_35 (p : Nat) (hp : 537 < p) (μ : Mu) (z : Zt) : gR (Ep p μ z) (some 537) 2 35 = some (some 552) := by unfold gR ob; simp only [Option.bind_some, E_at (show 400 ≤ 537 by omega) hp]; rfl
theorem gR_537_36 (p : Nat) (hp : 537 < p) (μ : Mu) (z : Zt) : gR (Ep p μ z) (some 537) 2 36 = some (some 553) := by unfold gR ob; simp only [Option.bind_some, E_at (show 400 ≤ 537 by omega) hp]; rfl
theorem gR_401_0 (p : Nat) (hp : 401 < p) (μ : Mu) (z : Zt) : gR (Ep p μ z) (some 401) 1 0 = some (some 402) := by unfold gR ob; simp only [Option.bind_some, E_at (show 400 ≤ 401 by omega) hp]; rfl
theorem gR_401_1 (p : Nat) (hp : 401 < p) (μ : Mu) (z : Zt) : gR (Ep p μ z) (some 401) 1 1 = some (some 403) := by unfold gR ob; simp only [Option.bind_some, E_at (show 400 ≤ 401 by omega) hp]; rfl
theorem gR_401_2 (p : Nat) (hp : 401 < p) (μ : Mu) (z : Zt) : gR (Ep p μ z) (some 401) 1 2 = some (some 404) := by unfold gR ob; simp only [Option.bind_some, E_at (show 400 ≤ 401 by omega) hp]; rfl
theorem gR_401_3 (p : Nat) (hp : 401 < p) (μ : Mu) (z : Zt) : gR (Ep p μ z) (some 401) 1 3 = some (some 413) := by unfold gR ob; simp only [Option.bind_some, E_at (show 400 ≤ 401 by omega) hp]; rfl
theorem gR_401_4 (p : Nat) (hp : 401 < p) (μ : Mu) (z : Zt) : gR (Ep p μ z) (some 401) 1 4 = some (some 422) := by unfold gR ob; simp only [Option.bind_some, E_at (show 400 ≤ 401 by omega) hp]; rfl
theorem gR_401_5 (p : Nat) (hp : 401 < p) (μ : Mu) (z : Zt) : gR (Ep p μ z) (some 401) 1 5 = some (some 427) := by unfold gR ob; simp only [Option.bind_some, E_at (show 400 ≤ 401 by omega) hp]; rfl
theorem gR_401_6 (p : Nat) (hp : 401 < p) (μ : Mu) (z : Zt) : gR (Ep p μ z) (some 401) 1 6 = some (some 458) := by unfold gR ob; simp only [Option.bind_some, E_at (show 400 ≤ 401 by omega) hp]; rfl
theorem gR_459_0 (p : Nat) (hp : 459 < p) (μ : Mu) (z : Zt) : gR (Ep p μ z) (some 459) 1 0 = some (some 460) := by unfold gR ob; simp only [Option.bind_some, E_at (show 400 ≤ 459 by omega) hp]; rfl
theorem gR_459_1 (p : Nat) (hp : 459 < p) (μ : Mu) (z : Zt) : gR (Ep p μ z) (some 459) 1 1 = some (some 461) := by unfold gR ob; simp only [Option.bind_some, E_at (show 400 ≤ 459 by omega) hp]; rfl
theorem gR_459_2 (p : Nat) (hp : 459 < p) (μ : Mu) (z : Zt) : gR (Ep p μ z) (some 459) 1 2 = some (some 462) := by unfold gR ob; simp only [Option.bind_some, E_at (show 400 ≤ 459 by omega) hp]; rfl
theorem gR_459_3 (p : Nat) (hp : 459 < p) (μ : Mu) (z : Zt) : gR (Ep p μ z) (some 459) 1 3 = some (some 471) := by unfold gR ob; simp only [Option.bind_some, E_at (show 400 ≤ 459 by omega) hp]; rfl
theorem gR_459_4 (p : Nat) (hp : 459 < p) (μ : Mu) (z : Zt) : gR (Ep p μ z) (some 459) 1 4 = some (some 480) := by unfold gR ob; simp only [Option.bind_some, E_at (show 400 ≤ 459 by omega) hp]; rfl
theorem gR_459_5 (p : Nat) (hp : 459 < p) (μ : Mu) (z : Zt) : gR (Ep p μ z) (some 459) 1 5 = some (some 485) := by unfold gR ob; simp only [Option.bind_some, E_at (show 400 ≤ 459 by omega) hp]; rfl
theorem gR_459_6 (p : Nat) (hp : 459 < p) (μ : Mu) (z : Zt) : gR (Ep p μ z) (some 459) 1 6 = some (some 516) := by unfold gR ob; simp only [Option.bind_some, E_at (show 400 ≤ 459 by omega) hp]; rfl
theorem recv_400 (p : Nat) (hp : 400 < p) (μ : Mu) (z : Zt) : recv (Ep p μ z) (some 400) 0 = some 400 := by unfold recv ob; simp only [Option.bind_some, E_at (show 400 ≤ 400 by omega) hp]; rfl
theorem recv_401 (p : Nat) (hp : 401 < p) (μ : Mu) (z : Zt) : recv (Ep p μ z) (some 401) 1 = some 401 := by unfold recv ob; simp only [Option.bind_some, E_at (show 400 ≤ 401 by omega) hp]; rfl
theorem recv_459 (p : Nat) (hp : 459 < p) (μ : Mu) (z : Zt) : recv (Ep p μ z) (some 459) 1 = some 459 := by unfold recv ob; simp only [Option.bind_some, E_at (show 400 ≤ 459 by omega) hp]; rfl
theorem recv_537 (p : Nat) (hp : 537 < p) (μ : Mu) (z : Zt) : recv (Ep p μ z) (some 537) 2 = some 537 := by unfold recv ob; simp only [Option.bind_some, E_at (show 400 ≤ 537 by omega) hp]; rfl
theorem isI_402 : isI 402 7 := ⟨by omega, fun _ _ _ => rfl⟩
theorem isI_403 : isI 403 413 := ⟨by omega, fun _ _ _ => rfl⟩
theorem isI_405 : ∀ i, i < 8 → isI (405 + i) 5 := by
  intro i hi
  match i, hi with
  | 0, _ => exact ⟨by omega, fun _ _ _ => rfl⟩
  | 1, _ => exact ⟨by omega, fun _ _ _ => rfl⟩
  | 2, _ => exact ⟨by omega, fun _ _ _ => rfl⟩
  | 3, _ => exact ⟨by omega, fun _ _ _ => rfl⟩
  | 4, _ => exact ⟨by omega, fun _ _ _ => rfl⟩
  | 5, _ => exact ⟨by omega, fun _ _ _ => rfl⟩
  | 6, _ => exact ⟨by omega, fun _ _ _ => rfl⟩
  | 7, _ => exact ⟨by omega, fun _ _ _ => rfl⟩
  | q + 8, hq => exact absurd hq (by omega)
theorem isI_414 : ∀ i, i < 8 → isI (414 + i) 2 := by
  intro i hi
  match i, hi with
  | 0, _ => exact ⟨by omega, fun _ _ _ => rfl⟩
  | 1, _ => exact ⟨by omega, fun _ _ _ => rfl⟩
  | 2, _ => exact ⟨by omega, fun _ _ _ => rfl⟩
  | 3, _ => exact ⟨by omega, fun _ _ _ => rfl⟩
  | 4, _ => exact ⟨by omega, fun _ _ _ => rfl⟩
  | 5, _ => exact ⟨by omega, fun _ _ _ => rfl⟩
  | 6, _ => exact ⟨by omega, fun _ _ _ => rfl⟩
  | 7, _ => exact ⟨by omega, fun _ _ _ => rfl⟩
  | q + 8, hq => exact absurd hq (by omega)
theorem isI_423 : ∀ i, i < 4 → isI (423 + i) 4 := by
  intro i hi
  match i, hi with
  | 0, _ => exact ⟨by omega, fun _ _ _ => rfl⟩
  | 1, _ => exact ⟨by omega, fun _ _ _ => rfl⟩
  | 2, _ => exact ⟨by omega, fun _ _ _ => rfl⟩
  | 3, _ => exact ⟨by omega, fun _ _ _ => rfl⟩
  | q + 4, hq => exact absurd hq (by omega)
theorem isI_428 : ∀ i, i < 30 → isI (428 + i) 413 := by
  intro i hi
  match i, hi with
  | 0, _ => exact ⟨by omega, fun _ _ _ => rfl⟩
  | 1, _ => exact ⟨by omega, fun _ _ _ => rfl⟩
  | 2, _ => exact ⟨by omega, fun _ _ _ => rfl⟩
  | 3, _ => exact ⟨by omega, fun _ _ _ => rfl⟩
  | 4, _ => exact ⟨by omega, fun _ _ _ => rfl⟩
  | 5, _ => exact ⟨by omega, fun _ _ _ => rfl⟩
  | 6, _ => exact ⟨by omega, fun _ _ _ => rfl⟩
  | 7, _ => exact ⟨by omega, fun _ _ _ => rfl⟩
  | 8, _ => exact ⟨by omega, fun _ _ _ => rfl⟩
  | 9, _ => exact ⟨by omega, fun _ _ _ => rfl⟩
  | 10, _ => exact ⟨by omega, fun _ _ _ => rfl⟩
  | 11, _ => exact ⟨by omega, fun _ _ _ => rfl⟩
  | 12, _ => exact ⟨by omega, fun _ _ _ => rfl⟩
  | 13, _ => exact ⟨by omega, fun _ _ _ => rfl⟩
  | 14, _ => exact ⟨by omega, fun _ _ _ => rfl⟩
  | 15, _ => exact ⟨by omega, fun _ _ _ => rfl⟩
  | 16, _ => exact ⟨by omega, fun _ _ _ => rfl⟩
  | 17, _ => exact ⟨by omega, fun _ _ _ => rfl⟩
  | 18, _ => exact ⟨by omega, fun _ _ _ => rfl⟩
  | 19, _ => exact ⟨by omega, fun _ _ _ => rfl⟩
  | 20, _ => exact ⟨by omega, fun _ _ _ => rfl⟩
  | 21, _ => exact ⟨by omega, fun _ _ _ => rfl⟩
  | 22, _ => exact ⟨by omega, fun _ _ _ => rfl⟩
  | 23, _ => exact ⟨by omega, fun _ _ _ => rfl⟩
  | 24, _ => exact ⟨by omega, fun _ _ _ => rfl⟩
  | 25, _ => exact ⟨by omega, fun _ _ _ => rfl⟩
  | 26, _ => exact ⟨by omega, fun _ _ _ => rfl⟩
  | 27, _ => exact ⟨by omega, fun _ _ _ => rfl⟩
  | 28, _ => exact ⟨by omega, fun _ _ _ => rfl⟩
  | 29, _ => exact ⟨by omega, fun _ _ _ => rfl⟩
  | q + 30, hq => exact absurd hq (by omega)
theorem isI_460 : isI 460 7 := ⟨by omega, fun _ _ _ => rfl⟩
theorem isI_461 : isI 461 413 := ⟨by omega, fun _ _ _ => rfl⟩
theorem isI_463 : ∀ i, i < 8 → isI (463 + i) 5 := by
  intro i hi
  match i, hi with
  | 0, _ => exact ⟨by omega, fun _ _ _ => rfl⟩
  | 1, _ => exact ⟨by omega, fun _ _ _ => rfl⟩
  | 2, _ => exact ⟨by omega, fun _ _ _ => rfl⟩
  | 3, _ => exact ⟨by omega, fun _ _ _ => rfl⟩
  | 4, _ => exact ⟨by omega, fun _ _ _ => rfl⟩
  | 5, _ => exact ⟨by omega, fun _ _ _ => rfl⟩
  | 6, _ => exact ⟨by omega, fun _ _ _ => rfl⟩
  | 7, _ => exact ⟨by omega, fun _ _ _ => rfl⟩
  | q + 8, hq => exact absurd hq (by omega)
theorem isI_472 : ∀ i, i < 8 → isI (472 + i) 2 := by
  intro i hi
  match i, hi with
  | 0, _ => exact ⟨by omega, fun _ _ _ => rfl⟩
  | 1, _ => exact ⟨by omega, fun _ _ _ => rfl⟩
  | 2, _ => exact ⟨by omega, fun _ _ _ => rfl⟩
  | 3, _ => exact ⟨by omega, fun _ _ _ => rfl⟩
  | 4, _ => exact ⟨by omega, fun _ _ _ => rfl⟩
  | 5, _ => exact ⟨by omega, fun _ _ _ => rfl⟩
  | 6, _ => exact ⟨by omega, fun _ _ _ => rfl⟩
  | 7, _ => exact ⟨by omega, fun _ _ _ => rfl⟩
  | q + 8, hq => exact absurd hq (by omega)
theorem isI_481 : ∀ i, i < 4 → isI (481 + i) 4 := by
  intro i hi
  match i, hi with
  | 0, _ => exact ⟨by omega, fun _ _ _ => rfl⟩
  | 1, _ => exact ⟨by omega, fun _ _ _ => rfl⟩
  | 2, _ => exact ⟨by omega, fun _ _ _ => rfl⟩
  | 3, _ => exact ⟨by omega, fun _ _ _ => rfl⟩
  | q + 4, hq => exact absurd hq (by omega)
theorem isI_486 : ∀ i, i < 30 → isI (486 + i) 413 := by
  intro i hi
  match i, hi with
  | 0, _ => exact ⟨by omega, fun _ _ _ => rfl⟩
  | 1, _ => exact ⟨by omega, fun _ _ _ => rfl⟩
  | 2, _ => exact ⟨by omega, fun _ _ _ => rfl⟩
  | 3, _ => exact ⟨by omega, fun _ _ _ => rfl⟩
  | 4, _ => exact ⟨by omega, fun _ _ _ => rfl⟩
  | 5, _ => exact ⟨by omega, fun _ _ _ => rfl⟩
  | 6, _ => exact ⟨by omega, fun _ _ _ => rfl⟩
  | 7, _ => exact ⟨by omega, fun _ _ _ => rfl⟩
  | 8, _ => exact ⟨by omega, fun _ _ _ => rfl⟩
  | 9, _ => exact ⟨by omega, fun _ _ _ => rfl⟩
  | 10, _ => exact ⟨by omega, fun _ _ _ => rfl⟩
  | 11, _ => exact ⟨by omega, fun _ _ _ => rfl⟩
  | 12, _ => exact ⟨by omega, fun _ _ _ => rfl⟩
  | 13, _ => exact ⟨by omega, fun _ _ _ => rfl⟩
  | 14, _ => exact ⟨by omega, fun _ _ _ => rfl⟩
  | 15, _ => exact ⟨by omega, fun _ _ _ => rfl⟩
  | 16, _ => exact ⟨by omega, fun _ _ _ => rfl⟩
  | 17, _ => exact ⟨by omega, fun _ _ _ => rfl⟩
  | 18, _ => exact ⟨by omega, fun _ _ _ => rfl⟩
  | 19, _ => exact ⟨by omega, fun _ _ _ => rfl⟩
  | 20, _ => exact ⟨by omega, fun _ _ _ => rfl⟩
  | 21, _ => exact ⟨by omega, fun _ _ _ => rfl⟩
  | 22, _ => exact ⟨by omega, fun _ _ _ => rfl⟩
  | 23, _ => exact ⟨by omega, fun _ _ _ => rfl⟩
  | 24, _ => exact ⟨by omega, fun _ _ _ => rfl⟩
  | 25, _ => exact ⟨by omega, fun _ _ _ => rfl⟩
  | 26, _ => exact ⟨by omega, fun _ _ _ => rfl⟩
  | 27, _ => exact ⟨by omega, fun _ _ _ => rfl⟩
  | 28, _ => exact ⟨by omega, fun _ _ _ => rfl⟩
  | 29, _ => exact ⟨by omega, fun _ _ _ => rfl⟩
  | q + 30, hq => exact absurd hq (by omega)
theorem isI_518 : isI 518 53 := ⟨by omega, fun _ _ _ => rfl⟩
theorem isI_519 : isI 519 413 := ⟨by omega, fun _ _ _ => rfl⟩
theorem isI_521 : ∀ i, i < 8 → isI (521 + i) 413 := by
  intro i hi
  match i, hi with
  | 0, _ => exact ⟨by omega, fun _ _ _ => rfl⟩
  | 1, _ => exact ⟨by omega, fun _ _ _ => rfl⟩
  | 2, _ => exact ⟨by omega, fun _ _ _ => rfl⟩
  | 3, _ => exact ⟨by omega, fun _ _ _ => rfl⟩
  | 4, _ => exact ⟨by omega, fun _ _ _ => rfl⟩
  | 5, _ => exact ⟨by omega, fun _ _ _ => rfl⟩
  | 6, _ => exact ⟨by omega, fun _ _ _ => rfl⟩
  | 7, _ => exact ⟨by omega, fun _ _ _ => rfl⟩
  | q + 8, hq => exact absurd hq (by omega)
theorem isI_529 : isI 529 7 := ⟨by omega, fun _ _ _ => rfl⟩
theorem isI_530 : isI 530 413 := ⟨by omega, fun _ _ _ => rfl⟩
theorem isI_531 : isI 531 8 := ⟨by omega, fun _ _ _ => rfl⟩
theorem isI_532 : isI 532 8 := ⟨by omega, fun _ _ _ => rfl⟩
theorem isI_533 : isI 533 8 := ⟨by omega, fun _ _ _ => rfl⟩
theorem isI_534 : isI 534 8 := ⟨by omega, fun _ _ _ => rfl⟩
theorem isI_535 : isI 535 8 := ⟨by omega, fun _ _ _ => rfl⟩
theorem isI_536 : isI 536 8 := ⟨by omega, fun _ _ _ => rfl⟩
theorem isI_538 : isI 538 9834 := ⟨by omega, fun _ _ _ => rfl⟩
theorem isI_539 : isI 539 9834 := ⟨by omega, fun _ _ _ => rfl⟩
theorem isI_540 : isI 540 3012 := ⟨by omega, fun _ _ _ => rfl⟩
theorem isI_541 : isI 541 300 := ⟨by omega, fun _ _ _ => rfl⟩
theorem isI_542 : isI 542 160 := ⟨by omega, fun _ _ _ => rfl⟩
theorem isI_543 : isI 543 8 := ⟨by omega, fun _ _ _ => rfl⟩
theorem isI_546 : isI 546 18 := ⟨by omega, fun _ _ _ => rfl⟩
theorem isI_547 : isI 547 1200 := ⟨by omega, fun _ _ _ => rfl⟩
theorem isI_548 : isI 548 8 := ⟨by omega, fun _ _ _ => rfl⟩
theorem isI_549 : isI 549 8 := ⟨by omega, fun _ _ _ => rfl⟩
theorem isI_550 : isI 550 8 := ⟨by omega, fun _ _ _ => rfl⟩
theorem isI_551 : isI 551 8 := ⟨by omega, fun _ _ _ => rfl⟩
theorem isI_552 : isI 552 8 := ⟨by omega, fun _ _ _ => rfl⟩
theorem isI_553 : isI 553 8 := ⟨by omega, fun _ _ _ => rfl⟩
theorem isA_404 : isA 404 405 8 := ⟨by omega, fun _ _ _ => rfl⟩
theorem isA_413 : isA 413 414 8 := ⟨by omega, fun _ _ _ => rfl⟩
theorem isA_422 : isA 422 423 4 := ⟨by omega, fun _ _ _ => rfl⟩
theorem isA_427 : isA 427 428 30 := ⟨by omega, fun _ _ _ => rfl⟩
theorem isA_462 : isA 462 463 8 := ⟨by omega, fun _ _ _ => rfl⟩
theorem isA_471 : isA 471 472 8 := ⟨by omega, fun _ _ _ => rfl⟩
theorem isA_480 : isA 480 481 4 := ⟨by omega, fun _ _ _ => rfl⟩
theorem isA_485 : isA 485 486 30 := ⟨by omega, fun _ _ _ => rfl⟩
theorem isA_520 : isA 520 521 8 := ⟨by omega, fun _ _ _ => rfl⟩
theorem isX_458 : isX 458 := ⟨by omega, fun _ _ _ => rfl⟩
theorem isX_516 : isX 516 := ⟨by omega, fun _ _ _ => rfl⟩
