/-! ===== State.be ===== -/
/-- the references of a cell exchanged -/
def setR (z : Zt) (k : Nat) (f : Nat → Option Nat) : Zt := (z.1, (fun q => if q = k then f else z.2.1 q), z.2.2)
theorem E_wstR {p : Nat} {μ : Mu} {z : Zt} {k : Nat} {f : Nat → Option Nat} {e : Cel} (h : 400 ≤ k) (hp : k < p) (he : celA k (μ k) (z.1 k) f = some e) : wst (Ep p μ z) k e = Ep p μ (setR z k f) := by
  unfold wst Ep setR
  congr 1
  funext q
  by_cases hq : q = k
  · subst hq
    simp only [if_true]
    rw [if_pos ⟨h, hp⟩, he]
  · simp only [if_neg hq]
/-- texts that are texts -/
def okTx (p : Nat) (μ : Mu) (z : Zt) (k : Nat) : Prop := ∀ i, i < 4 → okE (Ep p μ z) clText (z.2.1 k i) = true
theorem acpR_E {p : Nat} {μ : Mu} {z : Zt} {k k' : Nat} (h : isX k) (h' : isX k') (hp : k < p) (hp' : k' < p) (ht : okTx p μ z k) : acpR (Ep p μ z) clText "HookSwings$Text" (some k) 0 (some k') 0 4 = some (Ep p μ (setR z k' (va_cpy (z.2.1 k) (z.2.1 k') 0 0 4))) := by
  have hall : ((List.range 4).all fun i => okE (Ep p μ z) clText (z.2.1 k (0 + i))) = true := by
    rw [List.all_eq_true]
    intro i hi
    rw [Nat.zero_add]
    exact ht i (List.mem_range.mp hi)
  unfold acpR arr
  simp only [Option.bind_some, E_at h.1 hp, h.2, E_at h'.1 hp', h'.2]
  rw [if_pos ⟨by simp, ⟨h.1, h'.1⟩, ⟨by decide, by decide, by decide⟩, ⟨by decide, by decide⟩⟩]
  show (if ((List.range 4).all fun i => okE (Ep p μ z) clText (z.2.1 k (0 + i))) = true then some (wst (Ep p μ z) k' (.inl (.object "HookSwings$Text", 4, .inr (.inr (.inr (.inr (va_cpy (z.2.1 k) (z.2.1 k') 0 0 4))))))) else none) = _
  rw [if_pos hall, E_wstR h'.1 hp' (f := va_cpy (z.2.1 k) (z.2.1 k') 0 0 4) (h'.2 _ _ _)]
/-- the State at d as that at s -/
def beM (μ : Mu) (s d : Nat) : Mu :=
  cp2 (cp2 (cp2 (cp2 (setM (setM μ (d + 1) (va_cpy (μ (s + 1)) (μ (d + 1)) 0 0 7)) (d + 2) (va_cpy (setM μ (d + 1) (va_cpy (μ (s + 1)) (μ (d + 1)) 0 0 7) (s + 2)) (setM μ (d + 1) (va_cpy (μ (s + 1)) (μ (d + 1)) 0 0 7) (d + 2)) 0 0 413)) (s + 4) (d + 4) 8 5) (s + 13) (d + 13) 8 2) (s + 22) (d + 22) 4 4) (s + 27) (d + 27) 30 413
def beZ (z : Zt) (s d : Nat) : Zt := setR z (d + 57) (va_cpy (z.2.1 (s + 57)) (z.2.1 (d + 57)) 0 0 4)
/-- the texts of a State are texts made by the run -/
def okT (z : Zt) (k : Nat) : Prop := ∀ i y, i < 4 → z.2.1 k i = some y → 554 ≤ y ∧ y < z.2.2.2.1 ∧ ∃ fs, z.2.2.1 y = some (.inr (4, fs))
theorem okT.tx {p : Nat} {μ : Mu} {z : Zt} {k : Nat} (hp : p ≤ 554) (h : okT z k) : okTx p μ z k := by
  intro i hi
  unfold okE
  cases hz : z.2.1 k i with
  | none => rfl
  | some y =>
    obtain ⟨h1, -, fs, h2⟩ := h i y hi hz
    have e : cls (Ep p μ z) y = some 4 := by
      unfold cls Ep
      simp only [if_neg (show ¬ (400 ≤ y ∧ y < p) by omega), h2, Option.bind_some]
    simp only [e]
    decide
def twoS (s d : Nat) : Prop := (s = 401 ∧ d = 459) ∨ (s = 459 ∧ d = 401)
theorem be_E {p : Nat} {μ : Mu} {z : Zt} {s d : Nat} (hsd : twoS s d) (hp : 517 ≤ p) (hp5 : p ≤ 554) (ht : okT z (s + 57)) : mX1_be d (some s) (Ep p μ z) = some ((), Ep p (beM μ s d) (beZ z s d)) := by
  unfold mX1_be
  rcases hsd with ⟨rfl, rfl⟩ | ⟨rfl, rfl⟩
  · refine bind_step (gR_401_0 p (by omega) _ _) ?_
    refine bind_step (gR_459_0 p (by omega) _ _) ?_
    refine bind_step (cal_Z (copy_E isI_402 isI_460 (by omega) (by omega) (by omega)) (Nat.le_refl _) (Nat.le_refl _)) ?_
    refine bind_step (gR_401_1 p (by omega) _ _) ?_
    refine bind_step (gR_459_1 p (by omega) _ _) ?_
    refine bind_step (cal_Z (copy_E isI_403 isI_461 (by omega) (by omega) (by omega)) (Nat.le_refl _) (Nat.le_refl _)) ?_
    refine bind_step (gR_401_2 p (by omega) _ _) ?_
    refine bind_step (gR_459_2 p (by omega) _ _) ?_
    refine bind_step (cal_Z (copy2_E isA_404 isA_462 isI_405 isI_463 (by omega) (by omega) (by omega) (by omega) (by omega) (by omega) (by omega)) (Nat.le_refl _) (Nat.le_refl _)) ?_
    refine bind_step (gR_401_3 p (by omega) _ _) ?_
    refine bind_step (gR_459_3 p (by omega) _ _) ?_
    refine bind_step (cal_Z (copy2_E isA_413 isA_471 isI_414 isI_472 (by omega) (by omega) (by omega) (by omega) (by omega) (by omega) (by omega)) (Nat.le_refl _) (Nat.le_refl _)) ?_
    refine bind_step (gR_401_4 p (by omega) _ _) ?_
    refine bind_step (gR_459_4 p (by omega) _ _) ?_
    refine bind_step (cal_Z (copy2_E isA_422 isA_480 isI_423 isI_481 (by omega) (by omega) (by omega) (by omega) (by omega) (by omega) (by omega)) (Nat.le_refl _) (Nat.le_refl _)) ?_
    refine bind_step (gR_401_5 p (by omega) _ _) ?_
    refine bind_step (gR_459_5 p (by omega) _ _) ?_
    refine bind_step (cal_Z (copy2_E isA_427 isA_485 isI_428 isI_486 (by omega) (by omega) (by omega) (by omega) (by omega) (by omega) (by omega)) (Nat.le_refl _) (Nat.le_refl _)) ?_
    refine bind_step (gR_401_6 p (by omega) _ _) ?_
    refine bind_step (gR_459_6 p (by omega) _ _) ?_
    refine bind_step (acpR_E isX_458 isX_516 (by omega) (by omega) (ht.tx hp5)) ?_
    rfl
  · refine bind_step (gR_459_0 p (by omega) _ _) ?_
    refine bind_step (gR_401_0 p (by omega) _ _) ?_
    refine bind_step (cal_Z (copy_E isI_460 isI_402 (by omega) (by omega) (by omega)) (Nat.le_refl _) (Nat.le_refl _)) ?_
    refine bind_step (gR_459_1 p (by omega) _ _) ?_
    refine bind_step (gR_401_1 p (by omega) _ _) ?_
    refine bind_step (cal_Z (copy_E isI_461 isI_403 (by omega) (by omega) (by omega)) (Nat.le_refl _) (Nat.le_refl _)) ?_
    refine bind_step (gR_459_2 p (by omega) _ _) ?_
    refine bind_step (gR_401_2 p (by omega) _ _) ?_
    refine bind_step (cal_Z (copy2_E isA_462 isA_404 isI_463 isI_405 (by omega) (by omega) (by omega) (by omega) (by omega) (by omega) (by omega)) (Nat.le_refl _) (Nat.le_refl _)) ?_
    refine bind_step (gR_459_3 p (by omega) _ _) ?_
    refine bind_step (gR_401_3 p (by omega) _ _) ?_
    refine bind_step (cal_Z (copy2_E isA_471 isA_413 isI_472 isI_414 (by omega) (by omega) (by omega) (by omega) (by omega) (by omega) (by omega)) (Nat.le_refl _) (Nat.le_refl _)) ?_
    refine bind_step (gR_459_4 p (by omega) _ _) ?_
    refine bind_step (gR_401_4 p (by omega) _ _) ?_
    refine bind_step (cal_Z (copy2_E isA_480 isA_422 isI_481 isI_423 (by omega) (by omega) (by omega) (by omega) (by omega) (by omega) (by omega)) (Nat.le_refl _) (Nat.le_refl _)) ?_
    refine bind_step (gR_459_5 p (by omega) _ _) ?_
    refine bind_step (gR_401_5 p (by omega) _ _) ?_
    refine bind_step (cal_Z (copy2_E isA_485 isA_427 isI_486 isI_428 (by omega) (by omega) (by omega) (by omega) (by omega) (by omega) (by omega)) (Nat.le_refl _) (Nat.le_refl _)) ?_
    refine bind_step (gR_459_6 p (by omega) _ _) ?_
    refine bind_step (gR_401_6 p (by omega) _ _) ?_
    refine bind_step (acpR_E isX_516 isX_458 (by omega) (by omega) (ht.tx hp5)) ?_
    rfl
/-- the whole constructor of HookSwings -/
theorem X0_init_E (L : Nat) (xs : Nat → Int32) : mX0_init 400 (cv1 L xs) = some ((), Ep 537 (beM mu1 401 459) (beZ (zz1 L xs) 401 459)) := by
  rw [X0_upto, cv69_E]
  refine bind_step (cal_Z (be_E (Or.inl ⟨rfl, rfl⟩) (by omega) (by omega) (fun i y _ h => by cases h)) (Nat.le_refl _) (Nat.le_refl _)) ?_
  rfl
