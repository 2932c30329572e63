/-! ===== saves: from rest ===== -/
/-- the first k filled with v -/
def fiK (k : Nat) (v : Int32) (f : Nat → Int32) : Nat → Int32 := fun i => if i < k then v else f i
theorem fill_loop {μ : Mu} {z : Zt} {l len : Nat} {v l3 : Int32} {f : Nat → Int32} (hl : isI l len) (hl5 : l < 554) (h3 : l3.toInt = (len : Int)) (hlen : len < 1000) : ∀ (d k fu : Nat) (l2 : Int32), len = k + d → l2.toInt = (k : Int) → d < fu →
    mJ12_fill_2_l5 fu (E (setM μ l (fiK k v f)) z) (some l) v l2 l3 = some ((), E (setM μ l (fiK len v f)) z) := by
  intro d
  induction d with
  | zero =>
    intro k fu l2 hd h2 hf
    obtain ⟨g, rfl⟩ : ∃ g, fu = g + 1 := ⟨fu - 1, by omega⟩
    show mJ12_fill_2_b5 _ _ _ _ _ _ = _
    unfold mJ12_fill_2_b5
    refine (if_pos (by rw [Int32.le_iff_toInt_le, h3, h2]; omega)).trans ?_
    rw [show k = len by omega]
  | succ d ih =>
    intro k fu l2 hd h2 hf
    obtain ⟨g, rfl⟩ : ∃ g, fu = g + 1 := ⟨fu - 1, by omega⟩
    have e : up (setM μ l (fiK k v f)) l k v = setM μ l (fiK (k + 1) v f) := by
      rw [up_up]
      congr 1
      funext i
      unfold upd fiK
      by_cases hi : i = k
      · rw [if_pos hi, if_pos (by omega)]
      · rw [if_neg hi]
        by_cases h9 : i < k
        · rw [if_pos h9, if_pos (by omega)]
        · rw [if_neg h9, if_neg (by omega)]
    show mJ12_fill_2_b5 _ _ _ _ _ _ = _
    unfold mJ12_fill_2_b5
    refine (if_neg (by rw [Int32.le_iff_toInt_le, h3, h2]; omega)).trans ?_
    refine bind_step (ias_E (n := k) hl h2 (by omega)) ?_
    rw [e]
    exact ih (k + 1) g (l2 + 1) (by omega) (inc_I h2 (by omega)) (by omega)
theorem fill_E {μ : Mu} {z : Zt} {l len : Nat} {v : Int32} (hl : isI l len) (hl5 : l < 554) (hlen : len < 1000) : mJ12_fill_2 (some l) v (E μ z) = some ((), E (setM μ l (fiK len v (μ l))) z) := by
  unfold mJ12_fill_2
  refine bind_step (alen_E hl) ?_
  have h := fill_loop (μ := μ) (z := z) (v := v) (l3 := Int32.ofNat len) (f := μ l) hl hl5 (tI (by omega)) hlen len 0 FU 0 (by omega) rfl (by unfold FU; omega)
  have e : setM μ l (fiK 0 v (μ l)) = μ := by
    funext k
    unfold setM
    by_cases hk : k = l
    · rw [if_pos hk, hk]
      funext i
      unfold fiK
      rw [if_neg (by omega)]
    · rw [if_neg hk]
  rw [e] at h
  exact h
section WM89
variable {μ : Mu} {z : Zt} {F A N T : Nat → Int32} {V : Nat → Int64}
theorem fM_547 {S : Nat → Int32} : setM (fM μ F A N T) 547 S = fM (setM μ 547 S) F A N T := by
  funext k
  unfold setM fM
  by_cases h : k = 547
  · subst h
    rfl
  · simp only [if_neg h]
/-- the first k of the ring kept aside -/
def kpP (k : Nat) (A S : Nat → Int32) : Nat → Int32 := fun i => if i < k then A (602 + i) else S i
/-- the first k of the ring put back -/
def pbP (k : Nat) (S A : Nat → Int32) : Nat → Int32 := fun i => if 602 ≤ i ∧ i < 602 + k then S (i - 602) else A i
theorem keepPast_loop {S0 : Nat → Int32} : ∀ (d k fu : Nat) (l1 : Int32), 1200 = k + d → l1.toInt = (k : Int) → d < fu →
    mX2_keepPast_l2 fu (WM (setM μ 547 (kpP k A S0)) z F A N T V) (some 537) l1 = some ((), WM (setM μ 547 (kpP 1200 A S0)) z F A N T V) := by
  intro d
  induction d with
  | zero =>
    intro k fu l1 hd hl hf
    obtain ⟨g, rfl⟩ : ∃ g, fu = g + 1 := ⟨fu - 1, by omega⟩
    show mX2_keepPast_b2 _ _ _ _ = _
    unfold mX2_keepPast_b2
    refine (if_pos (by rw [Int32.le_iff_toInt_le, hl]; show (1200 : Int) ≤ _; omega)).trans ?_
    rw [show k = 1200 by omega]
  | succ d ih =>
    intro k fu l1 hd hl hf
    obtain ⟨g, rfl⟩ : ∃ g, fu = g + 1 := ⟨fu - 1, by omega⟩
    show mX2_keepPast_b2 _ _ _ _ = _
    unfold mX2_keepPast_b2
    refine (if_neg (by rw [Int32.le_iff_toInt_le, hl]; show ¬ (1200 : Int) ≤ _; omega)).trans ?_
    refine bind_step (gR_537_29 554 (by omega) _ _) ?_
    refine bind_step (gR_537_0 554 (by omega) _ _) ?_
    refine bind_step (iaA (n := 602 + k) (addN (x := 602) rfl hl (by omega)) (by omega)) ?_
    refine bind_step (ias_E (n := k) isI_547 hl (by omega)) ?_
    have e : up (fM (setM μ 547 (kpP k A S0)) F A N T) 547 k (A (602 + k)) = fM (setM μ 547 (kpP (k + 1) A S0)) F A N T := by
      show setM _ 547 (upd (fM (setM μ 547 (kpP k A S0)) F A N T 547) k (A (602 + k))) = _
      rw [fM_547, setM_setM', fM_o ⟨by omega, by omega, by omega, by omega⟩, setM_same]
      congr 2
      funext i
      unfold upd kpP
      by_cases hi : i = k
      · rw [if_pos hi, if_pos (by omega), hi]
      · rw [if_neg hi]
        by_cases h2 : i < k
        · rw [if_pos h2, if_pos (by omega)]
        · rw [if_neg h2, if_neg (by omega)]
    rw [e]
    exact ih (k + 1) g (l1 + 1) (by omega) (inc_I hl (by omega)) (by omega)
theorem keepPast_E : mX2_keepPast 537 (WM μ z F A N T V) = some ((), WM (setM μ 547 (kpP 1200 A (μ 547))) z F A N T V) := by
  have e : setM μ 547 (kpP 0 A (μ 547)) = μ := by
    funext k
    unfold setM
    by_cases h : k = 547
    · rw [if_pos h, h]
      funext i
      unfold kpP
      rw [if_neg (by omega)]
    · rw [if_neg h]
  have h := keepPast_loop (μ := μ) (z := z) (F := F) (A := A) (N := N) (T := T) (V := V) (S0 := μ 547) 1200 0 FU 0 (by omega) rfl (by unfold FU; omega)
  rw [e] at h
  exact h
theorem putBackPast_loop : ∀ (d k fu : Nat) (l1 : Int32), 1200 = k + d → l1.toInt = (k : Int) → d < fu →
    mX2_putBackPast_l2 fu (WM μ z F (pbP k (μ 547) A) N T V) (some 537) l1 = some ((), WM μ z F (pbP 1200 (μ 547) A) N T V) := by
  intro d
  induction d with
  | zero =>
    intro k fu l1 hd hl hf
    obtain ⟨g, rfl⟩ : ∃ g, fu = g + 1 := ⟨fu - 1, by omega⟩
    show mX2_putBackPast_b2 _ _ _ _ = _
    unfold mX2_putBackPast_b2
    refine (if_pos (by rw [Int32.le_iff_toInt_le, hl]; show (1200 : Int) ≤ _; omega)).trans ?_
    rw [show k = 1200 by omega]
  | succ d ih =>
    intro k fu l1 hd hl hf
    obtain ⟨g, rfl⟩ : ∃ g, fu = g + 1 := ⟨fu - 1, by omega⟩
    show mX2_putBackPast_b2 _ _ _ _ = _
    unfold mX2_putBackPast_b2
    refine (if_neg (by rw [Int32.le_iff_toInt_le, hl]; show ¬ (1200 : Int) ≤ _; omega)).trans ?_
    refine bind_step (gR_537_0 554 (by omega) _ _) ?_
    refine bind_step (gR_537_29 554 (by omega) _ _) ?_
    refine bind_step (ia_E (n := k) isI_547 hl (by omega)) ?_
    rw [show fM μ F (pbP k (μ 547) A) N T 547 = μ 547 from fM_o ⟨by omega, by omega, by omega, by omega⟩]
    refine bind_step (iasA (n := 602 + k) (addN (x := 602) rfl hl (by omega)) (by omega)) ?_
    have e : upd (pbP k (μ 547) A) (602 + k) (μ 547 k) = pbP (k + 1) (μ 547) A := by
      funext i
      unfold upd pbP
      by_cases hi : i = 602 + k
      · rw [if_pos hi, if_pos (by omega), hi, show 602 + k - 602 = k by omega]
      · rw [if_neg hi]
        by_cases h2 : 602 ≤ i ∧ i < 602 + k
        · rw [if_pos h2, if_pos (by omega)]
        · rw [if_neg h2, if_neg (by omega)]
    rw [e]
    exact ih (k + 1) g (l1 + 1) (by omega) (inc_I hl (by omega)) (by omega)
theorem putBackPast_E : mX2_putBackPast 537 (WM μ z F A N T V) = some ((), WM μ z F (pbP 1200 (μ 547) A) N T V) := by
  have e : pbP 0 (μ 547) A = A := by
    funext i
    unfold pbP
    rw [if_neg (by omega)]
  have h := putBackPast_loop (μ := μ) (z := z) (F := F) (A := A) (N := N) (T := T) (V := V) 1200 0 FU 0 (by omega) rfl (by unfold FU; omega)
  rw [e] at h
  exact h
end WM89
