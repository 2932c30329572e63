/-! ===== fewest ===== -/
abbrev Trp : Type := Option (Nat × Nat × Nat)
def fe1 (hs : Nat → Nat → Int32) (r : Nat) : Nat → Nat → Option (Nat × Nat)
  | 0, _ => none
  | m + 1, n => match fcd (fwH (hs n) n r) (3 ^ n) 0 with
    | none => fe1 hs r m (n + 1)
    | some c => some (n, c)
def fe2 (hs : Nat → Nat → Int32) : Nat → Nat → Trp
  | 0, _ => none
  | q + 1, r => match fe1 hs r (q + 1) r with
    | none => fe2 hs q (r + 1)
    | some x => some (r, x)
def ans3 (i : Int32) : Trp → Int32
  | none => -2
  | some (r, n, c) => ansC i (Int32.ofNat r) n c
/-- as the model goes through the codes -/
def stepB (hs : Nat → Nat → Int32) (o : Trp) (n c : Nat) : Trp := match o with
  | none => if hs n c = 0 then none else some (mny n c, n, c)
  | some b => if b.1 ≤ mny n c then some b else if hs n c = 0 then some b else some (mny n c, n, c)
def beB (hs : Nat → Nat → Int32) (n : Nat) : Nat → Nat → Trp → Trp
  | 0, _, o => o
  | m + 1, c, o => beB hs n m (c + 1) (stepB hs o n c)
def beO (hs : Nat → Nat → Int32) : Nat → Nat → Trp → Trp
  | 0, _, o => o
  | q + 1, n, o => beO hs q (n + 1) (beB hs n (3 ^ n) 0 o)
/-- the best of what was gone through: all shorter ones, and of n commands those below c -/
def IsB (hs : Nat → Nat → Int32) (n c : Nat) (o : Trp) : Prop := match o with
  | none => ∀ n' c', ((n' < n ∧ c' < 3 ^ n') ∨ (n' = n ∧ c' < c)) → hs n' c' = 0
  | some (r, n1, c1) => ((n1 < n ∧ c1 < 3 ^ n1) ∨ (n1 = n ∧ c1 < c)) ∧ ¬ hs n1 c1 = 0 ∧ mny n1 c1 = r ∧ ∀ n' c', ((n' < n ∧ c' < 3 ^ n') ∨ (n' = n ∧ c' < c)) → ¬ hs n' c' = 0 → r < mny n' c' ∨ (r = mny n' c' ∧ (n1 < n' ∨ (n1 = n' ∧ c1 ≤ c')))
theorem IsB_one {hs : Nat → Nat → Int32} {n c : Nat} {o o' : Trp} (h : IsB hs n c o) (h' : IsB hs n c o') : o = o' := by
  match o, o', h, h' with
  | none, none, _, _ => rfl
  | none, some (r, n1, c1), h, h' => exact absurd (h _ _ h'.1) h'.2.1
  | some (r, n1, c1), none, h, h' => exact absurd (h' _ _ h.1) h.2.1
  | some (r, n1, c1), some (r', n1', c1'), h, h' =>
    have a := h.2.2.2 _ _ h'.1 h'.2.1
    have b := h'.2.2.2 _ _ h.1 h.2.1
    have e1 := h.2.2.1
    have e2 := h'.2.2.1
    have x1 : r = r' := by omega
    have x2 : n1 = n1' := by omega
    have x3 : c1 = c1' := by omega
    rw [x1, x2, x3]
theorem IsB_step {hs : Nat → Nat → Int32} {n c : Nat} {o : Trp} (h : IsB hs n c o) : IsB hs n (c + 1) (stepB hs o n c) := by
  match o, h with
  | none, h =>
    show IsB hs n (c + 1) (if hs n c = 0 then none else some (mny n c, n, c))
    by_cases q : hs n c = 0
    · rw [if_pos q]
      intro n' c' hv
      by_cases e : n' = n ∧ c' = c
      · rw [e.1, e.2]; exact q
      · exact h n' c' (by omega)
    · rw [if_neg q]
      refine ⟨Or.inr ⟨rfl, by omega⟩, q, rfl, fun n' c' hv hne => ?_⟩
      by_cases e : n' = n ∧ c' = c
      · rw [e.1, e.2]; omega
      · exact absurd (h n' c' (by omega)) hne
  | some (r, n1, c1), h =>
    obtain ⟨h1, h2, h3, h4⟩ := h
    show IsB hs n (c + 1) (if r ≤ mny n c then some (r, n1, c1) else if hs n c = 0 then some (r, n1, c1) else some (mny n c, n, c))
    by_cases q : r ≤ mny n c
    · rw [if_pos q]
      refine ⟨by omega, h2, h3, fun n' c' hv hne => ?_⟩
      by_cases e : n' = n ∧ c' = c
      · rw [e.1, e.2]; omega
      · exact h4 n' c' (by omega) hne
    · rw [if_neg q]
      by_cases q2 : hs n c = 0
      · rw [if_pos q2]
        refine ⟨by omega, h2, h3, fun n' c' hv hne => ?_⟩
        by_cases e : n' = n ∧ c' = c
        · rw [e.1, e.2] at hne; exact absurd q2 hne
        · exact h4 n' c' (by omega) hne
      · rw [if_neg q2]
        refine ⟨Or.inr ⟨rfl, by omega⟩, q2, rfl, fun n' c' hv hne => ?_⟩
        by_cases e : n' = n ∧ c' = c
        · rw [e.1, e.2]; omega
        · have := h4 n' c' (by omega) hne
          omega
theorem IsB_beB {hs : Nat → Nat → Int32} {n : Nat} : ∀ m c o, IsB hs n c o → IsB hs n (c + m) (beB hs n m c o) := by
  intro m
  induction m with
  | zero => intro c o h; exact h
  | succ m ih =>
    intro c o h
    have := ih (c + 1) _ (IsB_step h)
    rw [show c + 1 + m = c + (m + 1) by omega] at this
    exact this
theorem IsB_next {hs : Nat → Nat → Int32} {n : Nat} {o : Trp} (h : IsB hs n (3 ^ n) o) : IsB hs (n + 1) 0 o := by
  have hv : ∀ n' c', ((n' < n + 1 ∧ c' < 3 ^ n') ∨ (n' = n + 1 ∧ c' < 0)) → ((n' < n ∧ c' < 3 ^ n') ∨ (n' = n ∧ c' < 3 ^ n)) := fun n' c' q => by
    rcases q with q | q
    · by_cases e : n' = n
      · subst e
        exact Or.inr ⟨rfl, q.2⟩
      · exact Or.inl ⟨by omega, q.2⟩
    · omega
  match o, h with
  | none, h => exact fun n' c' q => h n' c' (hv n' c' q)
  | some (r, n1, c1), h =>
    obtain ⟨h1, h2, h3, h4⟩ := h
    refine ⟨Or.inl ?_, h2, h3, fun n' c' q => h4 n' c' (hv n' c' q)⟩
    rcases h1 with q | q
    · exact ⟨by omega, q.2⟩
    · rw [q.1]
      exact ⟨by omega, q.2⟩
theorem IsB_beO {hs : Nat → Nat → Int32} : ∀ q n o, IsB hs n 0 o → IsB hs (n + q) 0 (beO hs q n o) := by
  intro q
  induction q with
  | zero => intro n o h; exact h
  | succ q ih =>
    intro n o h
    have h1 := IsB_beB (3 ^ n) 0 o h
    rw [Nat.zero_add] at h1
    have := ih (n + 1) _ (IsB_next h1)
    rw [show n + 1 + q = n + (q + 1) by omega] at this
    exact this
theorem fwH_0 {hs : Nat → Int32} {e r c : Nat} (h : fwH hs e r c = 0) (hm : mny e c = r) : hs c = 0 := by
  unfold fwH at h
  rw [if_pos hm] at h
  exact h
theorem fwH_n {hs : Nat → Int32} {e r c : Nat} (h : ¬ fwH hs e r c = 0) : mny e c = r ∧ ¬ hs c = 0 := by
  unfold fwH at h
  by_cases hm : mny e c = r
  · rw [if_pos hm] at h
    exact ⟨hm, h⟩
  · rw [if_neg hm] at h
    exact absurd rfl h
theorem fe1_none {hs : Nat → Nat → Int32} {r : Nat} : ∀ m n, fe1 hs r m n = none → ∀ n' c', n ≤ n' → n' < n + m → c' < 3 ^ n' → mny n' c' = r → hs n' c' = 0 := by
  intro m
  induction m with
  | zero => intro n _ n' c' h1 h2; omega
  | succ m ih =>
    intro n h n' c' h1 h2 h3 h4
    unfold fe1 at h
    cases hf : fcd (fwH (hs n) n r) (3 ^ n) 0 with
    | none =>
      rw [hf] at h
      by_cases e : n' = n
      · subst e
        exact fwH_0 (fcd_none _ _ hf c' (by omega) (by omega)) h4
      · exact ih (n + 1) h n' c' (by omega) (by omega) h3 h4
    | some c =>
      rw [hf] at h
      cases h
theorem fe1_some {hs : Nat → Nat → Int32} {r n1 c1 : Nat} : ∀ m n, fe1 hs r m n = some (n1, c1) → (n ≤ n1 ∧ n1 < n + m ∧ c1 < 3 ^ n1) ∧ mny n1 c1 = r ∧ ¬ hs n1 c1 = 0 ∧ ∀ n' c', n ≤ n' → c' < 3 ^ n' → mny n' c' = r → ¬ hs n' c' = 0 → n1 < n' ∨ (n1 = n' ∧ c1 ≤ c') := by
  intro m
  induction m with
  | zero => intro n h; cases h
  | succ m ih =>
    intro n h
    unfold fe1 at h
    cases hf : fcd (fwH (hs n) n r) (3 ^ n) 0 with
    | none =>
      rw [hf] at h
      obtain ⟨a1, a2, a3, a4⟩ := ih (n + 1) h
      refine ⟨⟨by omega, by omega, a1.2.2⟩, a2, a3, fun n' c' h1 h2 h3 h4 => ?_⟩
      by_cases e : n' = n
      · subst e
        exact absurd (fwH_0 (fcd_none _ _ hf c' (by omega) (by omega)) h3) h4
      · exact a4 n' c' (by omega) h2 h3 h4
    | some c =>
      rw [hf] at h
      have h' : (n, c) = (n1, c1) := Option.some.inj h
      have e1 : n = n1 := congrArg Prod.fst h'
      have e2 : c = c1 := congrArg Prod.snd h'
      subst e1
      subst e2
      obtain ⟨b1, b2, b3⟩ := fcd_bd _ _ _ hf
      obtain ⟨b4, b5⟩ := fwH_n b3
      refine ⟨⟨by omega, by omega, by omega⟩, b4, b5, fun n' c' h1 h2 h3 h4 => ?_⟩
      by_cases e : n' = n
      · subst e
        by_cases hlt : c' < c
        · exact absurd (fwH_0 (fcd_least _ _ _ hf c' (by omega) hlt) h3) h4
        · omega
      · omega
theorem IsB_fe2 {hs : Nat → Nat → Int32} : ∀ q r, 8 = r + q → (∀ n' c', n' < 8 → c' < 3 ^ n' → mny n' c' < r → hs n' c' = 0) → IsB hs 8 0 (fe2 hs q r) := by
  have hv : ∀ n' c', ((n' < 8 ∧ c' < 3 ^ n') ∨ (n' = 8 ∧ c' < 0)) → n' < 8 ∧ c' < 3 ^ n' := fun n' c' q => q.elim id (fun q => absurd q.2 (Nat.not_lt_zero _))
  intro q
  induction q with
  | zero =>
    intro r hr h n' c' hq
    obtain ⟨q1, q2⟩ := hv n' c' hq
    exact h n' c' q1 q2 (by have := mny_le n' c'; omega)
  | succ q ih =>
    intro r hr h
    unfold fe2
    cases hf : fe1 hs r (q + 1) r with
    | none =>
      refine ih (r + 1) (by omega) (fun n' c' q1 q2 q3 => ?_)
      by_cases e : mny n' c' = r
      · have := mny_le n' c'
        exact fe1_none _ _ hf n' c' (by omega) (by omega) q2 e
      · exact h n' c' q1 q2 (by omega)
    | some x =>
      obtain ⟨n1, c1⟩ := x
      obtain ⟨a1, a2, a3, a4⟩ := fe1_some _ _ hf
      refine ⟨Or.inl ⟨by omega, a1.2.2⟩, a3, a2, fun n' c' hq hne => ?_⟩
      obtain ⟨q1, q2⟩ := hv n' c' hq
      have hle := mny_le n' c'
      by_cases e : mny n' c' < r
      · exact absurd (h n' c' q1 q2 e) hne
      · by_cases e2 : mny n' c' = r
        · exact Or.inr ⟨e2.symm, a4 n' c' (by omega) q2 e2 hne⟩
        · omega
theorem be_0 (hs : Nat → Nat → Int32) : IsB hs 0 0 none := fun n' c' q => absurd q (by omega)
theorem be_feg (hs : Nat → Nat → Int32) (q n q' r : Nat) (h8 : n + q = 8) (hn : n = 0) (hr : 8 = r + q') (r0 : r = 0) : beO hs q n none = fe2 hs q' r := by
  have h1 := IsB_beO (hs := hs) q n none (by rw [hn]; exact be_0 hs)
  rw [h8] at h1
  exact IsB_one h1 (IsB_fe2 (hs := hs) q' r hr (fun n' c' _ _ q => absurd q (by omega)))
theorem be_fe (hs : Nat → Nat → Int32) : beO hs 8 0 none = fe2 hs 8 0 := be_feg hs 8 0 8 0 rfl rfl rfl rfl
/-! the walks -/
theorem fewest_Ci {μ0 : Mu} {z : Zt} {t r : Nat} {i l2 : Int32} (hT : Tc μ0 z) (hz : 554 ≤ z.2.2.2.1) (hg : Gc t (μ0 403)) (h9 : t < 20000) (h7 : μ0 400 7 = 0) (hi : -1 ≤ i.toInt) (h2 : l2.toInt = (r : Int)) (hr : r ≤ 8) {k26 : Wd → Option Nat → Int32 → Int32 → Option (Int32 × Wd)} : ∀ (m n fu : Nat) (l3 : Int32) (μ : Mu), 8 = n + m → l3.toInt = (n : Int) → m < fu → CQ μ0 μ → Eq4 (μ0 403) (μ 521) →
    ∃ μ', CQ μ0 μ' ∧ Eq4 (μ0 403) (μ' 521) ∧ mX0_fewest_l34 k26 fu (E μ z) (some 400) i l2 l3 = (match fe1 (hsQ μ0) r m n with | none => k26 (E μ' z) (some 400) i (l2 + 1) | some x => some (ansC i (Int32.ofNat r) x.1 x.2, E μ' z)) := by
  intro m
  induction m with
  | zero =>
    intro n fu l3 μ hm h3 hf hc hX
    obtain ⟨g, rfl⟩ : ∃ g, fu = g + 1 := ⟨fu - 1, by omega⟩
    refine ⟨μ, hc, hX, ?_⟩
    show mX0_fewest_b34 _ _ _ _ _ _ _ = _
    unfold mX0_fewest_b34
    exact if_pos (by rw [Int32.lt_iff_toInt_lt, h3]; show (7 : Int) < _; omega)
  | succ m ih =>
    intro n fu l3 μ hm h3 hf hc hX
    obtain ⟨g, rfl⟩ : ∃ g, fu = g + 1 := ⟨fu - 1, by omega⟩
    obtain ⟨μ1, e1, hs⟩ := stillsBy_E (z := z) (n := n) hT hz hg h9 h7 (by omega) h3 n 0 0 10 r 0 l2 μ (by omega) rfl h2 (by omega) (by omega) hc hX
    rw [Nat.zero_mul] at e1 hs
    have el : l2 = Int32.ofNat r := I_nat h2
    have el3 : l3 = Int32.ofNat n := I_nat h3
    have pre : ∀ ρ : Option (Int32 × Wd), (if ¬ okF (fcd (fwH (hsQ μ0 n) n r) (3 ^ n) 0) = 0 then (if ¬ i = (-1) then (if l3 ≤ i then some ((-2), E μ1 z) else ((gR (E μ1 z) (some 400) 0 12).bind fun v3 => (ia (E μ1 z) v3 i).bind fun v4 => some (v4, E μ1 z))) else some (l2, E μ1 z)) else mX0_fewest_l34 k26 g (E μ1 z) (some 400) i l2 (l3 + 1)) = ρ → mX0_fewest_l34 k26 (g + 1) (E μ z) (some 400) i l2 l3 = ρ := by
      intro ρ hρ
      show mX0_fewest_b34 _ _ _ _ _ _ _ = _
      unfold mX0_fewest_b34
      refine (if_neg (by rw [Int32.lt_iff_toInt_lt, h3]; show ¬ (7 : Int) < _; omega)).trans ?_
      refine bind_step (recv_400 554 (by omega) _ _) ?_
      refine bind_step (cal_E e1) ?_
      exact hρ
    have hX1 : Eq4 (μ0 403) (μ1 521) := by
      have := hs.2.1 0 (by omega)
      rw [show μ1 521 = μ 521 from this]
      exact hX
    unfold fe1
    cases hf1 : fcd (fwH (hsQ μ0 n) n r) (3 ^ n) 0 with
    | none =>
      rw [hf1] at pre
      obtain ⟨μ', c2, x2, e⟩ := ih (n + 1) g (l3 + 1) μ1 (by omega) (inc_I h3 (by omega)) (by omega) hs.1 hX1
      exact ⟨μ', c2, x2, pre _ ((if_neg (fun q => q rfl)).trans e)⟩
    | some c =>
      rw [hf1] at pre
      refine ⟨μ1, hs.1, hX1, pre _ ((if_pos one_ne).trans ?_)⟩
      show _ = some (ansC i (Int32.ofNat r) n c, E μ1 z)
      unfold ansC
      by_cases c1 : ¬ i = -1
      · rw [if_pos c1, if_pos c1, el3]
        by_cases c2 : Int32.ofNat n ≤ i
        · rw [if_pos c2, if_pos c2]
        · rw [if_neg c2, if_neg c2]
          refine bind_step (gR_400_12 554 (by omega) _ _) ?_
          refine bind_step (ans_C hs hf1 hi c1 (by omega) c2) ?_
          rfl
      · rw [if_neg c1, if_neg c1, el]
theorem fewest_C {μ0 : Mu} {z : Zt} {t : Nat} {i : Int32} (hT : Tc μ0 z) (hz : 554 ≤ z.2.2.2.1) (hg : Gc t (μ0 403)) (h9 : t < 20000) (h7 : μ0 400 7 = 0) (hi : -1 ≤ i.toInt) : ∀ (q r fu : Nat) (l2 : Int32) (μ : Mu), 8 = r + q → l2.toInt = (r : Int) → q < fu → CQ μ0 μ → Eq4 (μ0 403) (μ 521) →
    ∃ μ', mX0_fewest_l26 fu (E μ z) (some 400) i l2 = some (ans3 i (fe2 (hsQ μ0) q r), E μ' z) ∧ CQ μ0 μ' := by
  intro q
  induction q with
  | zero =>
    intro r fu l2 μ hq h2 hf hc hX
    obtain ⟨g, rfl⟩ : ∃ g, fu = g + 1 := ⟨fu - 1, by omega⟩
    refine ⟨μ, ?_, hc⟩
    show mX0_fewest_b26 _ _ _ _ _ = _
    unfold mX0_fewest_b26
    exact if_pos (by rw [Int32.lt_iff_toInt_lt, h2]; show (7 : Int) < _; omega)
  | succ q ih =>
    intro r fu l2 μ hq h2 hf hc hX
    obtain ⟨g, rfl⟩ : ∃ g, fu = g + 1 := ⟨fu - 1, by omega⟩
    obtain ⟨μ1, c1, x1, e1⟩ := fewest_Ci (k26 := mX0_fewest_l26 g) hT hz hg h9 h7 hi h2 (by omega) (q + 1) r FU l2 μ hq h2 (by unfold FU; omega) hc hX
    have pre : ∀ ρ : Option (Int32 × Wd), mX0_fewest_l34 (mX0_fewest_l26 g) FU (E μ z) (some 400) i l2 l2 = ρ → mX0_fewest_l26 (g + 1) (E μ z) (some 400) i l2 = ρ := by
      intro ρ hρ
      show mX0_fewest_b26 _ _ _ _ _ = _
      unfold mX0_fewest_b26
      exact (if_neg (by rw [Int32.lt_iff_toInt_lt, h2]; show ¬ (7 : Int) < _; omega)).trans hρ
    unfold fe2
    cases hf1 : fe1 (hsQ μ0) r (q + 1) r with
    | none =>
      rw [hf1] at e1
      obtain ⟨μ', e, hq9⟩ := ih (r + 1) g (l2 + 1) μ1 (by omega) (inc_I h2 (by omega)) (by omega) c1 x1
      exact ⟨μ', pre _ (e1.trans e), hq9⟩
    | some x =>
      rw [hf1] at e1
      exact ⟨μ1, pre _ e1, c1⟩
/-- how the model keeps the best -/
def StB (l2 l3 l4 : Int32) : Trp → Prop
  | none => l2 = 100000000
  | some (r, n, c) => l2.toInt = (r : Int) ∧ l3.toInt = (c : Int) ∧ l4.toInt = (n : Int) ∧ r ≤ 7 ∧ n ≤ 7 ∧ c < 3 ^ n
theorem fewest_in {μ0 : Mu} {z0 : Zt} {t n : Nat} {A0 : Nat → Int32} {i l5 l6 : Int32} (h0 : SM0 μ0 z0 t A0) (hn : n ≤ 7) (h5 : l5.toInt = ((3 ^ n : Nat) : Int)) (h6 : l6.toInt = (n : Int)) {k23 : Wd → Option Nat → Int32 → Int32 → Int32 → Int32 → Int32 → Int32 → Option (Int32 × Wd)} : ∀ (m c fu : Nat) (l2 l3 l4 l7 : Int32) (o : Trp) (μ : Mu) (z : Zt), 3 ^ n = c + m → l7.toInt = (c : Int) → m < fu → StB l2 l3 l4 o → SM μ0 z0 t A0 μ z →
    ∃ μ' z' l2' l3' l4', SM μ0 z0 t A0 μ' z' ∧ StB l2' l3' l4' (beB (hsQ μ0) n m c o) ∧ mX2_fewest_l33 k23 fu (E μ z) (some 537) i l2 l3 l4 l5 l6 l7 = k23 (E μ' z') (some 537) i l2' l3' l4' (l5 * 3) (l6 + 1) := by
  intro m
  induction m with
  | zero =>
    intro c fu l2 l3 l4 l7 o μ z hm h7 hf ho hs
    obtain ⟨g, rfl⟩ : ∃ g, fu = g + 1 := ⟨fu - 1, by omega⟩
    refine ⟨μ, z, l2, l3, l4, hs, ho, ?_⟩
    show mX2_fewest_b33 _ _ _ _ _ _ _ _ _ _ _ = _
    unfold mX2_fewest_b33
    exact if_pos (by rw [Int32.le_iff_toInt_le, h5, h7]; omega)
  | succ m ih =>
    intro c fu l2 l3 l4 l7 o μ z hm h7 hf ho hs
    obtain ⟨g, rfl⟩ : ∃ g, fu = g + 1 := ⟨fu - 1, by omega⟩
    have p7 := pw7 hn
    have hmy := mny_le n c
    obtain ⟨μ1, z1, e1, s1⟩ := comes_S h0 hs hn (by omega) h7 h6
    have hmI : (Int32.ofNat (mny n c)).toInt = ((mny n c : Nat) : Int) := tI (by omega)
    have pre : ∀ ρ : Option (Int32 × Wd), (if l2 ≤ Int32.ofNat (mny n c) then mX2_fewest_l33 k23 g (E μ z) (some 537) i l2 l3 l4 l5 l6 (l7 + 1) else (if ¬ hsQ μ0 n c = 0 then mX2_fewest_l33 k23 g (E μ1 z1) (some 537) i (Int32.ofNat (mny n c)) l7 l6 l5 l6 (l7 + 1) else mX2_fewest_l33 k23 g (E μ1 z1) (some 537) i l2 l3 l4 l5 l6 (l7 + 1))) = ρ → mX2_fewest_l33 k23 (g + 1) (E μ z) (some 537) i l2 l3 l4 l5 l6 l7 = ρ := by
      intro ρ hρ
      show mX2_fewest_b33 _ _ _ _ _ _ _ _ _ _ _ = _
      unfold mX2_fewest_b33
      refine (if_neg (by rw [Int32.le_iff_toInt_le, h5, h7]; omega)).trans ?_
      refine bind_step (cal_w (many_E h7 h6 hn (by omega))) ?_
      by_cases q1 : l2 ≤ Int32.ofNat (mny n c)
      · rw [if_pos q1] at hρ
        exact (if_pos q1).trans hρ
      · rw [if_neg q1] at hρ
        refine (if_neg q1).trans ?_
        refine bind_step (recv_537 554 (by omega) _ _) ?_
        refine bind_step (calZ' hs s1 e1) ?_
        by_cases q2 : ¬ hsQ μ0 n c = 0
        · rw [if_pos q2] at hρ
          refine (if_pos q2).trans ?_
          refine bind_step (cal_w (many_E h7 h6 hn (by omega))) ?_
          exact hρ
        · rw [if_neg q2] at hρ
          exact (if_neg q2).trans hρ
    have hnew : StB (Int32.ofNat (mny n c)) l7 l6 (some (mny n c, n, c)) := ⟨hmI, h7, h6, by omega, hn, by omega⟩
    have i7 : (l7 + 1).toInt = ((c + 1 : Nat) : Int) := inc_I h7 (by omega)
    match o, ho with
    | none, ho =>
      have ho' : l2 = 100000000 := ho
      have nle : ¬ l2 ≤ Int32.ofNat (mny n c) := by rw [ho', Int32.le_iff_toInt_le, hmI]; show ¬ (100000000 : Int) ≤ _; omega
      by_cases q : hsQ μ0 n c = 0
      · obtain ⟨μ', z', l2', l3', l4', a1, a2, a3⟩ := ih (c + 1) g l2 l3 l4 (l7 + 1) none μ1 z1 (by omega) i7 (by omega) ho s1
        refine ⟨μ', z', l2', l3', l4', a1, ?_, pre _ ((if_neg nle).trans ((if_neg (fun w => w q)).trans a3))⟩
        show StB l2' l3' l4' (beB (hsQ μ0) n m (c + 1) (if hsQ μ0 n c = 0 then none else some (mny n c, n, c)))
        rw [if_pos q]
        exact a2
      · obtain ⟨μ', z', l2', l3', l4', a1, a2, a3⟩ := ih (c + 1) g _ _ _ (l7 + 1) (some (mny n c, n, c)) μ1 z1 (by omega) i7 (by omega) hnew s1
        refine ⟨μ', z', l2', l3', l4', a1, ?_, pre _ ((if_neg nle).trans ((if_pos q).trans a3))⟩
        show StB l2' l3' l4' (beB (hsQ μ0) n m (c + 1) (if hsQ μ0 n c = 0 then none else some (mny n c, n, c)))
        rw [if_neg q]
        exact a2
    | some (r, n1, c1), ho =>
      have hr : l2.toInt = (r : Int) := ho.1
      by_cases q1 : r ≤ mny n c
      · have le : l2 ≤ Int32.ofNat (mny n c) := by rw [Int32.le_iff_toInt_le, hmI, hr]; omega
        obtain ⟨μ', z', l2', l3', l4', a1, a2, a3⟩ := ih (c + 1) g l2 l3 l4 (l7 + 1) (some (r, n1, c1)) μ z (by omega) i7 (by omega) ho hs
        refine ⟨μ', z', l2', l3', l4', a1, ?_, pre _ ((if_pos le).trans a3)⟩
        show StB l2' l3' l4' (beB (hsQ μ0) n m (c + 1) (if r ≤ mny n c then some (r, n1, c1) else if hsQ μ0 n c = 0 then some (r, n1, c1) else some (mny n c, n, c)))
        rw [if_pos q1]
        exact a2
      · have nle : ¬ l2 ≤ Int32.ofNat (mny n c) := by rw [Int32.le_iff_toInt_le, hmI, hr]; omega
        by_cases q : hsQ μ0 n c = 0
        · obtain ⟨μ', z', l2', l3', l4', a1, a2, a3⟩ := ih (c + 1) g l2 l3 l4 (l7 + 1) (some (r, n1, c1)) μ1 z1 (by omega) i7 (by omega) ho s1
          refine ⟨μ', z', l2', l3', l4', a1, ?_, pre _ ((if_neg nle).trans ((if_neg (fun w => w q)).trans a3))⟩
          show StB l2' l3' l4' (beB (hsQ μ0) n m (c + 1) (if r ≤ mny n c then some (r, n1, c1) else if hsQ μ0 n c = 0 then some (r, n1, c1) else some (mny n c, n, c)))
          rw [if_neg q1, if_pos q]
          exact a2
        · obtain ⟨μ', z', l2', l3', l4', a1, a2, a3⟩ := ih (c + 1) g _ _ _ (l7 + 1) (some (mny n c, n, c)) μ1 z1 (by omega) i7 (by omega) hnew s1
          refine ⟨μ', z', l2', l3', l4', a1, ?_, pre _ ((if_neg nle).trans ((if_pos q).trans a3))⟩
          show StB l2' l3' l4' (beB (hsQ μ0) n m (c + 1) (if r ≤ mny n c then some (r, n1, c1) else if hsQ μ0 n c = 0 then some (r, n1, c1) else some (mny n c, n, c)))
          rw [if_neg q1, if_neg q]
          exact a2
theorem fewest_M {μ0 : Mu} {z0 : Zt} {t : Nat} {A0 : Nat → Int32} {i : Int32} (h0 : SM0 μ0 z0 t A0) (hi : -1 ≤ i.toInt) : ∀ (q n fu : Nat) (l2 l3 l4 l5 l6 : Int32) (o : Trp) (μ : Mu) (z : Zt), 8 = n + q → l5.toInt = ((3 ^ n : Nat) : Int) → l6.toInt = (n : Int) → q < fu → StB l2 l3 l4 o → SM μ0 z0 t A0 μ z →
    ∃ μ' z', mX2_fewest_l23 fu (E μ z) (some 537) i l2 l3 l4 l5 l6 = some (ans3 i (beO (hsQ μ0) q n o), E μ' z') ∧ SM μ0 z0 t A0 μ' z' := by
  intro q
  induction q with
  | zero =>
    intro n fu l2 l3 l4 l5 l6 o μ z hq h5 h6 hf ho hs
    obtain ⟨g, rfl⟩ : ∃ g, fu = g + 1 := ⟨fu - 1, by omega⟩
    refine ⟨μ, z, ?_, hs⟩
    show mX2_fewest_b23 _ _ _ _ _ _ _ _ _ = some (ans3 i o, E μ z)
    unfold mX2_fewest_b23
    refine (if_pos (by rw [Int32.le_iff_toInt_le, h6]; show (8 : Int) ≤ _; omega)).trans ?_
    match o, ho with
    | none, ho => exact if_neg (fun q => q ho)
    | some (r, n1, c1), ho =>
      obtain ⟨o1, o2, o3, o4, o5, o6⟩ := ho
      have p7 := pw7 o5
      refine (if_pos (fun q => by rw [q] at o1; have : (100000000 : Int32).toInt = 100000000 := rfl; omega)).trans ?_
      show _ = some (ansC i (Int32.ofNat r) n1 c1, E μ z)
      unfold ansC
      rw [I_nat o1, I_nat o3]
      by_cases c2 : ¬ i = -1
      · rw [if_pos c2, if_pos c2]
        by_cases c3 : Int32.ofNat n1 ≤ i
        · rw [if_pos c3, if_pos c3]
        · rw [if_neg c3, if_neg c3]
          have hne : i.toInt ≠ -1 := fun q => c2 (I32_eq (by rw [q]; rfl))
          rw [Int32.le_iff_toInt_le, tI (show n1 < 2 ^ 31 by omega)] at c3
          refine bind_step (cal_w (digit_E (i := i.toInt.toNat) (n := n1) o2 (tI (by omega)) (by omega) (by omega) o5 (by omega))) ?_
          rfl
      · rw [if_neg c2, if_neg c2]
  | succ q ih =>
    intro n fu l2 l3 l4 l5 l6 o μ z hq h5 h6 hf ho hs
    obtain ⟨g, rfl⟩ : ∃ g, fu = g + 1 := ⟨fu - 1, by omega⟩
    have p7 := pw7 (show n ≤ 7 by omega)
    obtain ⟨μ1, z1, l2', l3', l4', a1, a2, a3⟩ := fewest_in (i := i) (k23 := mX2_fewest_l23 g) h0 (show n ≤ 7 by omega) h5 h6 (3 ^ n) 0 FU l2 l3 l4 0 o μ z (by omega) rfl (by unfold FU; omega) ho hs
    have h5' : (l5 * 3).toInt = ((3 ^ (n + 1) : Nat) : Int) := by
      rw [Nat.pow_succ]
      exact mulN h5 (b := 3) (y := 3) rfl (by omega)
    obtain ⟨μ', z', e, s2⟩ := ih (n + 1) g l2' l3' l4' (l5 * 3) (l6 + 1) _ μ1 z1 (by omega) h5' (inc_I h6 (by omega)) (by omega) a2 a1
    refine ⟨μ', z', ?_, s2⟩
    show mX2_fewest_b23 _ _ _ _ _ _ _ _ _ = _
    unfold mX2_fewest_b23
    refine (if_neg (by rw [Int32.le_iff_toInt_le, h6]; show ¬ (8 : Int) ≤ _; omega)).trans ?_
    exact a3.trans e
theorem ow_fewest (L : Nat) (xs : Nat → Int32) : Ow_fewest (Inv (TX TT) L xs) := by
  intro n μ z i hI
  obtain ⟨t, ht, ht9, hgo, hTc, hn1, h4, h2, hc7, hf25⟩ := Inv_q hI
  have hz := hI.2.2.2.1.2.1
  have m1 : (-1 : Int32).toInt = -1 := rfl
  by_cases hi : (-1 : Int32) ≤ i
  · have hi' : -1 ≤ i.toInt := by rw [Int32.le_iff_toInt_le, m1] at hi; exact hi
    have ec := copy_E (p := 554) (μ := μ) (z := z) isI_403 (isI_521 0 (by omega)) (by omega) (by omega) (by omega)
    have c1 : CQ μ (setM μ 521 (va_cpy (μ 403) (μ 521) 0 0 413)) := CQ_set ⟨by omega, by omega⟩ (CQ.refl μ)
    obtain ⟨μ1, e1, hq⟩ := fewest_C (i := i) hTc hz (Go_Gc hgo) (by omega) hc7 hi' 8 0 FU 0 _ (by omega) rfl (by unfold FU; omega) c1 (fun j hj => by rw [setM_same, cpy413 hj])
    have f1 : mX0_fewest 400 i (E μ z) = some (ans3 i (fe2 (hsQ μ) 8 0), E μ1 z) := by
      unfold mX0_fewest
      refine (if_pos hi).trans ?_
      refine bind_step (gR_400_0 554 (by omega) _ _) ?_
      refine bind_step (gR_401_1 554 (by omega) _ _) ?_
      refine bind_step (gR_400_11 554 (by omega) _ _) ?_
      refine bind_step (aa_E (n := 0) isA_520 rfl (by omega)) ?_
      refine bind_step (cal_E ec) ?_
      exact e1
    obtain ⟨μ2, z2, e2, s2⟩ := fewest_M (i := i) (Inv_SM0 hI ht hq) hi' 8 0 FU 100000000 0 0 1 0 none μ1 z (by omega) rfl rfl (by unfold FU; omega) rfl ⟨MFr.refl _ _, by rw [hq.1 538 (by omega)]; exact RgOk.refl _ _⟩
    rw [hsQ_CQ hq, be_fe] at e2
    refine Agr_q hI ht _ f1 hq ?_ s2.1 s2.2
    show mX2_fewest 537 i (E μ1 z) = _
    unfold mX2_fewest
    exact (if_pos hi).trans e2
  · refine Agr_ro hI (-2) ?_ ?_
    · show mX0_fewest 400 i (E μ z) = _
      unfold mX0_fewest
      exact if_neg hi
    · show mX2_fewest 537 i (E μ z) = _
      unfold mX2_fewest
      exact if_neg hi
