/-! ===== commands by codes: digits to three ===== -/
def cmI (d : Nat) : Int32 := Int32.ofNat d - 1
/-- the row behind k commands, these as a number to three -/
def xcF (tx : Nat → Int32) (t4 : Int32) (X : Nat → Int32) : Nat → Nat → Nat → Int32
  | 0, _ => X
  | k + 1, p => tenF tx t4 0 (xcF tx t4 X k (p / 3)) (cmI (p % 3))
/-- the first that isn't nought, of d from c on -/
def fcd (h : Nat → Int32) : Nat → Nat → Option Nat
  | 0, _ => none
  | d + 1, c => if h c = 0 then fcd h d (c + 1) else some c
theorem fcd_succ {h : Nat → Int32} {d c : Nat} : fcd h (d + 1) c = if h c = 0 then fcd h d (c + 1) else some c := rfl
theorem fcd_app {h : Nat → Int32} : ∀ a b c, fcd h (a + b) c = (match fcd h a c with | none => fcd h b (c + a) | some x => some x) := by
  intro a
  induction a with
  | zero => intro b c; rw [Nat.zero_add]; rfl
  | succ a ih =>
    intro b c
    rw [show a + 1 + b = (a + b) + 1 by omega, fcd_succ (d := a + b), fcd_succ (d := a)]
    by_cases hc : h c = 0
    · rw [if_pos hc, if_pos hc, ih, show c + 1 + a = c + (a + 1) by omega]
    · rw [if_neg hc, if_neg hc]
theorem fcd_bd {h : Nat → Int32} : ∀ d c x, fcd h d c = some x → c ≤ x ∧ x < c + d ∧ ¬ h x = 0 := by
  intro d
  induction d with
  | zero => intro c x e; cases e
  | succ d ih =>
    intro c x e
    unfold fcd at e
    by_cases hc : h c = 0
    · rw [if_pos hc] at e
      obtain ⟨a1, a2, a3⟩ := ih _ _ e
      exact ⟨by omega, by omega, a3⟩
    · rw [if_neg hc] at e
      cases e
      exact ⟨by omega, by omega, hc⟩
theorem fcd_least {h : Nat → Int32} : ∀ d c x, fcd h d c = some x → ∀ y, c ≤ y → y < x → h y = 0 := by
  intro d
  induction d with
  | zero => intro c x e; cases e
  | succ d ih =>
    intro c x e y y1 y2
    unfold fcd at e
    by_cases hc : h c = 0
    · rw [if_pos hc] at e
      by_cases hy : y = c
      · rw [hy]; exact hc
      · exact ih _ _ e y (by omega) y2
    · rw [if_neg hc] at e
      cases e
      omega
theorem fcd_none {h : Nat → Int32} : ∀ d c, fcd h d c = none → ∀ y, c ≤ y → y < c + d → h y = 0 := by
  intro d
  induction d with
  | zero => intro c e y y1 y2; omega
  | succ d ih =>
    intro c e y y1 y2
    unfold fcd at e
    by_cases hc : h c = 0
    · rw [if_pos hc] at e
      by_cases hy : y = c
      · rw [hy]; exact hc
      · exact ih _ e y (by omega) (by omega)
    · rw [if_neg hc] at e
      cases e
theorem fcd_all0 {h : Nat → Int32} : ∀ d c, (∀ y, c ≤ y → y < c + d → h y = 0) → fcd h d c = none := by
  intro d
  induction d with
  | zero => intro c _; rfl
  | succ d ih =>
    intro c e
    unfold fcd
    rw [if_pos (e c (by omega) (by omega))]
    exact ih _ (fun y y1 y2 => e y (by omega) (by omega))
theorem fcd_congr {h h' : Nat → Int32} : ∀ d c, (∀ y, c ≤ y → y < c + d → h' y = h y) → fcd h' d c = fcd h d c := by
  intro d
  induction d with
  | zero => intro c _; rfl
  | succ d ih =>
    intro c e
    unfold fcd
    rw [e c (by omega) (by omega), ih _ (fun y y1 y2 => e y (by omega) (by omega))]
def okF (o : Option Nat) : Int32 := match o with
  | none => 0
  | some _ => 1
theorem blk {a c q : Nat} (hq : 0 < q) (h1 : a * q ≤ c) (h2 : c < a * q + q) : c / q = a :=
  Nat.div_eq_of_lt_le h1 (by rw [Nat.add_mul, Nat.one_mul]; exact h2)
theorem hsF_01 (near : Int32) (X : Nat → Int32) : hsF near X = 0 ∨ hsF near X = 1 := by
  unfold hsF
  split
  · exact Or.inl rfl
  · split
    · exact Or.inl rfl
    · split
      · exact Or.inl rfl
      · split
        · exact Or.inl rfl
        · exact Or.inr rfl
theorem cmI_bd {d : Nat} (h : d < 3) : bd (cmI d) (-1) 1 ∧ (cmI d).toInt = (d : Int) - 1 := by
  match d, h with
  | 0, _ => exact ⟨⟨by decide, by decide⟩, rfl⟩
  | 1, _ => exact ⟨⟨by decide, by decide⟩, rfl⟩
  | 2, _ => exact ⟨⟨by decide, by decide⟩, rfl⟩
theorem cmI_of {x : Int32} {d : Nat} (hd : d < 3) (h : x.toInt = (d : Int) - 1) : x = cmI d := I32_eq (by rw [h, (cmI_bd hd).2])
theorem Gc_xc {tx : Nat → Int32} {t4 : Int32} {X : Nat → Int32} {t : Nat} (h0 : Gc t X) : ∀ k p, t + k < 1000000 → Gc (t + k) (xcF tx t4 X k p) := by
  intro k
  induction k with
  | zero => intro p _; exact h0
  | succ k ih => intro p hk; exact Gc_next (t := t + k) (by omega) (ih _ (by omega))
abbrev xq (μ : Mu) : Nat → Nat → Nat → Int32 := xcF (μ 540) (μ 402 3) (μ 403)
theorem CQ_xq {μ μ1 : Mu} (h : CQ μ μ1) : xq μ1 = xq μ := by
  unfold xq
  rw [h.1 540 (by omega), h.1 402 (by omega), h.1 403 (by omega)]
/-- one command tried, of the row k, into the row k + 1 -/
theorem try_E {μ0 μ : Mu} {z : Zt} {t k p d : Nat} {l1 l3 : Int32} (hT : Tc μ0 z) (hz : 554 ≤ z.2.2.2.1) (hg : Gc t (μ0 403)) (h9 : t < 20000) (h7 : μ0 400 7 = 0) (hk : k < 7) (h1 : l1.toInt = (k : Int)) (hd : d < 3) (h3 : l3 = cmI d) (hc : CQ μ0 μ) (hX : Eq4 (xq μ0 k p) (μ (521 + k))) :
    ∃ μ1 μ2 μ3, ias (E μ z) (some 529) l1 l3 = some (E μ1 z) ∧ mX1_copy (some (521 + k)) (some (521 + (k + 1))) (E μ1 z) = some ((), E μ2 z) ∧ mX0_tenth 400 (some (521 + (k + 1))) l3 (E μ2 z) = some ((), E μ3 z) ∧ CQ μ0 μ3 ∧ (∀ j, j ≤ k → μ3 (521 + j) = μ (521 + j)) ∧ μ3 529 = upd (μ 529) k l3 ∧ Eq4 (xq μ0 (k + 1) (3 * p + d)) (μ3 (521 + (k + 1))) := by
  have e1 := ias_E (p9 := 554) (μ := μ) (z := z) (v := l3) (n := k) isI_529 h1 (by omega)
  have e2 := copy_E (p := 554) (μ := up μ 529 k l3) (z := z) (isI_521 k (by omega)) (isI_521 (k + 1) (by omega)) (by omega) (by omega) (by omega)
  rw [setM_fC (okl_521 (k + 1) (by omega))] at e2
  have c1 : CQ μ0 (up μ 529 k l3) := CQ_set ⟨by omega, by omega⟩ hc
  have hT1 : Tc (up μ 529 k l3) z := Tc_CFr (CQ_CFr c1) hz hT
  have a402 : up μ 529 k l3 402 = μ0 402 := c1.1 402 (by omega)
  have a540 : up μ 529 k l3 540 = μ0 540 := c1.1 540 (by omega)
  have a7 : up μ 529 k l3 400 7 = 0 := by rw [c1.2 7 (by omega)]; exact h7
  have s521 : ∀ j, j < 8 → up μ 529 k l3 (521 + j) = μ (521 + j) := fun j hj => setM_ne (by omega)
  have hX2 : Eq4 (xq μ0 k p) (va_cpy (up μ 529 k l3 (521 + k)) (up μ 529 k l3 (521 + (k + 1))) 0 0 413) := fun j hj => by
    rw [cpy413 hj, s521 k (by omega)]
    exact hX j hj
  have hG : Gc (t + k) (va_cpy (up μ 529 k l3 (521 + k)) (up μ 529 k l3 (521 + (k + 1))) 0 0 413) := Gc_ext hX2 (Gc_xc hg k p (by omega))
  obtain ⟨N', e3⟩ := tenth_E (μ := up μ 529 k l3) (z := z) (l := 521 + (k + 1)) (C := up μ 529 k l3 400) (N := up μ 529 k l3 518) (X := va_cpy (up μ 529 k l3 (521 + k)) (up μ 529 k l3 (521 + (k + 1))) 0 0 413) (c := l3) (okl_521 (k + 1) (by omega)) hT1 hG.1 hG.2.2 (by omega) hG.2.1 (by rw [h3]; exact (cmI_bd hd).1)
  refine ⟨_, _, _, e1, e2, e3, CQ_C ⟨by omega, by omega⟩ (fun j _ => rfl) c1, fun j hj => ?_, ?_, ?_⟩
  · rw [fC_o (by omega) (by omega) (by omega)]
    exact s521 j (by omega)
  · rw [fC_o (by omega) (by omega) (by omega)]
    exact setM_same _ _ _
  · rw [fC_l (okl_521 (k + 1) (by omega)), a402, a540, a7, h3]
    show Eq4 (tenF _ _ 0 (xcF _ _ _ k ((3 * p + d) / 3)) (cmI ((3 * p + d) % 3))) _
    rw [show (3 * p + d) / 3 = p by omega, show (3 * p + d) % 3 = d by omega]
    rw [h3] at hX2
    exact ten_congr hX2
/-- what a search leaves -/
def Sr (μ0 μ μ' : Mu) (k n : Nat) (o : Option Nat) : Prop := CQ μ0 μ' ∧ (∀ j, j ≤ k → μ' (521 + j) = μ (521 + j)) ∧ (∀ j, j < k → μ' 529 j = μ 529 j) ∧ ∀ c, o = some c → ∀ j, k ≤ j → j < n → μ' 529 j = cmI (c / 3 ^ (n - 1 - j) % 3)
theorem leaf_E {μ0 μ : Mu} {z : Zt} {k p : Nat} {l1 : Int32} (hk : k < 8) (hc : CQ μ0 μ) (hX : Eq4 (xq μ0 k p) (μ (521 + k))) : mX0_hangsStill 400 (some (521 + k)) (E μ z) = some (hsF (μ0 402 1) (xq μ0 k p), E μ z) := by
  have e := hangsStill_E (μ := μ) (z := z) (C := μ 400) (N := μ 518) (X := μ (521 + k)) (okl_521 k hk)
  rw [WC_0, hc.1 402 (by omega), hsF_4 hX] at e
  exact e
theorem fcd_1 {h : Nat → Int32} {p : Nat} (h01 : h p = 0 ∨ h p = 1) : okF (fcd h (3 ^ 0) (p * 3 ^ 0)) = h p := by
  rw [Nat.pow_zero, Nat.mul_one]
  show okF (if h p = 0 then none else some p) = h p
  rcases h01 with q | q
  · rw [if_pos q, q]; rfl
  · rw [if_neg (by rw [q]; exact one_ne), q]; rfl
section ST89
variable {μ0 : Mu} {z : Zt} {t n : Nat}
theorem stills_E (hT : Tc μ0 z) (hz : 554 ≤ z.2.2.2.1) (hg : Gc t (μ0 403)) (h9 : t < 20000) (h7 : μ0 400 7 = 0) (hn : n ≤ 7) {l2 : Int32} (h2 : l2.toInt = (n : Int)) : ∀ (e k p D : Nat) (l1 : Int32) (μ : Mu), n = k + e → l1.toInt = (k : Int) → e < D → CQ μ0 μ → Eq4 (xq μ0 k p) (μ (521 + k)) →
    ∃ μ', rX0_stills D 400 l1 l2 (E μ z) = some (okF (fcd (fun c => hsF (μ0 402 1) (xq μ0 n c)) (3 ^ e) (p * 3 ^ e)), E μ' z) ∧ Sr μ0 μ μ' k n (fcd (fun c => hsF (μ0 402 1) (xq μ0 n c)) (3 ^ e) (p * 3 ^ e)) := by
  intro e
  induction e with
  | zero =>
    intro k p D l1 μ hk h1 hD hc hX
    obtain ⟨D', rfl⟩ : ∃ D', D = D' + 1 := ⟨D - 1, by omega⟩
    have hkn : n = k := by omega
    refine ⟨μ, ?_, hc, fun _ _ => rfl, fun _ _ => rfl, fun c _ j j1 j2 => by omega⟩
    show mX0_stills (rX0_stills D') 400 l1 l2 (E μ z) = _
    unfold mX0_stills
    refine (if_neg (fun q => q (I32_eq (by rw [h1, h2, hkn])))).trans ?_
    refine bind_step (gR_400_11 554 (by omega) _ _) ?_
    refine bind_step (aa_E (n := k) isA_520 h1 (by omega)) ?_
    refine bind_step (recv_400 554 (by omega) _ _) ?_
    refine bind_step (cal_w (leaf_E (l1 := l1) (by omega) hc hX)) ?_
    have hf : okF (fcd (fun c => hsF (μ0 402 1) (xq μ0 n c)) (3 ^ 0) (p * 3 ^ 0)) = hsF (μ0 402 1) (xq μ0 n p) := fcd_1 (h := fun c => hsF (μ0 402 1) (xq μ0 n c)) (hsF_01 _ _)
    rw [hf, hkn]
    rcases hsF_01 (μ0 402 1) (xq μ0 k p) with q | q
    · rw [q]
      exact bind_step nok0 rfl
    · rw [q]
      exact bind_step nok1 rfl
  | succ e ih =>
    intro k p D l1 μ hk h1 hD hc hX
    obtain ⟨D', rfl⟩ : ∃ D', D = D' + 1 := ⟨D - 1, by omega⟩
    have hq0 : 0 < 3 ^ e := Nat.pow_pos (by omega)
    have loop : ∀ (m d fu : Nat) (l3 : Int32) (μ : Mu), 3 = d + m → l3.toInt = (d : Int) - 1 → m < fu → CQ μ0 μ → Eq4 (xq μ0 k p) (μ (521 + k)) →
        ∃ μ', mX0_stills_l18 (rX0_stills D') fu (E μ z) (some 400) l1 l2 l3 = some (okF (fcd (fun c => hsF (μ0 402 1) (xq μ0 n c)) (m * 3 ^ e) ((3 * p + d) * 3 ^ e)), E μ' z) ∧ Sr μ0 μ μ' k n (fcd (fun c => hsF (μ0 402 1) (xq μ0 n c)) (m * 3 ^ e) ((3 * p + d) * 3 ^ e)) := by
      intro m
      induction m with
      | zero =>
        intro d fu l3 μ hd h3 hf hc hX
        obtain ⟨g, rfl⟩ : ∃ g, fu = g + 1 := ⟨fu - 1, by omega⟩
        rw [Nat.zero_mul]
        refine ⟨μ, ?_, hc, fun _ _ => rfl, fun _ _ => rfl, fun c q => by cases q⟩
        show mX0_stills_b18 _ _ _ _ _ _ _ = _
        unfold mX0_stills_b18
        refine (if_pos (by rw [Int32.le_iff_toInt_le, h3]; show (2 : Int) ≤ _; omega)).trans ?_
        exact bind_step nok0 rfl
      | succ m ihm =>
        intro d fu l3 μ hd h3 hf hc hX
        obtain ⟨g, rfl⟩ : ∃ g, fu = g + 1 := ⟨fu - 1, by omega⟩
        have e3 : l3 = cmI d := cmI_of (by omega) h3
        have i1 : (l1 + 1).toInt = ((k + 1 : Nat) : Int) := inc_I h1 (by omega)
        obtain ⟨μ1, μ2, μ3, s1, s2, s3, c3, r1, r2, r3⟩ := try_E (μ0 := μ0) (μ := μ) (z := z) (k := k) (p := p) (d := d) (l1 := l1) (l3 := l3) hT hz hg h9 h7 (by omega) h1 (by omega) e3 hc hX
        obtain ⟨μ4, s4, d1, d2, d3, d4⟩ := ih (k + 1) (3 * p + d) D' (l1 + 1) μ3 (by omega) i1 (by omega) c3 r3
        have hs : fcd (fun c => hsF (μ0 402 1) (xq μ0 n c)) ((m + 1) * 3 ^ e) ((3 * p + d) * 3 ^ e) = (match fcd (fun c => hsF (μ0 402 1) (xq μ0 n c)) (3 ^ e) ((3 * p + d) * 3 ^ e) with | none => fcd (fun c => hsF (μ0 402 1) (xq μ0 n c)) (m * 3 ^ e) ((3 * p + (d + 1)) * 3 ^ e) | some x => some x) := by
          rw [show (m + 1) * 3 ^ e = 3 ^ e + m * 3 ^ e by rw [Nat.add_mul, Nat.one_mul, Nat.add_comm], fcd_app, show (3 * p + (d + 1)) * 3 ^ e = (3 * p + d) * 3 ^ e + 3 ^ e by rw [← Nat.add_assoc, Nat.add_mul (3 * p + d) 1, Nat.one_mul]]
        rw [hs]
        have pre : ∀ ρ : Option (Int32 × Wd), (if okF (fcd (fun c => hsF (μ0 402 1) (xq μ0 n c)) (3 ^ e) ((3 * p + d) * 3 ^ e)) = 0 then mX0_stills_l18 (rX0_stills D') g (E μ4 z) (some 400) l1 l2 (l3 + 1) else some (1, E μ4 z)) = ρ → mX0_stills_l18 (rX0_stills D') (g + 1) (E μ z) (some 400) l1 l2 l3 = ρ := by
          intro ρ hρ
          show mX0_stills_b18 _ _ _ _ _ _ _ = _
          unfold mX0_stills_b18
          refine (if_neg (by rw [Int32.le_iff_toInt_le, h3]; show ¬ (2 : Int) ≤ _; omega)).trans ?_
          refine bind_step (gR_400_12 554 (by omega) _ _) ?_
          refine bind_step s1 ?_
          refine bind_step (gR_400_11 554 (by omega) _ _) ?_
          refine bind_step (aa_E (n := k) isA_520 h1 (by omega)) ?_
          refine bind_step (gR_400_11 554 (by omega) _ _) ?_
          refine bind_step (aa_E (n := k + 1) isA_520 i1 (by omega)) ?_
          refine bind_step (cal_E s2) ?_
          refine bind_step (gR_400_11 554 (by omega) _ _) ?_
          refine bind_step (aa_E (n := k + 1) isA_520 i1 (by omega)) ?_
          refine bind_step (recv_400 554 (by omega) _ _) ?_
          refine bind_step (cal_E s3) ?_
          refine bind_step (recv_400 554 (by omega) _ _) ?_
          refine bind_step (cal_E s4) ?_
          by_cases q : okF (fcd (fun c => hsF (μ0 402 1) (xq μ0 n c)) (3 ^ e) ((3 * p + d) * 3 ^ e)) = 0
          · rw [if_pos q] at hρ
            exact (if_pos q).trans hρ
          · rw [if_neg q] at hρ
            refine (if_neg q).trans ?_
            exact bind_step nok1 hρ
        have k4 : ∀ j, j ≤ k → μ4 (521 + j) = μ (521 + j) := fun j hj => (d2 j (by omega)).trans (r1 j hj)
        have k5 : ∀ j, j < k → μ4 529 j = μ 529 j := fun j hj => by rw [d3 j (by omega), r2, upN (by omega)]
        cases hf1 : fcd (fun c => hsF (μ0 402 1) (xq μ0 n c)) (3 ^ e) ((3 * p + d) * 3 ^ e) with
        | none =>
          rw [hf1] at pre
          obtain ⟨μ', s5, f1, f2, f3, f4⟩ := ihm (d + 1) g (l3 + 1) μ4 (by omega) (by rw [I32_small h3 (show (1 : Int32).toInt = 1 from rfl) (by omega)]; omega) (by omega) d1 (by rw [k4 k (by omega)]; exact hX)
          refine ⟨μ', pre _ ?_, f1, fun j hj => (f2 j hj).trans (k4 j hj), fun j hj => (f3 j hj).trans (k5 j hj), f4⟩
          exact (if_pos rfl).trans s5
        | some x =>
          rw [hf1] at pre
          refine ⟨μ4, pre _ ?_, d1, k4, k5, fun c hx j j1 j2 => ?_⟩
          · exact if_neg one_ne
          · have hx' : x = c := Option.some.inj hx
            subst hx'
            obtain ⟨b1, b2, -⟩ := fcd_bd _ _ _ hf1
            by_cases hj : j = k
            · subst hj
              rw [d3 _ (by omega), r2, upd_eq, e3, show n - 1 - j = e by omega, blk hq0 b1 b2, show (3 * p + d) % 3 = d by omega]
            · exact d4 x hf1 j (by omega) j2
    obtain ⟨μ', s5, f⟩ := loop 3 0 FU (-1) μ (by omega) rfl (by unfold FU; omega) hc hX
    have e1 : 3 ^ (e + 1) = 3 * 3 ^ e := by rw [Nat.pow_succ, Nat.mul_comm]
    have e2 : p * 3 ^ (e + 1) = (3 * p + 0) * 3 ^ e := by rw [e1, ← Nat.mul_assoc, Nat.mul_comm p 3, Nat.add_zero]
    rw [e2, e1]
    refine ⟨μ', ?_, f⟩
    show mX0_stills (rX0_stills D') 400 l1 l2 (E μ z) = _
    unfold mX0_stills
    refine (if_pos (fun q => by rw [q, h2] at h1; omega)).trans ?_
    exact s5
end ST89
