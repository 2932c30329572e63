/-! ===== the fewest commands: the component's search ===== -/
/-- how many of the last e digits aren't without command -/
def mny : Nat → Nat → Nat
  | 0, _ => 0
  | e + 1, q => mny e q + (if q / 3 ^ e % 3 = 1 then 0 else 1)
theorem mny_le (e q : Nat) : mny e q ≤ e := by
  induction e with
  | zero => exact Nat.le_refl _
  | succ e ih =>
    unfold mny
    split <;> omega
def nzD (d : Nat) : Nat := if d = 1 then 0 else 1
def fwH (hs : Nat → Int32) (e r : Nat) (c : Nat) : Int32 := if mny e c = r then hs c else 0
theorem fwH_01 {hs : Nat → Int32} {e r c : Nat} (h : hs c = 0 ∨ hs c = 1) : fwH hs e r c = 0 ∨ fwH hs e r c = 1 := by
  unfold fwH
  split
  · exact h
  · exact Or.inl rfl
theorem mny_blk {e p d c : Nat} (hd : d < 3) (h1 : (3 * p + d) * 3 ^ e ≤ c) (h2 : c < (3 * p + d) * 3 ^ e + 3 ^ e) : mny (e + 1) c = mny e c + nzD d := by
  have hq0 : 0 < 3 ^ e := Nat.pow_pos (by omega)
  show mny e c + (if c / 3 ^ e % 3 = 1 then 0 else 1) = mny e c + (if d = 1 then 0 else 1)
  rw [blk hq0 h1 h2, show (3 * p + d) % 3 = d by omega]
theorem fw_skip {hs : Nat → Int32} {e p d r : Nat} (hd : d < 3) (h : r < nzD d ∨ nzD d + e < r) : fcd (fwH hs (e + 1) r) (3 ^ e) ((3 * p + d) * 3 ^ e) = none := fcd_all0 _ _ (fun c h1 h2 => by
  unfold fwH
  rw [mny_blk hd h1 h2]
  have := mny_le e c
  exact if_neg (by omega))
theorem fw_go {hs : Nat → Int32} {e p d r : Nat} (hd : d < 3) (h : nzD d ≤ r) : fcd (fwH hs (e + 1) r) (3 ^ e) ((3 * p + d) * 3 ^ e) = fcd (fwH hs e (r - nzD d)) (3 ^ e) ((3 * p + d) * 3 ^ e) := fcd_congr _ _ (fun c h1 h2 => by
  unfold fwH
  rw [mny_blk hd h1 h2]
  by_cases q : mny e c = r - nzD d
  · rw [if_pos (by omega), if_pos q]
  · rw [if_neg (by omega), if_neg q])
section SB89
variable {μ0 : Mu} {z : Zt} {t n : Nat}
theorem stillsBy_E (hT : Tc μ0 z) (hz : 554 ≤ z.2.2.2.1) (hg : Gc t (μ0 403)) (h9 : t < 20000) (h7 : μ0 400 7 = 0) (hn : n ≤ 7) {l2 : Int32} (h2 : l2.toInt = (n : Int)) : ∀ (e k p D r : Nat) (l1 l3 : Int32) (μ : Mu), n = k + e → l1.toInt = (k : Int) → l3.toInt = (r : Int) → r < 100 → e < D → CQ μ0 μ → Eq4 (xq μ0 k p) (μ (521 + k)) →
    ∃ μ', rX0_stillsBy D 400 l1 l2 l3 (E μ z) = some (okF (fcd (fwH (fun c => hsF (μ0 402 1) (xq μ0 n c)) e r) (3 ^ e) (p * 3 ^ e)), E μ' z) ∧ Sr μ0 μ μ' k n (fcd (fwH (fun c => hsF (μ0 402 1) (xq μ0 n c)) e r) (3 ^ e) (p * 3 ^ e)) := by
  intro e
  induction e with
  | zero =>
    intro k p D r l1 l3 μ hk h1 h3 hr hD hc hX
    obtain ⟨D', rfl⟩ : ∃ D', D = D' + 1 := ⟨D - 1, by omega⟩
    have hkn : n = k := by omega
    refine ⟨μ, ?_, hc, fun _ _ => rfl, fun _ _ => rfl, fun c _ j j1 j2 => by omega⟩
    have hf : okF (fcd (fwH (fun c => hsF (μ0 402 1) (xq μ0 n c)) 0 r) (3 ^ 0) (p * 3 ^ 0)) = fwH (fun c => hsF (μ0 402 1) (xq μ0 n c)) 0 r p := fcd_1 (fwH_01 (hsF_01 _ _))
    rw [hf]
    show mX0_stillsBy (rX0_stillsBy D') 400 l1 l2 l3 (E μ z) = _
    unfold mX0_stillsBy
    refine (if_neg (fun q => q (I32_eq (by rw [h1, h2, hkn])))).trans ?_
    unfold fwH
    by_cases hr0 : 0 = r
    · rw [if_pos (show mny 0 p = r from hr0)]
      refine (if_neg (fun q => q (I32_eq (by rw [h3, ← hr0]; rfl)))).trans ?_
      refine bind_step (gR_400_11 554 (by omega) _ _) ?_
      refine bind_step (aa_E (n := k) isA_520 h1 (by omega)) ?_
      refine bind_step (recv_400 554 (by omega) _ _) ?_
      refine bind_step (cal_w (leaf_E (l1 := l1) (by omega) hc hX)) ?_
      show _ = some (hsF (μ0 402 1) (xq μ0 n p), E μ z)
      rw [hkn]
      rcases hsF_01 (μ0 402 1) (xq μ0 k p) with q | q
      · rw [q]
        exact (if_pos rfl).trans (bind_step nok0 rfl)
      · rw [q]
        exact (if_neg one_ne).trans (bind_step nok1 rfl)
    · rw [if_neg (show ¬ mny 0 p = r from hr0)]
      refine (if_pos (fun q => by rw [q] at h3; have : (0 : Int32).toInt = 0 := rfl; omega)).trans ?_
      exact bind_step nok0 rfl
  | succ e ih =>
    intro k p D r l1 l3 μ hk h1 h3 hr hD hc hX
    obtain ⟨D', rfl⟩ : ∃ D', D = D' + 1 := ⟨D - 1, by omega⟩
    have hq0 : 0 < 3 ^ e := Nat.pow_pos (by omega)
    have i1 : (l1 + 1).toInt = ((k + 1 : Nat) : Int) := inc_I h1 (by omega)
    have e12 : (l2 - l1 - 1).toInt = (e : Int) := by
      have a1 : (l2 - l1).toInt = (n : Int) - (k : Int) := I32_sub h2 h1 (by omega)
      rw [I32_sub a1 (show (1 : Int32).toInt = 1 from rfl) (by omega)]
      omega
    have z0 : (0 : Int32).toInt = 0 := rfl
    have loop : ∀ (m d fu : Nat) (l4 : Int32) (μ : Mu), 3 = d + m → l4.toInt = (d : Int) - 1 → m < fu → CQ μ0 μ → Eq4 (xq μ0 k p) (μ (521 + k)) →
        ∃ μ', mX0_stillsBy_l31 (rX0_stillsBy D') fu (E μ z) (some 400) l1 l2 l3 l4 = some (okF (fcd (fwH (fun c => hsF (μ0 402 1) (xq μ0 n c)) (e + 1) r) (m * 3 ^ e) ((3 * p + d) * 3 ^ e)), E μ' z) ∧ Sr μ0 μ μ' k n (fcd (fwH (fun c => hsF (μ0 402 1) (xq μ0 n c)) (e + 1) r) (m * 3 ^ e) ((3 * p + d) * 3 ^ e)) := by
      intro m
      induction m with
      | zero =>
        intro d fu l4 μ hd h4 hf hc hX
        obtain ⟨g, rfl⟩ : ∃ g, fu = g + 1 := ⟨fu - 1, by omega⟩
        rw [Nat.zero_mul]
        refine ⟨μ, ?_, hc, fun _ _ => rfl, fun _ _ => rfl, fun c q => by cases q⟩
        show mX0_stillsBy_b31 _ _ _ _ _ _ _ _ = _
        unfold mX0_stillsBy_b31
        refine (if_pos (by rw [Int32.le_iff_toInt_le, h4]; show (2 : Int) ≤ _; omega)).trans ?_
        exact bind_step nok0 rfl
      | succ m ihm =>
        intro d fu l4 μ hd h4 hf hc hX
        obtain ⟨g, rfl⟩ : ∃ g, fu = g + 1 := ⟨fu - 1, by omega⟩
        have e4 : l4 = cmI d := cmI_of (by omega) h4
        have hs : fcd (fwH (fun c => hsF (μ0 402 1) (xq μ0 n c)) (e + 1) r) ((m + 1) * 3 ^ e) ((3 * p + d) * 3 ^ e) = (match fcd (fwH (fun c => hsF (μ0 402 1) (xq μ0 n c)) (e + 1) r) (3 ^ e) ((3 * p + d) * 3 ^ e) with | none => fcd (fwH (fun c => hsF (μ0 402 1) (xq μ0 n c)) (e + 1) r) (m * 3 ^ e) ((3 * p + (d + 1)) * 3 ^ e) | some x => some x) := by
          rw [show (m + 1) * 3 ^ e = 3 ^ e + m * 3 ^ e by rw [Nat.add_mul, Nat.one_mul, Nat.add_comm], fcd_app, show (3 * p + (d + 1)) * 3 ^ e = (3 * p + d) * 3 ^ e + 3 ^ e by rw [← Nat.add_assoc, Nat.add_mul (3 * p + d) 1, Nat.one_mul]]
          cases fcd (fwH (fun c => hsF (μ0 402 1) (xq μ0 n c)) (e + 1) r) (3 ^ e) ((3 * p + d) * 3 ^ e) <;> rfl
        rw [hs]
        -- the body, brought to p48
        obtain ⟨nz, hnz, hb⟩ : ∃ nz : Int32, nz.toInt = ((nzD d : Nat) : Int) ∧ ∀ ρ : Option (Int32 × Wd), mX0_stillsBy_p48 (rX0_stillsBy D') (mX0_stillsBy_l31 (rX0_stillsBy D') g) (E μ z) (some 400) l1 l2 l3 l4 nz l3 = ρ → mX0_stillsBy_l31 (rX0_stillsBy D') (g + 1) (E μ z) (some 400) l1 l2 l3 l4 = ρ := by
          have n2 : ¬ 2 ≤ l4 := by rw [Int32.le_iff_toInt_le, h4]; show ¬ (2 : Int) ≤ _; omega
          by_cases hd1 : d = 1
          · refine ⟨0, by rw [hd1]; rfl, fun ρ hρ => ?_⟩
            show mX0_stillsBy_b31 _ _ _ _ _ _ _ _ = _
            unfold mX0_stillsBy_b31
            refine (if_neg n2).trans ?_
            refine (if_neg (fun q => q (I32_eq (by rw [h4, hd1]; rfl)))).trans ?_
            exact hρ
          · refine ⟨1, by unfold nzD; rw [if_neg hd1]; rfl, fun ρ hρ => ?_⟩
            show mX0_stillsBy_b31 _ _ _ _ _ _ _ _ = _
            unfold mX0_stillsBy_b31
            refine (if_neg n2).trans ?_
            refine (if_pos (fun q => by rw [q, z0] at h4; omega)).trans ?_
            exact hρ
        have hnz1 : nzD d ≤ 1 := by
          unfold nzD
          split <;> omega
        have el : (l3 - nz).toInt = (r : Int) - ((nzD d : Nat) : Int) := I32_sub h3 hnz (by omega)
        have hnext : (l4 + 1).toInt = ((d + 1 : Nat) : Int) - 1 := by rw [I32_small h4 (show (1 : Int32).toInt = 1 from rfl) (by omega)]; omega
        by_cases hskip : r < nzD d ∨ nzD d + e < r
        · rw [fw_skip (by omega) hskip]
          obtain ⟨μ', s5, f⟩ := ihm (d + 1) g (l4 + 1) μ (by omega) hnext (by omega) hc hX
          refine ⟨μ', hb _ ?_, f⟩
          unfold mX0_stillsBy_p48
          by_cases hlt : r < nzD d
          · refine (if_pos (by rw [Int32.lt_iff_toInt_lt, el, z0]; omega)).trans ?_
            exact s5
          · refine (if_neg (by rw [Int32.lt_iff_toInt_lt, el, z0]; omega)).trans ?_
            refine (if_neg (by rw [Int32.le_iff_toInt_le, el, e12]; omega)).trans ?_
            exact s5
        · have hge : nzD d ≤ r := by omega
          rw [fw_go (by omega) hge]
          obtain ⟨μ1, μ2, μ3, s1, s2, s3, c3, r1, r2, r3⟩ := try_E (μ0 := μ0) (μ := μ) (z := z) (k := k) (p := p) (d := d) (l1 := l1) (l3 := l4) hT hz hg h9 h7 (by omega) h1 (by omega) e4 hc hX
          obtain ⟨μ4, s4, d1, d2, d3, d4⟩ := ih (k + 1) (3 * p + d) D' (r - nzD d) (l1 + 1) (l3 - nz) μ3 (by omega) i1 (by rw [el]; omega) (by omega) (by omega) c3 r3
          have pre : ∀ ρ : Option (Int32 × Wd), (if okF (fcd (fwH (fun c => hsF (μ0 402 1) (xq μ0 n c)) e (r - nzD d)) (3 ^ e) ((3 * p + d) * 3 ^ e)) = 0 then mX0_stillsBy_l31 (rX0_stillsBy D') g (E μ4 z) (some 400) l1 l2 l3 (l4 + 1) else some (1, E μ4 z)) = ρ → mX0_stillsBy_l31 (rX0_stillsBy D') (g + 1) (E μ z) (some 400) l1 l2 l3 l4 = ρ := by
            intro ρ hρ
            refine hb _ ?_
            unfold mX0_stillsBy_p48
            refine (if_neg (by rw [Int32.lt_iff_toInt_lt, el, z0]; omega)).trans ?_
            refine (if_pos (by rw [Int32.le_iff_toInt_le, el, e12]; omega)).trans ?_
            refine bind_step (gR_400_12 554 (by omega) _ _) ?_
            refine bind_step s1 ?_
            refine bind_step (gR_400_11 554 (by omega) _ _) ?_
            refine bind_step (aa_E (n := k) isA_520 h1 (by omega)) ?_
            refine bind_step (gR_400_11 554 (by omega) _ _) ?_
            refine bind_step (aa_E (n := k + 1) isA_520 i1 (by omega)) ?_
            refine bind_step (cal_E s2) ?_
            refine bind_step (gR_400_11 554 (by omega) _ _) ?_
            refine bind_step (aa_E (n := k + 1) isA_520 i1 (by omega)) ?_
            refine bind_step (recv_400 554 (by omega) _ _) ?_
            refine bind_step (cal_E s3) ?_
            refine bind_step (recv_400 554 (by omega) _ _) ?_
            refine bind_step (cal_E s4) ?_
            by_cases q : okF (fcd (fwH (fun c => hsF (μ0 402 1) (xq μ0 n c)) e (r - nzD d)) (3 ^ e) ((3 * p + d) * 3 ^ e)) = 0
            · rw [if_pos q] at hρ
              exact (if_pos q).trans hρ
            · rw [if_neg q] at hρ
              refine (if_neg q).trans ?_
              exact bind_step nok1 hρ
          have k4 : ∀ j, j ≤ k → μ4 (521 + j) = μ (521 + j) := fun j hj => (d2 j (by omega)).trans (r1 j hj)
          have k5 : ∀ j, j < k → μ4 529 j = μ 529 j := fun j hj => by rw [d3 j (by omega), r2, upN (by omega)]
          cases hf1 : fcd (fwH (fun c => hsF (μ0 402 1) (xq μ0 n c)) e (r - nzD d)) (3 ^ e) ((3 * p + d) * 3 ^ e) with
          | none =>
            rw [hf1] at pre
            obtain ⟨μ', s5, f1, f2, f3, f4⟩ := ihm (d + 1) g (l4 + 1) μ4 (by omega) hnext (by omega) d1 (by rw [k4 k (by omega)]; exact hX)
            refine ⟨μ', pre _ ?_, f1, fun j hj => (f2 j hj).trans (k4 j hj), fun j hj => (f3 j hj).trans (k5 j hj), f4⟩
            exact (if_pos rfl).trans s5
          | some x =>
            rw [hf1] at pre
            refine ⟨μ4, pre _ ?_, d1, k4, k5, fun c hx j j1 j2 => ?_⟩
            · exact if_neg one_ne
            · have hx' : x = c := Option.some.inj hx
              subst hx'
              obtain ⟨b1, b2, -⟩ := fcd_bd _ _ _ hf1
              by_cases hj : j = k
              · subst hj
                rw [d3 _ (by omega), r2, upd_eq, e4, show n - 1 - j = e by omega, blk hq0 b1 b2, show (3 * p + d) % 3 = d by omega]
              · exact d4 x hf1 j (by omega) j2
    obtain ⟨μ', s5, f⟩ := loop 3 0 FU (-1) μ (by omega) rfl (by unfold FU; omega) hc hX
    have e1 : 3 ^ (e + 1) = 3 * 3 ^ e := by rw [Nat.pow_succ, Nat.mul_comm]
    have e2 : p * 3 ^ (e + 1) = (3 * p + 0) * 3 ^ e := by rw [e1, ← Nat.mul_assoc, Nat.mul_comm p 3, Nat.add_zero]
    rw [e2, e1]
    refine ⟨μ', ?_, f⟩
    show mX0_stillsBy (rX0_stillsBy D') 400 l1 l2 l3 (E μ z) = _
    unfold mX0_stillsBy
    refine (if_pos (fun q => by rw [q, h2] at h1; omega)).trans ?_
    exact s5
end SB89
