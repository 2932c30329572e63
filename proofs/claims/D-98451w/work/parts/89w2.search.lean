/-! ===== first: the component's search ===== -/
section RW89
variable (L D M : Nat → Nat)
/-- what is waited by a row; none: one is late -/
def vlN : List Nat → Nat → Nat → Option Nat
  | [], _, s => some s
  | i :: r, t, s => if D i < t + L i then none else vlN r (t + L i) (s + M i * (t + L i))
abbrev Bst : Type := Option (Nat × List Nat)
def bsS (pre : List Nat) (t s : Nat) (b : Bst) (row : List Nat) : Bst := match vlN L D M row t s with
  | none => b
  | some v => match b with
    | none => some (v, pre ++ row)
    | some x => if x.1 ≤ v then some x else some (v, pre ++ row)
theorem vl_ge : ∀ row t s v, vlN L D M row t s = some v → s ≤ v := by
  intro row
  induction row with
  | nil => intro t s v h; cases h; exact Nat.le_refl _
  | cons i r ih =>
    intro t s v h
    unfold vlN at h
    split at h
    · cases h
    · have := ih _ _ _ h
      exact Nat.le_trans (Nat.le_add_right _ _) this
theorem bs_prune {pre : List Nat} {t s : Nat} {x : Nat × List Nat} (h : x.1 ≤ s) : ∀ rows : List (List Nat), rows.foldl (bsS L D M pre t s) (some x) = some x := by
  intro rows
  induction rows with
  | nil => rfl
  | cons r rows ih =>
    have e : bsS L D M pre t s (some x) r = some x := by
      unfold bsS
      cases hv : vlN L D M r t s with
      | none => rfl
      | some v =>
        have := vl_ge L D M _ _ _ _ hv
        exact if_pos (by omega)
    show rows.foldl (bsS L D M pre t s) (bsS L D M pre t s (some x) r) = some x
    rw [e, ih]
theorem bs_cons {pre : List Nat} {t s i : Nat} (b : Bst) (row : List Nat) : bsS L D M pre t s b (i :: row) = if D i < t + L i then b else bsS L D M (pre ++ [i]) (t + L i) (s + M i * (t + L i)) b row := by
  unfold bsS
  show (match (if D i < t + L i then none else vlN L D M row (t + L i) (s + M i * (t + L i))) with
    | none => b
    | some v => match b with
      | none => some (v, pre ++ i :: row)
      | some x => if x.1 ≤ v then some x else some (v, pre ++ i :: row)) = _
  by_cases h : D i < t + L i
  · rw [if_pos h, if_pos h]
  · rw [if_neg h, if_neg h, List.append_assoc]
    rfl
theorem bs_map {pre : List Nat} {t s i : Nat} : ∀ (rows : List (List Nat)) (b : Bst), (rows.map (fun r => i :: r)).foldl (bsS L D M pre t s) b = if D i < t + L i then b else rows.foldl (bsS L D M (pre ++ [i]) (t + L i) (s + M i * (t + L i))) b := by
  intro rows
  induction rows with
  | nil => intro b; simp
  | cons r rows ih =>
    intro b
    show (rows.map (fun r => i :: r)).foldl (bsS L D M pre t s) (bsS L D M pre t s b (i :: r)) = _
    rw [ih, bs_cons]
    by_cases h : D i < t + L i
    · rw [if_pos h, if_pos h, if_pos h]
    · rw [if_neg h, if_neg h, if_neg h]
      rfl
end RW89
theorem hb_256 : ∀ (u : Fin 256) (i : Fin 8), hsB (Int32.ofNat u.val) i.val ↔ u.val / 2 ^ i.val % 2 = 1 := by decide +kernel
theorem or_256 : ∀ (u : Fin 256) (i : Fin 8), ¬ u.val / 2 ^ i.val % 2 = 1 → (Int32.ofNat u.val ||| (1 <<< (Int32.ofNat i.val &&& 31))) = Int32.ofNat (u.val + 2 ^ i.val) ∧ u.val + 2 ^ i.val < 256 := by decide +kernel
/-! the component's search -/
section FS89
variable {μ0 : Mu} {z : Zt} {ms : List Nat}
def fL (μ0 : Mu) (ms : List Nat) (i : Nat) : Nat := (LV μ0 (gA ms i)).toInt.toNat
def fD (μ0 : Mu) (ms : List Nat) (i : Nat) : Nat := (μ0 (405 + gA ms i) 2).toInt.toNat
def fW (μ0 : Mu) (ms : List Nat) (i : Nat) : Nat := (μ0 (405 + gA ms i) 3).toInt.toNat
/-- the orders' numbers, within bounds -/
def OrB (μ0 : Mu) (n0 : Nat) : Prop := ∀ o, o < n0 → bd (μ0 (405 + o) 0) 1 99 ∧ bd (μ0 (405 + o) 1) 0 60 ∧ bd (μ0 (405 + o) 2) 0 999 ∧ bd (μ0 (405 + o) 3) 0 9 ∧ bd (μ0 (405 + o) 4) 0 1
/-- the best row so far -/
def BeC (ms : List Nat) (μ : Mu) : Bst → Prop
  | none => μ 400 21 = -1
  | some x => μ 400 21 = Int32.ofNat x.1 ∧ x.1 < 1000000 ∧ ∀ j, j < ms.length → μ 534 j = Int32.ofNat (gA ms (gA x.2 j))
def FcR (μ0 μ : Mu) (ms pre : List Nat) (b : Bst) : Prop := LyC μ0 μ ms ∧ (∀ j, j < pre.length → μ 533 j = Int32.ofNat (gA ms (gA pre j))) ∧ BeC ms μ b
theorem LyC_ne {μ0 μ : Mu} {ms : List Nat} {k j : Nat} {v : Int32} (hk : k = 533 ∨ k = 534 ∨ k = 535 ∨ k = 536) (h : LyC μ0 μ ms) : LyC μ0 (up μ k j v) ms := by
  obtain ⟨h1, h2, h3⟩ := h
  refine ⟨CQ_set ⟨by omega, by omega⟩ h1, by rw [show up μ k j v 400 = μ 400 from setM_ne (by omega)]; exact h2, fun q hq => ?_⟩
  rw [show up μ k j v 531 = μ 531 from setM_ne (by omega), show up μ k j v 532 = μ 532 from setM_ne (by omega)]
  exact h3 q hq
theorem firsts_E {n0 : Nat} (hz : 554 ≤ z.2.2.2.1) (h8 : n0 ≤ 8) (hm8 : ms.length ≤ 8) (hlt : ∀ j, j < ms.length → gA ms j < n0) (hob : OrB μ0 n0) :
    ∀ (e k DD u t s : Nat) (l1 l2 l3 l4 : Int32) (μ : Mu) (b : Bst) (pre : List Nat), ms.length = k + e → pre.length = k → e < DD → u < 256 → t ≤ 99 * k → s ≤ 9000 * k → l1.toInt = (k : Int) → l2 = Int32.ofNat u → l3.toInt = (t : Int) → l4.toInt = (s : Int) → FcR μ0 μ ms pre b →
    ∃ μ', rX0_firsts DD 400 l1 l2 l3 l4 (E μ z) = some ((), E μ' z) ∧ FcR μ0 μ' ms pre ((lexU ms.length e u).foldl (bsS (fL μ0 ms) (fD μ0 ms) (fW μ0 ms) pre t s) b) := by
  have m1 : (-1 : Int32).toInt = -1 := rfl
  intro e
  induction e with
  | zero =>
    intro k DD u t s l1 l2 l3 l4 μ b pre hk hpl hD hu ht hs h1 h2 h3 h4 hr
    obtain ⟨D', rfl⟩ : ∃ D', DD = D' + 1 := ⟨DD - 1, by omega⟩
    obtain ⟨r1, r2, r3⟩ := hr
    have hmk : l1 = μ 400 20 := by rw [r1.2.1]; exact I32_eq (by rw [h1, tI (by omega)]; omega)
    -- the leaf
    have leaf : mX0_firsts_p18 (rX0_firsts D') (E μ z) (some 400) l1 l2 l3 l4 = some ((), E (setM (up μ 400 21 l4) 534 (va_cpy (up μ 400 21 l4 533) (up μ 400 21 l4 534) 0 0 ms.length)) z) := by
      unfold mX0_firsts_p18
      refine bind_step (gI_400_20 554 (by omega) _ _) ?_
      refine (if_neg (fun q => q hmk)).trans ?_
      refine bind_step (pf_E isF_400_21) ?_
      refine bind_step (gR_400_16 554 (by omega) _ _) ?_
      refine bind_step (gR_400_17 554 (by omega) _ _) ?_
      refine bind_step (gI_400_20 554 (by omega) _ _) ?_
      have e20 : up μ 400 21 l4 400 20 = Int32.ofNat ms.length := by
        show setM μ 400 _ 400 20 = _
        rw [setM_same, upN (by omega)]
        exact r1.2.1
      refine bind_step (acpI_E (p := 0) (p' := 0) (n := ms.length) isI_533 isI_534 rfl rfl (by rw [e20]; exact tI (by omega)) (by omega) (by omega)) ?_
      rfl
    have hleaf : FcR μ0 (setM (up μ 400 21 l4) 534 (va_cpy (up μ 400 21 l4 533) (up μ 400 21 l4 534) 0 0 ms.length)) ms pre (some (s, pre)) := by
      have g : ∀ q, q ≠ 400 → q ≠ 534 → setM (up μ 400 21 l4) 534 (va_cpy (up μ 400 21 l4 533) (up μ 400 21 l4 534) 0 0 ms.length) q = μ q := fun q q1 q2 => (setM_ne q2).trans (setM_ne q1)
      have g4 : setM (up μ 400 21 l4) 534 (va_cpy (up μ 400 21 l4 533) (up μ 400 21 l4 534) 0 0 ms.length) 400 = upd (μ 400) 21 l4 := (setM_ne (by omega)).trans (setM_same _ _ _)
      refine ⟨⟨⟨fun q hq => (g q (by omega) (by omega)).trans (r1.1.1 q hq), fun j hj => ?_⟩, ?_, fun j hj => ?_⟩, fun j hj => ?_, ?_, by show s < 1000000; omega, fun j hj => ?_⟩
      · rw [g4, upN (by omega)]
        exact r1.1.2 j hj
      · rw [g4, upN (by omega)]
        exact r1.2.1
      · rw [g 531 (by omega) (by omega), g 532 (by omega) (by omega)]
        exact r1.2.2 j hj
      · rw [g 533 (by omega) (by omega)]
        exact r2 j hj
      · rw [g4, upd_eq]
        exact I_nat h4
      · rw [setM_same, cpy_lt hj, show up μ 400 21 l4 533 = μ 533 from setM_ne (by omega)]
        exact r2 j (by omega)
    have hf : (lexU ms.length 0 u).foldl (bsS (fL μ0 ms) (fD μ0 ms) (fW μ0 ms) pre t s) b = (match b with | none => some (s, pre) | some x => if x.1 ≤ s then some x else some (s, pre)) := by
      show bsS (fL μ0 ms) (fD μ0 ms) (fW μ0 ms) pre t s b [] = _
      unfold bsS vlN
      rw [List.append_nil]
      cases b <;> rfl
    rw [hf]
    match b, r3 with
    | none, r3 =>
      refine ⟨_, ?_, hleaf⟩
      show mX0_firsts (rX0_firsts D') 400 l1 l2 l3 l4 (E μ z) = _
      unfold mX0_firsts
      refine bind_step (gI_400_21 554 (by omega) _ _) ?_
      exact (if_pos r3).trans leaf
    | some x, r3 =>
      obtain ⟨x1, x2, x3⟩ := r3
      have nm : ¬ μ 400 21 = -1 := fun q => by
        have e9 : (Int32.ofNat x.1).toInt = (x.1 : Int) := tI (by omega)
        rw [← x1, q, m1] at e9
        omega
      by_cases hx : x.1 ≤ s
      · refine ⟨μ, ?_, ?_⟩
        · show mX0_firsts (rX0_firsts D') 400 l1 l2 l3 l4 (E μ z) = _
          unfold mX0_firsts
          refine bind_step (gI_400_21 554 (by omega) _ _) ?_
          refine (if_neg nm).trans ?_
          refine bind_step (gI_400_21 554 (by omega) _ _) ?_
          exact if_neg (by rw [Int32.lt_iff_toInt_lt, x1, h4, tI (by omega)]; omega)
        · show FcR μ0 μ ms pre (if x.1 ≤ s then some x else some (s, pre))
          rw [if_pos hx]
          exact ⟨r1, r2, x1, x2, x3⟩
      · refine ⟨setM (up μ 400 21 l4) 534 (va_cpy (up μ 400 21 l4 533) (up μ 400 21 l4 534) 0 0 ms.length), ?_, ?_⟩
        · show mX0_firsts (rX0_firsts D') 400 l1 l2 l3 l4 (E μ z) = _
          unfold mX0_firsts
          refine bind_step (gI_400_21 554 (by omega) _ _) ?_
          refine (if_neg nm).trans ?_
          refine bind_step (gI_400_21 554 (by omega) _ _) ?_
          exact (if_pos (by rw [Int32.lt_iff_toInt_lt, x1, h4, tI (by omega)]; omega)).trans leaf
        · show FcR μ0 _ ms pre (if x.1 ≤ s then some x else some (s, pre))
          rw [if_neg hx]
          exact hleaf
  | succ e ih =>
    intro k DD u t s l1 l2 l3 l4 μ b pre hk hpl hD hu ht hs h1 h2 h3 h4 hr
    obtain ⟨D', rfl⟩ : ∃ D', DD = D' + 1 := ⟨DD - 1, by omega⟩
    have loop : ∀ (q i fu : Nat) (l5 : Int32) (μ : Mu) (b : Bst), ms.length = i + q → l5.toInt = (i : Int) → q < fu → FcR μ0 μ ms pre b →
        ∃ μ', mX0_firsts_l53 (rX0_firsts D') fu (E μ z) (some 400) l1 l2 l3 l4 l5 = some ((), E μ' z) ∧ FcR μ0 μ' ms pre (((List.range' i q).flatMap (fun i => if u / 2 ^ i % 2 = 1 then [] else (lexU ms.length e (u + 2 ^ i)).map (fun r => i :: r))).foldl (bsS (fL μ0 ms) (fD μ0 ms) (fW μ0 ms) pre t s) b) := by
      intro q
      induction q with
      | zero =>
        intro i fu l5 μ b hi h5 hf hr
        obtain ⟨g, rfl⟩ : ∃ g, fu = g + 1 := ⟨fu - 1, by omega⟩
        refine ⟨μ, ?_, hr⟩
        show mX0_firsts_b53 _ _ _ _ _ _ _ _ _ = _
        unfold mX0_firsts_b53
        refine bind_step (gI_400_20 554 (by omega) _ _) ?_
        exact if_pos (by rw [Int32.le_iff_toInt_le, hr.1.2.1, tI (by omega), h5]; omega)
      | succ q ihq =>
        intro i fu l5 μ b hi h5 hf hr
        obtain ⟨g, rfl⟩ : ∃ g, fu = g + 1 := ⟨fu - 1, by omega⟩
        have e5 : l5 = Int32.ofNat i := I_nat h5
        have him : i < ms.length := by omega
        have hio := hlt i him
        obtain ⟨o1, o2, o3, o4, o5⟩ := hob (gA ms i) hio
        obtain ⟨c1, c2, c3⟩ := hr.1
        obtain ⟨w1, w2⟩ := c3 i him
        have hlv := LV_bd μ0 (gA ms i) o2
        have hL : (LV μ0 (gA ms i)).toInt = ((fL μ0 ms i : Nat) : Int) := by
          unfold fL
          have := hlv.1
          omega
        have hL99 : fL μ0 ms i ≤ 99 := by have := hlv.2; omega
        have hDn : (μ0 (405 + gA ms i) 2).toInt = ((fD μ0 ms i : Nat) : Int) := by
          unfold fD
          have := o3.1
          omega
        have hMn : (μ0 (405 + gA ms i) 3).toInt = ((fW μ0 ms i : Nat) : Int) := by
          unfold fW
          have := o4.1
          omega
        have hM9 : fW μ0 ms i ≤ 9 := by have := o4.2; omega
        have hend : (l3 + LV μ0 (gA ms i)).toInt = ((t + fL μ0 ms i : Nat) : Int) := addN h3 hL (by omega)
        have m405 : μ (405 + gA ms i) = μ0 (405 + gA ms i) := c1.1 _ (by omega)
        have pre9 : ∀ ρ : Option (Unit × Wd), (if ¬ (if ((l2 >>> (l5 &&& 31)) &&& 1) = 1 then (1 : Int32) else 0) = 0 then mX0_firsts_l53 (rX0_firsts D') g (E μ z) (some 400) l1 l2 l3 l4 (l5 + 1) else (if (l3 + LV μ0 (gA ms i)) ≤ μ0 (405 + gA ms i) 2 then (
            (gR (E μ z) (some 400) 0 16).bind fun v11 =>
            (gR (E μ z) (some 400) 0 14).bind fun v12 =>
            (ia (E μ z) v12 l5).bind fun v13 =>
            (ias (E μ z) v11 l1 v13).bind fun w14 =>
            (ia w14 (some (405 + gA ms i)) 3).bind fun v15 =>
            (recv w14 (some 400) 0).bind fun b17 => (cal w14 (rX0_firsts D' b17 (l1 + 1) (l2 ||| (1 <<< (l5 &&& 31))) (l3 + LV μ0 (gA ms i)) (l4 + (v15 * (l3 + LV μ0 (gA ms i)))) w14)).bind fun r16 =>
            mX0_firsts_l53 (rX0_firsts D') g r16.2 (some 400) l1 l2 l3 l4 (l5 + 1)) else mX0_firsts_l53 (rX0_firsts D') g (E μ z) (some 400) l1 l2 l3 l4 (l5 + 1))) = ρ → mX0_firsts_l53 (rX0_firsts D') (g + 1) (E μ z) (some 400) l1 l2 l3 l4 l5 = ρ := by
          intro ρ hρ
          show mX0_firsts_b53 _ _ _ _ _ _ _ _ _ = _
          unfold mX0_firsts_b53
          refine bind_step (gI_400_20 554 (by omega) _ _) ?_
          refine (if_neg (by rw [Int32.le_iff_toInt_le, c2, tI (by omega), h5]; omega)).trans ?_
          refine bind_step (gR_400_0 554 (by omega) _ _) ?_
          refine bind_step (gR_401_2 554 (by omega) _ _) ?_
          refine bind_step (gR_400_14 554 (by omega) _ _) ?_
          refine bind_step (ia_E (n := i) isI_531 h5 (by omega)) ?_
          rw [w1]
          refine bind_step (aa_E (n := gA ms i) isA_404 (tI (by omega)) (by omega)) ?_
          refine bind_step (gR_400_15 554 (by omega) _ _) ?_
          refine bind_step (ia_E (n := i) isI_532 h5 (by omega)) ?_
          rw [w2]
          refine bind_step (cal_w has0_E) ?_
          by_cases hb : ¬ (if ((l2 >>> (l5 &&& 31)) &&& 1) = 1 then (1 : Int32) else 0) = 0
          · rw [if_pos hb] at hρ
            exact (if_pos hb).trans hρ
          · rw [if_neg hb] at hρ
            refine (if_neg hb).trans ?_
            refine bind_step (ia_E (n := 2) (isI_405 _ (by omega)) rfl (by omega)) ?_
            rw [m405]
            exact hρ
        have hbit := hb_256 ⟨u, hu⟩ ⟨i, by omega⟩
        rw [List.range'_succ, List.flatMap_cons, List.foldl_append]
        by_cases hub : u / 2 ^ i % 2 = 1
        · rw [if_pos hub]
          obtain ⟨μ', ee, w⟩ := ihq (i + 1) g (l5 + 1) μ b (by omega) (inc_I h5 (by omega)) (by omega) hr
          refine ⟨μ', pre9 _ ?_, w⟩
          have hh : ((l2 >>> (l5 &&& 31)) &&& 1) = 1 := by rw [h2, e5]; exact hbit.mpr hub
          rw [if_pos hh]
          exact (if_pos one_ne).trans ee
        · rw [if_neg hub, bs_map]
          have hh : ¬ ((l2 >>> (l5 &&& 31)) &&& 1) = 1 := by rw [h2, e5]; exact fun q => hub (hbit.mp q)
          by_cases hlate : fD μ0 ms i < t + fL μ0 ms i
          · rw [if_pos hlate]
            obtain ⟨μ', ee, w⟩ := ihq (i + 1) g (l5 + 1) μ b (by omega) (inc_I h5 (by omega)) (by omega) hr
            refine ⟨μ', pre9 _ ?_, w⟩
            rw [if_neg hh]
            refine (if_neg (fun q => q rfl)).trans ?_
            refine (if_neg (by rw [Int32.le_iff_toInt_le, hend, hDn]; omega)).trans ee
          · rw [if_neg hlate]
            obtain ⟨oo1, oo2⟩ := or_256 ⟨u, hu⟩ ⟨i, by omega⟩ hub
            have hsum : (l4 + (μ0 (405 + gA ms i) 3 * (l3 + LV μ0 (gA ms i)))).toInt = ((s + fW μ0 ms i * (t + fL μ0 ms i) : Nat) : Int) := by
              have hle : fW μ0 ms i * (t + fL μ0 ms i) ≤ 9 * (t + fL μ0 ms i) := Nat.mul_le_mul_right _ hM9
              exact addN h4 (mulN hMn hend (by omega)) (by omega)
            have hle : fW μ0 ms i * (t + fL μ0 ms i) ≤ 9 * (t + fL μ0 ms i) := Nat.mul_le_mul_right _ hM9
            have hr1 : FcR μ0 (up μ 533 k (Int32.ofNat (gA ms i))) ms (pre ++ [i]) b := by
              refine ⟨LyC_ne (by omega) hr.1, fun j hj => ?_, ?_⟩
              · show setM μ 533 _ 533 j = _
                rw [setM_same]
                have hj2 : j < pre.length + 1 := by rw [List.length_append] at hj; exact hj
                by_cases ej : j = k
                · rw [ej, upd_eq, ← hpl, gA_eq]
                · rw [upN ej, gA_lt (by omega)]
                  exact hr.2.1 j (by omega)
              · have r3 := hr.2.2
                match b, r3 with
                | none, r3 =>
                  show setM μ 533 _ 400 21 = _
                  rw [setM_ne (by omega)]
                  exact r3
                | some x, r3 =>
                  refine ⟨?_, r3.2.1, fun j hj => ?_⟩
                  · show setM μ 533 _ 400 21 = _
                    rw [setM_ne (by omega)]
                    exact r3.1
                  · show setM μ 533 _ 534 j = _
                    rw [setM_ne (by omega)]
                    exact r3.2.2 j hj
            obtain ⟨μ2, e2, f2⟩ := ih (k + 1) D' (u + 2 ^ i) (t + fL μ0 ms i) (s + fW μ0 ms i * (t + fL μ0 ms i)) (l1 + 1) (l2 ||| (1 <<< (l5 &&& 31))) (l3 + LV μ0 (gA ms i)) (l4 + (μ0 (405 + gA ms i) 3 * (l3 + LV μ0 (gA ms i)))) (up μ 533 k (Int32.ofNat (gA ms i))) b (pre ++ [i]) (by omega) (by rw [List.length_append, hpl]; rfl) (by omega) oo2 (by omega) (by omega) (inc_I h1 (by omega)) (by rw [h2, e5]; exact oo1) hend hsum hr1
            have hr2 : FcR μ0 μ2 ms pre ((lexU ms.length e (u + 2 ^ i)).foldl (bsS (fL μ0 ms) (fD μ0 ms) (fW μ0 ms) (pre ++ [i]) (t + fL μ0 ms i) (s + fW μ0 ms i * (t + fL μ0 ms i))) b) := ⟨f2.1, fun j hj => by
              have := f2.2.1 j (by rw [List.length_append]; omega)
              rw [gA_lt hj] at this
              exact this, f2.2.2⟩
            obtain ⟨μ', ee, w⟩ := ihq (i + 1) g (l5 + 1) μ2 _ (by omega) (inc_I h5 (by omega)) (by omega) hr2
            refine ⟨μ', pre9 _ ?_, w⟩
            rw [if_neg hh]
            refine (if_neg (fun q => q rfl)).trans ?_
            refine (if_pos (by rw [Int32.le_iff_toInt_le, hend, hDn]; omega)).trans ?_
            refine bind_step (gR_400_16 554 (by omega) _ _) ?_
            refine bind_step (gR_400_14 554 (by omega) _ _) ?_
            refine bind_step (ia_E (n := i) isI_531 h5 (by omega)) ?_
            rw [w1]
            refine bind_step (ias_E (n := k) isI_533 h1 (by omega)) ?_
            refine bind_step (ia_E (n := 3) (isI_405 _ (by omega)) rfl (by omega)) ?_
            rw [show up μ 533 k (Int32.ofNat (gA ms i)) (405 + gA ms i) = μ0 (405 + gA ms i) from (setM_ne (by omega)).trans m405]
            refine bind_step (recv_400 554 (by omega) _ _) ?_
            refine bind_step (cal_E e2) ?_
            exact ee
    have hne : ¬ l1 = μ 400 20 := fun q => by
      have e9 : (Int32.ofNat ms.length).toInt = (ms.length : Int) := tI (by omega)
      rw [← hr.1.2.1, ← q, h1] at e9
      omega
    have go : ∃ μ', mX0_firsts_p18 (rX0_firsts D') (E μ z) (some 400) l1 l2 l3 l4 = some ((), E μ' z) ∧ FcR μ0 μ' ms pre ((lexU ms.length (e + 1) u).foldl (bsS (fL μ0 ms) (fD μ0 ms) (fW μ0 ms) pre t s) b) := by
      obtain ⟨μ', ee, w⟩ := loop ms.length 0 FU 0 μ b (by omega) rfl (by unfold FU; omega) hr
      refine ⟨μ', ?_, w⟩
      unfold mX0_firsts_p18
      refine bind_step (gI_400_20 554 (by omega) _ _) ?_
      exact (if_pos hne).trans ee
    have r3 := hr.2.2
    match b, r3 with
    | none, r3 =>
      obtain ⟨μ', ee, w⟩ := go
      refine ⟨μ', ?_, w⟩
      show mX0_firsts (rX0_firsts D') 400 l1 l2 l3 l4 (E μ z) = _
      unfold mX0_firsts
      refine bind_step (gI_400_21 554 (by omega) _ _) ?_
      exact (if_pos r3).trans ee
    | some x, r3 =>
      obtain ⟨x1, x2, x3⟩ := r3
      have nm : ¬ μ 400 21 = -1 := fun q => by
        have e9 : (Int32.ofNat x.1).toInt = (x.1 : Int) := tI (by omega)
        rw [← x1, q, m1] at e9
        omega
      by_cases hx : x.1 ≤ s
      · refine ⟨μ, ?_, ?_⟩
        · show mX0_firsts (rX0_firsts D') 400 l1 l2 l3 l4 (E μ z) = _
          unfold mX0_firsts
          refine bind_step (gI_400_21 554 (by omega) _ _) ?_
          refine (if_neg nm).trans ?_
          refine bind_step (gI_400_21 554 (by omega) _ _) ?_
          exact if_neg (by rw [Int32.lt_iff_toInt_lt, x1, h4, tI (by omega)]; omega)
        · rw [bs_prune _ _ _ hx]
          exact hr
      · obtain ⟨μ', ee, w⟩ := go
        refine ⟨μ', ?_, w⟩
        show mX0_firsts (rX0_firsts D') 400 l1 l2 l3 l4 (E μ z) = _
        unfold mX0_firsts
        refine bind_step (gI_400_21 554 (by omega) _ _) ?_
        refine (if_neg nm).trans ?_
        refine bind_step (gI_400_21 554 (by omega) _ _) ?_
        exact (if_pos (by rw [Int32.lt_iff_toInt_lt, x1, h4, tI (by omega)]; omega)).trans ee
end FS89
