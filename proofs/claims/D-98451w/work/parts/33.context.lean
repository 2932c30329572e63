/-! ===== the context of the run, the world at the start ===== -/
theorem st_classes {s : State} {args : Array Value} (hts : ∀ w ∈ lw_tbl, w.before args s = true) : ∀ ci : Nat, ∃ q : ClassId × (Nat → Nat), ∀ r : vw_C, vwCl[ci]? = some r → u_Kn s r.1 r.2.1 r.2.2 q.1 q.2 := by
  intro ci
  have hin : ∀ {C : String} {T : u_T} {N n : Nat}, (∀ w ∈ u_ws C T N, w ∈ lw_all) → Cond.instantiable C n ∈ lw_all → ∃ q : ClassId × (Nat → Nat), u_Kn s C T N q.1 q.2 := fun h1 h2 => by
    obtain ⟨c, i, h⟩ := u_known hts (fun w hw => lw_all_tbl (h1 w hw)) (hts _ (lw_all_tbl h2))
    exact ⟨(c, i), h⟩
  match ci with
  | 0 => obtain ⟨q, h⟩ := hin in_X0 q165; exact ⟨q, fun r hr => by cases hr; exact h⟩
  | 1 => obtain ⟨q, h⟩ := hin in_X1 q173; exact ⟨q, fun r hr => by cases hr; exact h⟩
  | 2 => obtain ⟨q, h⟩ := hin in_X2 q1341; exact ⟨q, fun r hr => by cases hr; exact h⟩
  | 3 => obtain ⟨q, h⟩ := hin in_X3 q324; exact ⟨q, fun r hr => by cases hr; exact h⟩
  | 4 => obtain ⟨q, h⟩ := hin in_X4 q359; exact ⟨q, fun r hr => by cases hr; exact h⟩
  | 5 => obtain ⟨q, h⟩ := hin in_X5w q480; exact ⟨q, fun r hr => by cases hr; exact h⟩
  | 6 => obtain ⟨q, h⟩ := hin in_X6 q548; exact ⟨q, fun r hr => by cases hr; exact h⟩
  | 7 => obtain ⟨q, h⟩ := hin in_X7 q558; exact ⟨q, fun r hr => by cases hr; exact h⟩
  | 8 => obtain ⟨q, h⟩ := hin in_X8 q587; exact ⟨q, fun r hr => by cases hr; exact h⟩
  | 9 => obtain ⟨q, h⟩ := hin in_X9 q619; exact ⟨q, fun r hr => by cases hr; exact h⟩
  | 10 => obtain ⟨q, h⟩ := hin in_X10 q629; exact ⟨q, fun r hr => by cases hr; exact h⟩
  | 11 => obtain ⟨q, h⟩ := hin in_X11 q723; exact ⟨q, fun r hr => by cases hr; exact h⟩
  | 12 => obtain ⟨q, h⟩ := hin in_X12 q740; exact ⟨q, fun r hr => by cases hr; exact h⟩
  | 13 => obtain ⟨q, h⟩ := hin in_X13 q756; exact ⟨q, fun r hr => by cases hr; exact h⟩
  | 14 => obtain ⟨q, h⟩ := hin in_X14 q766; exact ⟨q, fun r hr => by cases hr; exact h⟩
  | 15 => obtain ⟨q, h⟩ := hin in_X15 q833; exact ⟨q, fun r hr => by cases hr; exact h⟩
  | 16 => obtain ⟨q, h⟩ := hin in_J2 q367; exact ⟨q, fun r hr => by cases hr; exact h⟩
  | 17 => obtain ⟨q, h⟩ := hin in_J15 q803; exact ⟨q, fun r hr => by cases hr; exact h⟩
  | n + 18 => exact ⟨(0, fun _ => 0), fun r hr => by simp [vwCl] at hr⟩
theorem st_arrays {s : State} {args : Array Value} (hts : ∀ w ∈ lw_tbl, w.before args s = true) : ∀ ty : FieldType, ∃ cA : ClassId, ty ∈ tysL → ArrOfT s cA ty ∧ va_RA s cA ty := by
  intro ty
  by_cases h : ty ∈ tysL
  · have key : ∃ cA : ClassId, ArrOfT s cA ty ∧ va_RA s cA ty := by
      simp only [tysL, List.mem_cons, List.not_mem_nil, or_false] at h
      rcases h with rfl | rfl | rfl | rfl | rfl | rfl | rfl | rfl
      · exact st_arrK (hts _ (lw_all_tbl q211)) (fun C => by simp)
      · exact st_arrK (hts _ (lw_all_tbl q293)) (fun C => by simp)
      · exact st_arrK (hts _ (lw_all_tbl q1461)) (fun C => by simp)
      · exact st_arrK (hts _ (lw_all_tbl q1462)) (fun C => by simp)
      · exact st_arrA (hts _ q179)
      · exact st_arrO (hts _ q181)
      · exact st_arrO (hts _ q365)
      · exact st_arrO (hts _ q699)
    obtain ⟨cA, hc⟩ := key
    exact ⟨cA, fun _ => hc⟩
  · exact ⟨0, fun q => absurd q h⟩
/-- the addresses of labels, out of those of the old ones -/
def kL0 (s : State) (al : Nat → Nat) (k : Nat) : Nat := if k < 400 then al k else s.heap.size + (k - 400)
theorem kL0_old {s : State} {al : Nat → Nat} {k : Nat} (h : k < 400) : kL0 s al k = al k := by unfold kL0; rw [if_pos h]
theorem st_Ini {s : State} {b : Nat} {D : va_G} {kA : FieldType → ClassId} {al : Nat → Nat} (hts : ∀ w ∈ lw_tbl, w.before #[Value.ref b] s = true) (h : NN.before #[Value.ref b] s = true)
    (hD : ∀ (ci : Nat) (r : vw_C), vwCl[ci]? = some r → u_Kn s r.1 r.2.1 r.2.2 (D.1 ci) (D.2 ci)) (hA : ∀ ty ∈ tysL, ArrOfT s (kA ty) ty ∧ va_RA s (kA ty) ty) (hal : ∀ k, Q0 #[Value.ref b] s k (al k)) : Ini (D, kA, kL0 s al, s) := by
  have hAf : ∀ a : Nat, a < s.heap.size → ¬ Afr (D, kA, kL0 s al, s) a := fun a ha q => by
    have q' : s.heap.size ≤ a := q
    omega
  have hall : ∀ w ∈ lw_all, w.before #[Value.ref b] s = true := fun w hw => hts w (lw_all_tbl hw)
  have ev : ∀ {k : Nat} {t : Term}, tmL k = some t → k < 400 → t.eval #[Value.ref b] s none [] s = some (.ref (kL0 s al k)) := fun h1 h2 => by rw [kL0_old h2]; exact (hal _).1 _ h1
  refine ⟨⟨hD, fun k q hq => ?_⟩, fun k hk => ?_, fun k hk => ?_, ⟨_, hts⟩, fun w hw args => pay_in hall (lw_good (fun w h => h)) w hw args s (State.WarmedH.refl _), fun q hq => ?_, ?_, ?_, ⟨?_, ?_⟩, fun q hq => ?_⟩
  · obtain ⟨ty, h1, rfl⟩ := List.mem_map.mp (List.mem_of_getElem? hq)
    exact hA ty h1
  · have hk' : ¬ k < 400 := Nat.not_lt.mpr hk
    show kL0 s al k = s.heap.size + (k - 400)
    unfold kL0
    rw [if_neg hk']
  · show kL0 s al k < _
    rw [kL0_old (by omega)]
    exact (hal k).2.1 hk
  · simp only [statL, List.mem_cons, List.not_mem_nil, or_false] at hq
    rcases hq with rfl | rfl | rfl | rfl | rfl | rfl
    · exact va_Zof (hts _ q919) (hts _ (lw_all_tbl q130)) (ev (k := 1) rfl (by decide)) hAf
    · exact va_Zof (hts _ q379) (hts _ (lw_all_tbl q138)) (ev (k := 4) rfl (by decide)) hAf
    · exact va_Zof (hts _ q801) (hts _ (lw_all_tbl q162)) (ev (k := 5) rfl (by decide)) hAf
    · exact va_Zof (hts _ q799) (hts _ (lw_all_tbl q162)) (va_eqi (st_at h 19 rfl)) hAf
    · exact va_Zof (hts _ q414) (hts _ (lw_all_tbl q134)) (ev (k := 262) rfl (by decide)) hAf
    · exact va_Zof (hts _ q428) (hts _ (lw_all_tbl q139)) (va_eqi (st_at h 20 rfl)) hAf
  · exact vk_R.of (hts _ q474) (ev (k := 297) rfl (by decide))
  · show va_Mi _ (kL0 s al 399) s
    rw [kL0_old (by decide)]
    exact (hal 399).2.2.2.2.2 rfl
  · obtain ⟨c, k, i, f, a, cell, h1, h2, h3, h4, h5, h6, h7, h8, h9⟩ := Cond.laysStatic_spec (hts _ q504)
    exact ⟨c, k, i, f, a, cell, h1, h2, h3, h4, h5, h6, h7, h8, h9, hAf a (Array.getElem?_eq_some_iff.mp h5).1⟩
  · obtain ⟨c, k, i, f, a, cell, h1, h2, h3, h4, h5, h6, h7, h8, h9⟩ := Cond.laysStatic_spec (hts _ q506)
    exact ⟨c, k, i, f, a, cell, h1, h2, h3, h4, h5, h6, h7, h8, h9, hAf a (Array.getElem?_eq_some_iff.mp h5).1⟩
  · simp only [unkL, List.mem_cons, List.not_mem_nil, or_false] at hq
    rcases hq with rfl | rfl | rfl
    · rcases (hal 398).2.2.2.2.1 rfl with z | z
      · exact Or.inl (va_Zof (hts _ q444) (hts _ (lw_all_tbl q141)) z hAf)
      · exact Or.inr (va_Zof (hts _ q444) (hts _ (lw_all_tbl q141)) (by show _ = some (Value.ref (kL0 s al 398)); rw [kL0_old (by decide)]; exact z) hAf)
    · rcases (hal 397).2.2.2.1 rfl with z | z
      · exact Or.inl (va_Zof (hts _ q504) (hts _ (lw_all_tbl q144)) z hAf)
      · exact Or.inr (va_Zof (hts _ q504) (hts _ (lw_all_tbl q144)) (by show _ = some (Value.ref (kL0 s al 397)); rw [kL0_old (by decide)]; exact z) hAf)
    · rcases (hal 396).2.2.1 rfl with z | z
      · exact Or.inl (va_Zof (hts _ q506) (hts _ (lw_all_tbl q144)) z hAf)
      · exact Or.inr (va_Zof (hts _ q506) (hts _ (lw_all_tbl q144)) (by show _ = some (Value.ref (kL0 s al 396)); rw [kL0_old (by decide)]; exact z) hAf)
theorem st_HP {s : State} {b L : Nat} {xs : Nat → Int32} {D : va_G} {kA : FieldType → ClassId} {al : Nat → Nat} (h : NN.before #[Value.ref b] s = true) (hal : ∀ k, Q0 #[Value.ref b] s k (al k)) (hX : va_X b L xs s s.heap) : HP (D, kA, kL0 s al, s) (w00 L xs) s.heap := by
  have ev : ∀ {k : Nat} {t : Term}, tmL k = some t → k < 400 → t.eval #[Value.ref b] s none [] s = some (.ref (kL0 s al k)) := fun h1 h2 => by rw [kL0_old h2]; exact (hal _).1 _ h1
  refine ⟨rfl, Nat.le_refl _, fun k e hk => ?_⟩
  have hk' : f0 L xs k = some e := hk
  have hlt : k < 335 := by
    rcases Nat.lt_or_ge k 335 with q | q
    · exact q
    · exfalso
      unfold f0 at hk'
      simp only [show ¬ k = 0 by omega, show ¬ k = 1 by omega, show ¬ k = 2 by omega, show ¬ k = 3 by omega, show ¬ k = 4 by omega, show ¬ k = 5 by omega, show ¬ k < 262 by omega, show ¬ k = 262 by omega, show ¬ k < 298 by omega, show ¬ k < 300 by omega, show ¬ k < 335 by omega, if_false] at hk'
      cases hk'
  refine ⟨⟨by show k < 400; omega, Or.inl (by omega)⟩, fun _ => ?_, fun q => absurd (show 400 ≤ k from q) (by omega)⟩
  have key : ∀ {t : Term}, tmL k = some t → t.eval #[Value.ref b] s none [] s = some (.ref (kL0 s al k)) := fun h1 => ev h1 (by omega)
  by_cases c0 : k = 0
  · subst c0
    cases hk'
    obtain ⟨scr, g1, g2, g3, g4, g5⟩ := hX
    have e0 : kL0 s al 0 = b := by
      have := key (t := .arg 0) rfl
      simp [Term.eval] at this
      exact this.symm
    have hst : scr.vm.isStatics = false := by
      have h9 := st_at h 21 rfl
      cases hv : (Term.length (.arg 0)).eval #[Value.ref b] s none [] s with
      | none => simp [Cond.before, Cond.holds, Cond.value, hv] at h9
      | some v =>
        obtain ⟨a, cell, q1, q2, -⟩ := Term.length_spec hv
        have q1' : a = b := by simp [Term.eval] at q1; exact q1.symm
        subst q1'
        obtain ⟨q3, -, q4, -⟩ := State.arrayAt?_spec q2
        cases q3.symm.trans g1
        exact q4
    show Wk _ (kL0 s al 0) _ _
    rw [e0]
    exact ⟨scr, g1, g3, hst, g2, g4, fun j hj => g5 j hj⟩
  by_cases c1 : k = 1
  · subst c1
    cases hk'
    refine wk_obj (K := (D, kA, kL0 s al, s)) (r := (RX4, TX4, 3)) rfl (by decide) (st_at h 11 rfl) (key rfl) (fun j hj => ?_)
    match j, hj with
    | 0, _ => exact ev (k := 2) rfl (by decide)
    | 1, _ => exact va_eqt (st_at h 14 rfl)
    | 2, _ => exact ev (k := 3) rfl (by decide)
  by_cases c2 : k = 2
  · subst c2
    cases hk'
    exact wk_arr (K := (D, kA, kL0 s al, s)) (by decide) (key rfl) (st_at h 12 rfl) (st_at h 13 rfl) (fun j hj => st_eqN (st_law h j hj))
  by_cases c3 : k = 3
  · subst c3
    cases hk'
    refine wk_obj (K := (D, kA, kL0 s al, s)) (r := (RJ2, TJ2, 3)) rfl (by decide) (st_at h 15 rfl) (key rfl) (fun j hj => ?_)
    match j, hj with
    | 0, _ => exact va_eqt (st_at h 18 rfl)
    | 1, _ => exact st_eqR (st_at h 16 rfl) (ev (k := 4) rfl (by decide))
    | 2, _ => exact va_eqt (st_at h 17 rfl)
  by_cases c4 : k = 4
  · subst c4
    cases hk'
    exact wk_arr (K := (D, kA, kL0 s al, s)) (by decide) (key rfl) (st_at h 0 rfl) (st_at h 1 rfl) (fun j hj => absurd hj (Nat.not_lt_zero _))
  by_cases c5 : k = 5
  · subst c5
    cases hk'
    refine wk_arr (K := (D, kA, kL0 s al, s)) (by decide) (key rfl) (st_at h 8 rfl) (st_at h 9 rfl) (fun j hj => ?_)
    have hj' : j < 256 := hj
    refine ev (k := 6 + j) ?_ (by omega)
    simp only [tmL, show ¬ 6 + j = 0 by omega, show ¬ 6 + j = 1 by omega, show ¬ 6 + j = 2 by omega, show ¬ 6 + j = 3 by omega, show ¬ 6 + j = 4 by omega, show ¬ 6 + j = 5 by omega, show 6 + j < 262 by omega, if_true, if_false, show 6 + j - 6 = j by omega]
  by_cases c6 : k < 262
  · have e1 : tmL k = some (.elem tmC (.int (Int32.ofNat (k - 6)))) := by simp only [tmL, c0, c1, c2, c3, c4, c5, c6, if_true, if_false]
    have e2 : f0 L xs k = some (.inr (17, [.int (Int32.ofNat (k - 6) - 128)])) := by simp only [f0, c0, c1, c2, c3, c4, c5, c6, if_true, if_false]
    cases hk'.symm.trans e2
    obtain ⟨h1, h2⟩ := st_int h (k - 6) (by omega)
    refine wk_obj (K := (D, kA, kL0 s al, s)) (r := (RJ15, TJ15, 1)) rfl (by decide) h1 (key e1) (fun j hj => ?_)
    match j, hj with
    | 0, _ => exact h2
  by_cases c7 : k = 262
  · subst c7
    cases hk'
    refine wk_arr (K := (D, kA, kL0 s al, s)) (by decide) (key rfl) (st_at h 2 rfl) (st_at h 3 rfl) (fun j hj => ?_)
    have hj' : j < 34 := hj
    refine st_eqR (st_wrd h j hj') (ev (k := 263 + j) ?_ (by omega))
    simp only [tmL, show ¬ 263 + j = 0 by omega, show ¬ 263 + j = 1 by omega, show ¬ 263 + j = 2 by omega, show ¬ 263 + j = 3 by omega, show ¬ 263 + j = 4 by omega, show ¬ 263 + j = 5 by omega, show ¬ 263 + j < 262 by omega, show ¬ 263 + j = 262 by omega, show 263 + j < 298 by omega, if_true, if_false, show 263 + j - 263 = j by omega]
  by_cases c8 : k < 298
  · have e1 : tmL k = some (tmS (k - 263)) := by simp only [tmL, c0, c1, c2, c3, c4, c5, c6, c7, c8, if_true, if_false]
    have e2 : f0 L xs k = some (.inr (18, [.ref (k + 37), .int 0])) := by simp only [f0, c0, c1, c2, c3, c4, c5, c6, c7, c8, if_true, if_false]
    cases hk'.symm.trans e2
    obtain ⟨h1, h2, h3, h4, h5⟩ := st_str h (k - 263) (by omega)
    refine wk_obj (K := (D, kA, kL0 s al, s)) (r := ("java/lang/String", TStr, 2)) rfl (by decide) h1 (key e1) (fun j hj => ?_)
    match j, hj with
    | 0, _ =>
      refine ev (k := k + 37) ?_ (by omega)
      simp only [tmL, show ¬ k + 37 = 0 by omega, show ¬ k + 37 = 1 by omega, show ¬ k + 37 = 2 by omega, show ¬ k + 37 = 3 by omega, show ¬ k + 37 = 4 by omega, show ¬ k + 37 = 5 by omega, show ¬ k + 37 < 262 by omega, show ¬ k + 37 = 262 by omega, show ¬ k + 37 < 298 by omega, show ¬ k + 37 < 300 by omega, show k + 37 < 335 by omega, if_true, if_false, show k + 37 - 300 = k - 263 by omega]
      rfl
    | 1, _ => exact va_eqt h2
  by_cases c10 : k < 300
  · exfalso
    unfold f0 at hk'
    simp only [c0, c1, c2, c3, c4, c5, c6, c7, c8, c10, if_true, if_false] at hk'
    cases hk'
  have e1 : tmL k = some (tmB (k - 300)) := by simp only [tmL, c0, c1, c2, c3, c4, c5, c6, c7, c8, c10, hlt, if_true, if_false]
  have e2 : f0 L xs k = some (.inl (.byte, (bytN.getD (k - 300) []).length, .inl (fun j => (bytN.getD (k - 300) []).getD j 0))) := by simp only [f0, c0, c1, c2, c3, c4, c5, c6, c7, c8, c10, hlt, if_true, if_false]
  cases hk'.symm.trans e2
  obtain ⟨h1, h2, h3, h4, h5⟩ := st_str h (k - 300) (by omega)
  have hsm : (bytN.getD (k - 300) []).length < 2 ^ 31 := (by decide +kernel : ∀ i, i < 35 → (bytN.getD i []).length < 2 ^ 31) _ (by omega)
  generalize bytN.getD (k - 300) [] = l at *
  exact wk_arr (K := (D, kA, kL0 s al, s)) (t := tmB (k - 300)) (x := (l.length, .inl (fun j => l.getD j 0))) hsm (key e1) h3 h4 (fun j hj => va_eqt (h5 j hj))
