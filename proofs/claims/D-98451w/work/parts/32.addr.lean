/-! ===== the addresses of the old labels ===== -/
theorem st_at {args : Array Value} {s : State} (h : NN.before args s = true) (i : Nat) {c : Cond} (hi : stP[i]? = some c) : c.before args s = true := stP_all h c (List.mem_of_getElem? hi)
theorem st_law {args : Array Value} {s : State} (h : NN.before args s = true) (j : Nat) (hj : j < 5) : (Cond.eq (.elem tmLaw (.int (Int32.ofNat j))) .null).before args s = true := by
  refine stP_all h _ ?_
  unfold stP
  refine List.mem_append_left _ (List.mem_append_left _ (List.mem_append_right _ ?_))
  exact List.mem_map.mpr ⟨j, List.mem_range.mpr hj, rfl⟩
theorem st_wrd {args : Array Value} {s : State} (h : NN.before args s = true) (j : Nat) (hj : j < 34) : (Cond.eq (.elem tmW (.int (Int32.ofNat j))) (tmS j)).before args s = true := by
  refine stP_all h _ ?_
  unfold stP
  refine List.mem_append_left _ (List.mem_append_right _ ?_)
  exact List.mem_map.mpr ⟨j, List.mem_range.mpr hj, rfl⟩
theorem st_str {args : Array Value} {s : State} (h : NN.before args s = true) (i : Nat) (hi : i < 35) : (Cond.exactly (tmS i) "java/lang/String").before args s = true ∧ (Cond.eq (.field (tmS i) "java/lang/String" "coder" "B") (.int 0)).before args s = true ∧ (Cond.arrayOf (tmB i) .byte).before args s = true ∧ (Cond.eq (.length (tmB i)) (.int (Int32.ofNat ((bytN.getD i []).length)))).before args s = true ∧ ∀ j, j < (bytN.getD i []).length → (Cond.eq (.elem (tmB i) (.int (Int32.ofNat j))) (.int ((bytN.getD i []).getD j 0))).before args s = true := by
  have key : ∀ c ∈ ([Cond.exactly (tmS i) "java/lang/String", Cond.eq (.field (tmS i) "java/lang/String" "coder" "B") (.int 0), Cond.arrayOf (tmB i) .byte, Cond.eq (.length (tmB i)) (.int (Int32.ofNat ((bytN.getD i []).length)))] ++ (List.range ((bytN.getD i []).length)).map (fun j => Cond.eq (.elem (tmB i) (.int (Int32.ofNat j))) (.int ((bytN.getD i []).getD j 0)))), c.before args s = true := by
    intro c hc
    refine stP_all h _ ?_
    unfold stP
    refine List.mem_append_right _ ?_
    exact List.mem_flatMap.mpr ⟨i, List.mem_range.mpr hi, hc⟩
  refine ⟨key _ ?_, key _ ?_, key _ ?_, key _ ?_, fun j hj => key _ ?_⟩
  · exact List.mem_append_left _ List.mem_cons_self
  · exact List.mem_append_left _ (List.mem_cons_of_mem _ List.mem_cons_self)
  · exact List.mem_append_left _ (List.mem_cons_of_mem _ (List.mem_cons_of_mem _ List.mem_cons_self))
  · exact List.mem_append_left _ (List.mem_cons_of_mem _ (List.mem_cons_of_mem _ (List.mem_cons_of_mem _ List.mem_cons_self)))
  · exact List.mem_append_right _ (List.mem_map.mpr ⟨j, List.mem_range.mpr hj, rfl⟩)
theorem Q0.mk {args : Array Value} {s : State} {k a : Nat} {t : Term} (ht : tmL k = some t) (hk : k < 396) (he : t.eval args s none [] s = some (.ref a) ∧ a < s.heap.size) : Q0 args s k a :=
  ⟨fun t' h' => by rw [ht] at h'; cases h'; exact he.1, fun _ => he.2, fun q => absurd q (by omega), fun q => absurd q (by omega), fun q => absurd q (by omega), fun q => absurd q (by omega)⟩
/-- the cache's Integers -/
theorem st_int {args : Array Value} {s : State} (h : NN.before args s = true) (i : Nat) (hi : i < 256) : (Cond.exactly (.elem tmC (.int (Int32.ofNat i))) "java/lang/Integer").before args s = true ∧ (Term.field (.elem tmC (.int (Int32.ofNat i))) "java/lang/Integer" "value" "I").eval args s none [] s = some (.int (Int32.ofNat i - 128)) := by
  have h1 := st_at h 8 rfl
  have h2 := st_at h 9 rfl
  have h3 := st_at h 10 rfl
  obtain ⟨a, cell, ht, hc, hv⟩ := Term.length_spec (va_eqt h2)
  obtain ⟨cell', g1, -, -, -, g5, -⟩ := st_arr (N := 256) (by decide) ht h1 h2
  obtain ⟨q1, -⟩ := State.arrayAt?_spec hc
  cases q1.symm.trans g1
  have hall : (Cond.all tmC (.and (.exactly (.elem tmC (.index 0)) "java/lang/Integer") (.eq (.field (.elem tmC (.index 0)) "java/lang/Integer" "value" "I") (.sub (.index 0) (.int 128))))).value args s none s [] = some true := by
    simpa [Cond.before, Cond.holds] using h3
  have e1 : (Term.elem tmC (.index 0)).eval args s none [i] s = (Term.elem tmC (.int (Int32.ofNat i))).eval args s none [] s := st_idx (fun _ => rfl)
  have h4 := Cond.all_elim ht hc hall i (by rw [g5]; exact hi)
  have hand : ∀ {c d : Cond}, (Cond.and c d).value args s none s [i] = some true → c.value args s none s [i] = some true ∧ d.value args s none s [i] = some true := fun {c d} q => by
    simp only [Cond.value] at q
    cases hc : c.value args s none s [i] with
    | none => rw [hc] at q; cases q
    | some v => cases v with
      | false => rw [hc] at q; cases q
      | true => rw [hc] at q; exact ⟨rfl, q⟩
  obtain ⟨ha, hb⟩ := hand h4
  have hx : (Cond.exactly (.elem tmC (.int (Int32.ofNat i))) "java/lang/Integer").before args s = true := by
    simp only [Cond.value, e1] at ha
    simp only [Cond.before, Cond.holds, Cond.value, ha]
    rfl
  refine ⟨hx, ?_⟩
  · have e2 : (Term.field (.elem tmC (.index 0)) "java/lang/Integer" "value" "I").eval args s none [i] s = (Term.field (.elem tmC (.int (Int32.ofNat i))) "java/lang/Integer" "value" "I").eval args s none [] s := by
      obtain ⟨a9, q9, -⟩ := st_exa hx
      rw [va_fe q9, va_fe (e1.trans q9)]
    have e3 : (Term.sub (.index 0) (.int 128)).eval args s none [i] s = some (.int (Int32.ofNat i - 128)) := rfl
    simp only [Cond.value, e2, e3] at hb
    cases hv : (Term.field (.elem tmC (.int (Int32.ofNat i))) "java/lang/Integer" "value" "I").eval args s none [] s with
    | none => rw [hv] at hb; cases hb
    | some w => rw [hv] at hb; cases w <;> simp_all
theorem st_Q {args : Array Value} {s : State} {b : Nat} (ha : args = #[.ref b]) (hb : b < s.heap.size) (h : NN.before args s = true) : ∀ k, ∃ a, Q0 args s k a := by
  intro k
  have hlen : ∀ {t : Term} {z : Int32}, tmL k = some t → k < 396 → (Cond.eq (.length t) (.int z)).before args s = true → ∃ a, Q0 args s k a := fun h1 h2 h3 => by
    obtain ⟨a, q⟩ := st_len (va_eqt h3)
    exact ⟨a, Q0.mk h1 h2 q⟩
  have hexa : ∀ {t : Term} {C : String}, tmL k = some t → k < 396 → (Cond.exactly t C).before args s = true → ∃ a, Q0 args s k a := fun h1 h2 h3 => by
    obtain ⟨a, q⟩ := st_exa h3
    exact ⟨a, Q0.mk h1 h2 q⟩
  by_cases c0 : k = 0
  · subst c0; exact ⟨b, Q0.mk rfl (by omega) ⟨by rw [ha]; rfl, hb⟩⟩
  by_cases c1 : k = 1
  · subst c1; exact hexa rfl (by omega) (st_at h 11 rfl)
  by_cases c2 : k = 2
  · subst c2; exact hlen rfl (by omega) (st_at h 13 rfl)
  by_cases c3 : k = 3
  · subst c3; exact hexa rfl (by omega) (st_at h 15 rfl)
  by_cases c4 : k = 4
  · subst c4; exact hlen rfl (by omega) (st_at h 1 rfl)
  by_cases c5 : k = 5
  · subst c5; exact hlen rfl (by omega) (st_at h 9 rfl)
  by_cases c6 : k < 262
  · exact hexa (t := .elem tmC (.int (Int32.ofNat (k - 6)))) (by simp only [tmL, c0, c1, c2, c3, c4, c5, c6, if_true, if_false]) (by omega) (st_int h (k - 6) (by omega)).1
  by_cases c7 : k = 262
  · subst c7; exact hlen rfl (by omega) (st_at h 3 rfl)
  by_cases c8 : k < 298
  · exact hexa (t := tmS (k - 263)) (by simp only [tmL, c0, c1, c2, c3, c4, c5, c6, c7, c8, if_true, if_false]) (by omega) (st_str h (k - 263) (by omega)).1
  by_cases c9 : 300 ≤ k ∧ k < 335
  · have c10 : ¬ k < 300 := by omega
    exact hlen (t := tmB (k - 300)) (by simp only [tmL, c0, c1, c2, c3, c4, c5, c6, c7, c8, c10, c9.2, if_true, if_false]) (by omega) (st_str h (k - 300) (by omega)).2.2.2.1
  have hno : tmL k = none := by
    simp only [tmL, c0, c1, c2, c3, c4, c5, c6, c7, c8, if_false]
    by_cases c10 : k < 300
    · simp only [c10, if_true]
    · simp only [c10, show ¬ k < 335 by omega, if_false]
  by_cases d6 : k = 396
  · subst d6
    obtain ⟨a, q⟩ := st_isR (st_at h 4 rfl)
    exact ⟨a, ⟨fun t ht => (by rw [hno] at ht; cases ht), fun q => absurd q (by omega), fun _ => q, fun q => absurd q (by omega), fun q => absurd q (by omega), fun q => absurd q (by omega)⟩⟩
  by_cases d7 : k = 397
  · subst d7
    obtain ⟨a, q⟩ := st_isR (st_at h 5 rfl)
    exact ⟨a, ⟨fun t ht => (by rw [hno] at ht; cases ht), fun q => absurd q (by omega), fun q => absurd q (by omega), fun _ => q, fun q => absurd q (by omega), fun q => absurd q (by omega)⟩⟩
  by_cases d8 : k = 398
  · subst d8
    obtain ⟨a, q⟩ := st_isR (st_at h 6 rfl)
    exact ⟨a, ⟨fun t ht => (by rw [hno] at ht; cases ht), fun q => absurd q (by omega), fun q => absurd q (by omega), fun q => absurd q (by omega), fun _ => q, fun q => absurd q (by omega)⟩⟩
  by_cases d9 : k = 399
  · subst d9
    obtain ⟨a, q⟩ := va_Mi.of (st_at h 7 rfl)
    exact ⟨a, ⟨fun t ht => (by rw [hno] at ht; cases ht), fun q => absurd q (by omega), fun q => absurd q (by omega), fun q => absurd q (by omega), fun q => absurd q (by omega), fun _ => q⟩⟩
  exact ⟨b, ⟨fun t ht => (by rw [hno] at ht; cases ht), fun _ => hb, fun q => absurd q d6, fun q => absurd q d7, fun q => absurd q d8, fun q => absurd q d9⟩⟩
