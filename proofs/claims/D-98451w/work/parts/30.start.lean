/-! ===== the start: what the premises say of the old cells ===== -/
def cstN : List Nat := [213, 215, 217, 219, 221, 223, 225, 227, 229, 231, 233, 235, 237, 238, 240, 242, 244, 246, 248, 249, 250, 252, 254, 256, 258, 260, 262, 264, 266, 268, 270, 272, 274, 276, 53]
def bytN : List (List Int32) := [[112, 97, 99, 101, 115], [115, 119, 105, 110, 103, 115], [104, 97, 110, 100], [104, 111, 108, 100, 115], [108, 97, 115, 116, 115], [111, 114, 100, 101, 114], [109, 111, 118, 101], [114, 117, 110], [114, 111, 112, 101], [97, 105, 109], [104, 111, 111, 107], [108, 97, 110, 100], [97, 116], [100, 117, 101], [109, 101, 110], [111, 110], [111, 117, 116], [105, 110], [115, 105, 122, 101], [97, 103, 111], [105, 102], [116, 104, 101, 110], [101, 108, 115, 101], [101, 110, 100], [111, 114], [97, 110, 100], [110, 111, 116], [97, 119, 97, 121], [115, 112, 101, 101, 100], [112, 97, 99, 101], [119, 105, 110, 100], [103, 111, 97, 108], [119, 101, 105, 103, 104, 116], [121, 97, 114, 100], [60, 62, 61, 35, 43, 45, 42, 47, 40, 41, 59]]
abbrev tmN : Term := .static "HookSwings" "NOTHING" "LHookSwings$Text;"
abbrev tmLaw : Term := .field tmN "HookSwings$Text" "law" "[LHookSwings$Sum;"
abbrev tmDo : Term := .field tmN "HookSwings$Text" "doings" "Ljava/util/ArrayList;"
abbrev tmE : Term := .static "java/util/ArrayList" "DEFAULTCAPACITY_EMPTY_ELEMENTDATA" "[Ljava/lang/Object;"
abbrev tmC : Term := .static "java/lang/Integer$IntegerCache" "cache" "[Ljava/lang/Integer;"
abbrev tmW : Term := .static "HookSwings$Tokens" "WORDS" "[Ljava/lang/String;"
abbrev tmS (i : Nat) : Term := .string "HookSwings$Tokens" (cstN.getD i 0)
abbrev tmB (i : Nat) : Term := .field (tmS i) "java/lang/String" "value" "[B"
abbrev tmU1 : Term := .static "java/lang/Throwable" "SUPPRESSED_SENTINEL" "Ljava/util/List;"
abbrev tmU2 : Term := .static "java/lang/Throwable" "UNASSIGNED_STACK" "[Ljava/lang/StackTraceElement;"
abbrev tmU3 : Term := .static "jdk/internal/util/Preconditions" "SIOOBE_FORMATTER" "Ljava/util/function/BiFunction;"
abbrev NN : Cond := Jvm.Cond.and given_1 narrow_1
theorem st_eqN {args : Array Value} {s : State} {t : Term} (h : (Cond.eq t .null).before args s = true) : t.eval args s none [] s = some .null := by
  cases hv : t.eval args s none [] s with
  | none => simp [Cond.before, Cond.holds, Cond.value, hv] at h
  | some w =>
    have hz : (Term.null).eval args s none [] s = some .null := rfl
    simp only [Cond.before, Cond.holds, Cond.value, hv, hz] at h
    cases w <;> simp_all
theorem st_eqR {args : Array Value} {s : State} {t u : Term} {a : Nat} (h : (Cond.eq t u).before args s = true) (hu : u.eval args s none [] s = some (.ref a)) : t.eval args s none [] s = some (.ref a) := by
  cases hv : t.eval args s none [] s with
  | none => simp [Cond.before, Cond.holds, Cond.value, hv] at h
  | some w =>
    simp only [Cond.before, Cond.holds, Cond.value, hv, hu] at h
    cases w <;> simp_all
theorem st_arr {args : Array Value} {s : State} {t : Term} {ty : FieldType} {N a : Nat} (hN : N < 2 ^ 31) (ht : t.eval args s none [] s = some (.ref a)) (harr : (Cond.arrayOf t ty).before args s = true) (hlen : (Cond.eq (.length t) (.int (Int32.ofNat N))).before args s = true) :
    ∃ cell : Cell, s.heap[a]? = some cell ∧ cell.vm ≠ .unknown ∧ cell.vm.isStatics = false ∧ s.isArrayOf cell ty ∧ cell.slots.size = N ∧ ∀ (j : Nat) (v : Value), j < N → (Term.elem t (.int (Int32.ofNat j))).eval args s none [] s = some v → cell.slots[j]? = some v := by
  have hl := va_eqt hlen
  simp only [Term.eval, ht, Option.bind_eq_bind, Option.bind_some] at hl
  obtain ⟨cell, hc, hl⟩ := Option.bind_eq_some_iff.mp hl
  obtain ⟨hcell, hkn, hst, -⟩ := State.arrayAt?_spec hc
  obtain ⟨hof, -⟩ := Cond.arrayOf_spec harr ht hcell
  refine ⟨cell, hcell, hkn, hst, hof, ?_, fun j v hj he => ?_⟩
  · split at hl
    · rename_i hlt
      simp only [Option.pure_def, Option.some.injEq, Value.int.injEq] at hl
      have e : (Int32.ofNat cell.slots.size).toInt = (Int32.ofNat N).toInt := congrArg Int32.toInt hl
      rw [Int32.toInt_ofNat_of_lt hlt, Int32.toInt_ofNat_of_lt hN] at e
      exact Int.ofNat.inj e
    · cases hl
  · obtain ⟨a', i, cell2, h1, h2, h3, h4, h5⟩ := Term.elem_spec he
    cases ht.symm.trans h1
    cases hc.symm.trans h3
    have hi : i = Int32.ofNat j := by
      have e : (Term.int (Int32.ofNat j)).eval args s none [] s = some (.int (Int32.ofNat j)) := rfl
      cases h2.symm.trans e
      rfl
    have hcj : i.toNatClampNeg = j := by rw [hi]; exact Int32.toNatClampNeg_ofNat_of_lt (Nat.lt_trans hj hN)
    rw [hcj] at h5
    exact h5
theorem st_fld {args : Array Value} {s : State} {t : Term} {a : Nat} {o n d : String} {v : Value} (ht : t.eval args s none [] s = some (.ref a)) (hv : (Term.field t o n d).eval args s none [] s = some v) : ∃ i, FldIs s o n d i ∧ ∃ cell : Cell, s.heap[a]? = some cell ∧ cell.vm ≠ .unknown ∧ cell.slots[i]? = some v := by
  cases hfo : s.fieldFound? o n d with
  | none =>
    rw [va_fe ht] at hv
    simp [State.fieldOf?, State.fieldNamed?, hfo] at hv
  | some x =>
    obtain ⟨cf, k, fi, f⟩ := x
    obtain ⟨g1, cell, g2, g3, -, -, g6⟩ := Term.field_spec hfo ht hv
    exact ⟨f.slot, ⟨cf, k, fi, f, hfo, rfl, g1⟩, cell, g2, g3, g6⟩
theorem wk_obj {K : Kx} {args : Array Value} {a ci : Nat} {r : vw_C} {fs' : List Value} {t : Term} (hr : vwAll[ci]? = some r) (hN : 0 < r.2.2) (hex : (Cond.exactly t r.1).before args (kS K) = true) (ht : t.eval args (kS K) none [] (kS K) = some (.ref a))
    (hf : ∀ j, j < r.2.2 → (Term.field t (r.2.1 j).1 (r.2.1 j).2.1 (r.2.1 j).2.2.1).eval args (kS K) none [] (kS K) = some (vp_V (fs'.map (cv (kL K))) j)) : Wk K a (.inr (ci, fs')) (kS K).heap := by
  obtain ⟨a2, c, cA, kA, q1, q2, q3, q4, q5, q6, -⟩ := Cond.exactly_spec hex
  cases ht.symm.trans q1
  obtain ⟨i0, -, cell, g1, g2, -⟩ := st_fld ht (hf 0 hN)
  cases q3.symm.trans g1
  refine ⟨_, q3, g2, q5, r, hr, by rw [q6]; exact q2, fun j hj => ?_⟩
  obtain ⟨i, h1, cell, h2, h3, h4⟩ := st_fld ht (hf j hj)
  cases q3.symm.trans h2
  exact ⟨i, h1, h4⟩
theorem wk_arr {K : Kx} {args : Array Value} {a : Nat} {ty : FieldType} {x : vp_A} {t : Term} (hN : x.1 < 2 ^ 31) (ht : t.eval args (kS K) none [] (kS K) = some (.ref a)) (harr : (Cond.arrayOf t ty).before args (kS K) = true) (hlen : (Cond.eq (.length t) (.int (Int32.ofNat x.1))).before args (kS K) = true)
    (hel : ∀ j : Nat, j < x.1 → (Term.elem t (.int (Int32.ofNat j))).eval args (kS K) none [] (kS K) = some (vAr (kL K) x j)) : Wk K a (.inl (ty, x)) (kS K).heap := by
  obtain ⟨cell, h1, h2, h3, h4, h5, h6⟩ := st_arr hN ht harr hlen
  exact ⟨cell, h1, h2, h3, h4, h5, fun j hj => h6 j _ hj (hel j hj)⟩
/-- an array class out of the tables -/
theorem st_arrK {s : State} {args : Array Value} {ty : FieldType} (h : (Cond.arrayClass ty).before args s = true) (hno : ∀ C, ty ≠ .object C) : ∃ cA, ArrOfT s cA ty ∧ va_RA s cA ty := by
  obtain ⟨c, k, comp, h1, h2, h3⟩ := Cond.arrayClass_spec h
  exact ⟨c, fun N z => ⟨(fun k h => by cases h), k, h2, comp, h3⟩, by cases ty <;> first | exact h1 | exact absurd rfl (hno _)⟩
theorem st_arrO {s : State} {args : Array Value} {C : String} (h : (Cond.arrayOver (.object C)).before args s = true) : ∃ cA, ArrOfT s cA (.object C) ∧ va_RA s cA (.object C) := by
  obtain ⟨comp, c, k, h1, h2, h3, h4, h5⟩ := Cond.arrayOver_spec h
  exact ⟨c, fun N z => ⟨(fun k h => by cases h), k, h3, comp, h4⟩, k, comp, h3, h4, h1, h5⟩
theorem st_arrA {s : State} {args : Array Value} {t : FieldType} (h : (Cond.arrayOver (.array t)).before args s = true) : ∃ cA, ArrOfT s cA (.array t) ∧ va_RA s cA (.array t) := by
  simp only [Cond.before, Cond.holds, Cond.value, beq_iff_eq] at h
  cases hc : s.vm.findClass (FieldType.array t).toString with
  | none => simp [hc] at h
  | some comp =>
    simp only [hc, Option.bind_some, Option.bind_eq_some_iff, Option.map_eq_some_iff] at h
    obtain ⟨c, hi, k, hk, hb⟩ := h
    obtain ⟨hlt, hp, -⟩ := Array.findIdx?_eq_some_iff_getElem.mp hi
    cases hkind : k.kind with
    | array component ty =>
      rw [hkind] at hb
      simp at hb
      exact ⟨c, fun N z => ⟨(fun k h => by cases h), k, hk, component, by rw [hkind, hb.1]⟩, hb.2⟩
    | _ => rw [hkind] at hb; simp at hb
