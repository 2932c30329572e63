/-! ===== the world at the start ===== -/
def tmL (k : Nat) : Option Term :=
  if k = 0 then some (.arg 0) else if k = 1 then some tmN else if k = 2 then some tmLaw else if k = 3 then some tmDo else if k = 4 then some tmE else if k = 5 then some tmC
  else if k < 262 then some (.elem tmC (.int (Int32.ofNat (k - 6)))) else if k = 262 then some tmW else if k < 298 then some (tmS (k - 263))
  else if k < 300 then none else if k < 335 then some (tmB (k - 300)) else none
/-- the old cells: the script and what the premises say of the statics -/
def f0 (L : Nat) (xs : Nat → Int32) (k : Nat) : Option Cel :=
  if k = 0 then some (.inl (.int, L, .inl xs)) else if k = 1 then some (.inr (4, [.ref 2, .int 0, .ref 3]))
  else if k = 2 then some (.inl (.object "HookSwings$Sum", 5, .inr (.inr (.inr (.inr (fun _ => none))))))
  else if k = 3 then some (.inr (16, [.int 0, .ref 4, .int 0])) else if k = 4 then some (.inl (.object "java/lang/Object", 0, .inr (.inr (.inr (.inr (fun _ => none))))))
  else if k = 5 then some (.inl (.object "java/lang/Integer", 256, .inr (.inr (.inr (.inr (fun j => some (6 + j)))))))
  else if k < 262 then some (.inr (17, [.int (Int32.ofNat (k - 6) - 128)]))
  else if k = 262 then some (.inl (.object "java/lang/String", 34, .inr (.inr (.inr (.inr (fun j => some (263 + j)))))))
  else if k < 298 then some (.inr (18, [.ref (k + 37), .int 0]))
  else if k < 300 then none else if k < 335 then some (.inl (.byte, (bytN.getD (k - 300) []).length, .inl (fun j => (bytN.getD (k - 300) []).getD j 0))) else none
def w00 (L : Nat) (xs : Nat → Int32) : Wd := (f0 L xs, 400, 0)
/-- what is known of the address of a label -/
def Q0 (args : Array Value) (s : State) (k a : Nat) : Prop := (∀ t, tmL k = some t → t.eval args s none [] s = some (.ref a)) ∧ (k < 396 → a < s.heap.size) ∧
  (k = 396 → tmU1.eval args s none [] s = some .null ∨ tmU1.eval args s none [] s = some (.ref a)) ∧ (k = 397 → tmU2.eval args s none [] s = some .null ∨ tmU2.eval args s none [] s = some (.ref a)) ∧
  (k = 398 → tmU3.eval args s none [] s = some .null ∨ tmU3.eval args s none [] s = some (.ref a)) ∧ (k = 399 → va_Mi "[Ljava/lang/Object;" a s)
theorem st_len {args : Array Value} {s : State} {t : Term} {v : Value} (h : (Term.length t).eval args s none [] s = some v) : ∃ a, t.eval args s none [] s = some (.ref a) ∧ a < s.heap.size := by
  obtain ⟨a, cell, h1, h2, -⟩ := Term.length_spec h
  obtain ⟨h3, -⟩ := State.arrayAt?_spec h2
  exact ⟨a, h1, (Array.getElem?_eq_some_iff.mp h3).1⟩
theorem st_exa {args : Array Value} {s : State} {t : Term} {C : String} (h : (Cond.exactly t C).before args s = true) : ∃ a, t.eval args s none [] s = some (.ref a) ∧ a < s.heap.size := by
  obtain ⟨a, c, cA, kA, q1, q2, q3, -⟩ := Cond.exactly_spec h
  exact ⟨a, q1, (Array.getElem?_eq_some_iff.mp q3).1⟩
theorem st_isR {args : Array Value} {s : State} {t : Term} (h : (Cond.isRef t).before args s = true) : ∃ a, t.eval args s none [] s = some .null ∨ t.eval args s none [] s = some (.ref a) := by
  obtain ⟨v, h1, h2⟩ := Cond.isRef_spec h
  cases v <;> simp [Value.isRef] at h2
  · exact ⟨0, Or.inl h1⟩
  · exact ⟨_, Or.inr h1⟩
/-- an elem whose index is the innermost of 'all' -/
theorem st_idx {args : Array Value} {s : State} {t : Term} {i : Nat} (ht : ∀ idx, t.eval args s none idx s = t.eval args s none [] s) : (Term.elem t (.index 0)).eval args s none [i] s = (Term.elem t (.int (Int32.ofNat i))).eval args s none [] s := by
  simp only [Term.eval, ht [i]]
  rfl
/-- the premises the start needs -/
def stP : List Cond := [Cond.arrayOf tmE (.object "java/lang/Object"), Cond.eq (.length tmE) (.int 0), Cond.arrayOf tmW (.object "java/lang/String"), Cond.eq (.length tmW) (.int 34),
  Cond.isRef tmU1, Cond.isRef tmU2, Cond.isRef tmU3, Cond.isRef (.mirror "[Ljava/lang/Object;"), Cond.arrayOf tmC (.object "java/lang/Integer"), Cond.eq (.length tmC) (.int 256),
  Cond.all tmC (.and (.exactly (.elem tmC (.index 0)) "java/lang/Integer") (.eq (.field (.elem tmC (.index 0)) "java/lang/Integer" "value" "I") (.sub (.index 0) (.int 128)))),
  Cond.exactly tmN "HookSwings$Text", Cond.arrayOf tmLaw (.object "HookSwings$Sum"), Cond.eq (.length tmLaw) (.int 5), Cond.eq (.field tmN "HookSwings$Text" "clauses" "I") (.int 0),
  Cond.exactly tmDo "java/util/ArrayList", Cond.eq (.field tmDo "java/util/ArrayList" "elementData" "[Ljava/lang/Object;") tmE, Cond.eq (.field tmDo "java/util/ArrayList" "size" "I") (.int 0), Cond.eq (.field tmDo "java/util/AbstractList" "modCount" "I") (.int 0),
  Cond.eq (.static "java/lang/Integer$IntegerCache" "high" "I") (.int 127), Cond.eq (.static "java/lang/String" "COMPACT_STRINGS" "Z") (.int 1), Cond.le (.length (.arg 0)) (.int 384)] ++ (List.range 5).map (fun j => Cond.eq (.elem tmLaw (.int (Int32.ofNat j))) .null) ++ (List.range 34).map (fun j => Cond.eq (.elem tmW (.int (Int32.ofNat j))) (tmS j)) ++
  (List.range 35).flatMap (fun i => [Cond.exactly (tmS i) "java/lang/String", Cond.eq (.field (tmS i) "java/lang/String" "coder" "B") (.int 0), Cond.arrayOf (tmB i) .byte, Cond.eq (.length (tmB i)) (.int (Int32.ofNat ((bytN.getD i []).length)))] ++ (List.range ((bytN.getD i []).length)).map (fun j => Cond.eq (.elem (tmB i) (.int (Int32.ofNat j))) (.int ((bytN.getD i []).getD j 0))))

def stI : List Nat := [5, 7, 9, 10, 51, 50, 46, 121, 54, 55, 56, 57, 58, 59, 65, 66, 67, 68, 69, 52, 45, 3, 60, 61, 62, 63, 64, 11, 12, 13, 14, 15, 16, 17, 18, 19, 20, 21, 22, 23, 24, 25, 26, 27, 28, 29, 30, 31, 32, 33, 34, 35, 36, 37, 38, 39, 40, 41, 42, 43, 44, 137, 138, 139, 140, 141, 142, 143, 144, 145, 146, 147, 148, 149, 150, 151, 152, 153, 154, 155, 156, 157, 158, 159, 160, 161, 162, 163, 164, 165, 166, 167, 168, 169, 170, 171, 172, 173, 174, 175, 176, 177, 178, 179, 180, 181, 182, 183, 184, 185, 186, 187, 188, 189, 190, 191, 192, 193, 194, 195, 196, 197, 198, 199, 200, 201, 202, 203, 204, 205, 206, 207, 208, 209, 210, 211, 212, 213, 214, 215, 216, 217, 218, 219, 220, 221, 222, 223, 224, 225, 226, 227, 228, 229, 230, 231, 232, 233, 234, 235, 236, 237, 238, 239, 240, 241, 242, 243, 244, 245, 246, 247, 248, 249, 250, 251, 252, 253, 254, 255, 256, 257, 258, 259, 260, 261, 262, 263, 264, 265, 266, 267, 268, 269, 270, 271, 272, 273, 274, 275, 276, 277, 278, 279, 280, 281, 282, 283, 284, 285, 286, 287, 288, 289, 290, 291, 292, 293, 294, 295, 296, 297, 298, 299, 300, 301, 302, 303, 304, 305, 306, 307, 308, 309, 310, 311, 312, 313, 314, 315, 316, 317, 318, 319, 320, 321, 322, 323, 324, 325, 326, 327, 328, 329, 330, 331, 332, 333, 334, 335, 336, 337, 338, 339, 340, 341, 342, 343, 344, 345, 346, 347, 348, 349, 350, 351, 352, 353, 354, 355, 356, 357, 358, 359, 360, 361, 362, 363, 364, 365, 366, 367, 368, 369, 370, 371, 372, 373, 374, 375, 376, 377, 378, 379, 380, 381, 382, 383, 384, 385, 386, 387, 388, 389, 390, 391, 392, 393, 394, 395, 396, 397, 398, 122, 123, 124, 125, 126, 127, 128, 129, 130, 131, 132, 133, 134, 135, 136]
set_option maxRecDepth 1000000 in
theorem stP_eq : stI.filterMap (fun i => (flatC NN)[i]?) = stP := by decide +kernel
theorem stP_all {args : Array Value} {s : State} (h : NN.before args s = true) : ∀ c ∈ stP, c.before args s = true := by
  intro c hc
  rw [← stP_eq] at hc
  obtain ⟨i, -, hi⟩ := List.mem_filterMap.mp hc
  exact flat_of_before _ h c (List.mem_of_getElem? hi)
