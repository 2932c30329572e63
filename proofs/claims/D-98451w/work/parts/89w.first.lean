/-! ===== first: rows of orders, in plain numbers ===== -/
def lexU (m : Nat) : Nat → Nat → List (List Nat)
  | 0, _ => [[]]
  | e + 1, u => (List.range' 0 m).flatMap (fun i => if u / 2 ^ i % 2 = 1 then [] else (lexU m e (u + 2 ^ i)).map (fun r => i :: r))
theorem lexU_in {m : Nat} : ∀ e u r, r ∈ lexU m e u → r.length = e ∧ ∀ j, j < e → gA r j < m := by
  intro e
  induction e with
  | zero =>
    intro u r h
    have : r = [] := by simpa [lexU] using h
    subst this
    exact ⟨rfl, fun j hj => absurd hj (Nat.not_lt_zero _)⟩
  | succ e ih =>
    intro u r h
    unfold lexU at h
    obtain ⟨i, hi, h2⟩ := List.mem_flatMap.mp h
    split at h2
    · cases h2
    · obtain ⟨r', h3, rfl⟩ := List.mem_map.mp h2
      obtain ⟨l1, l2⟩ := ih _ _ h3
      refine ⟨by rw [List.length_cons, l1], fun j hj => ?_⟩
      have him : i < m := by
        have := List.mem_range'.mp hi
        omega
      cases j with
      | zero => exact him
      | succ j => exact l2 j (by omega)
/-- the next row, as the model finds it -/
def pvN (r : Nat → Nat) : Nat → Nat
  | 0 => 0
  | p + 1 => if r (p + 1) < r p then pvN r p else p + 1
def fdN (r : Nat → Nat) (x : Nat) : Nat → Nat
  | 0 => 0
  | k + 1 => if r (k + 1) < x then fdN r x k else k + 1
def swp (r : Nat → Nat) (a b : Nat) : Nat → Nat := fun j => if j = b then r a else if j = a then r b else r j
def rvN : Nat → Nat → Nat → (Nat → Nat) → (Nat → Nat)
  | 0, _, _, r => r
  | f + 1, x, y, r => if x < y then rvN f (x + 1) (y - 1) (swp r x y) else r
def nxN (m : Nat) (r : Nat → Nat) : Option (Nat → Nat) :=
  if pvN r (m - 1) = 0 then none else some (rvN 8 (pvN r (m - 1)) (m - 1) (swp r (pvN r (m - 1) - 1) (fdN r (r (pvN r (m - 1) - 1)) (m - 1))))
def chkL (m : Nat) : List (List Nat) → Bool
  | [] => true
  | a :: l => (match l with
    | [] => (nxN m (gA a)).isNone
    | b :: _ => match nxN m (gA a) with
      | none => false
      | some f => (List.range' 0 m).all (fun k => Nat.beq (f k) (gA b k))) && chkL m l
set_option maxRecDepth 100000 in
theorem chk_all : ∀ m : Fin 8, chkL m.val (lexU m.val m.val 0) = true := by decide +kernel
theorem lex_head : ∀ m : Fin 8, (lexU m.val m.val 0).head? = some (List.range' 0 m.val) := by decide +kernel
theorem lex_len : ∀ m : Fin 8, (lexU m.val m.val 0).length ≤ 5040 := by decide +kernel
