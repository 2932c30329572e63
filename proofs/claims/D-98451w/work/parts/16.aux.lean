/-! ===== what the printed walks use ===== -/
def FU : Nat := 100000
section VX
variable {β : Type} {y : Fx β} {w : Wd} {lc : List (Nat × Value)} {st : List Value} {pc : Nat}
theorem V_nmI {x : Int32} {k : Int32 → Option β} (kk : ∀ z, V y w lc (.int z :: st) pc (k z)) : V y w lc (.int x :: st) pc ((some x).bind k) := kk x
theorem V_nmJ {x : Int64} {k : Int64 → Option β} (kk : ∀ z, V y w lc (.long z :: st) pc (k z)) : V y w lc (.long x :: st) pc ((some x).bind k) := kk x
end VX
theorem tbl_out {x : Int32} (lo hi : Int) (h : ∀ k : Int, lo ≤ k → k ≤ hi → ¬ x = Int32.ofInt k) : x.toInt < lo ∨ hi < x.toInt := by
  rcases Int.lt_or_le x.toInt lo with h1 | h1
  · exact Or.inl h1
  · rcases Int.lt_or_le hi x.toInt with h2 | h2
    · exact Or.inr h2
    · exact absurd (Int32.ofInt_toInt x).symm (h x.toInt h1 h2)
theorem i32ne {x v : Int32} (h : ¬ x = v) : ¬ x.toInt = v.toInt := fun q => h (Int32.toInt_inj.mp q)
theorem lg_sl_len : ∀ vs : List Value, (∀ v ∈ vs, v.category = 1 ∨ v.category = 2) → (lg_sl vs).length = (vs.map fun v => v.category).sum
  | [], _ => rfl
  | v :: vs, h => by
    have ih := lg_sl_len vs (fun u hu => h u (List.mem_cons_of_mem _ hu))
    have e : lg_sl (v :: vs) = (if v.category = 2 then [.val v, .second] else [.val v]) ++ lg_sl vs := rfl
    rw [e, List.length_append, ih, List.map_cons, List.sum_cons]
    rcases h v List.mem_cons_self with h1 | h1 <;> simp [h1]
theorem lg_len {K : Kx} (av : List Value) (n : Nat) (h : (av.map fun v => v.category).sum ≤ n) : (lg_sl (cvs K av)).length ≤ n := by
  rw [lg_sl_len _ (fun v _ => lv_cat v), cvs_cat]
  exact h
theorem cat_int (x : Int32) : (Value.int x).category = 1 := rfl
theorem cat_long (x : Int64) : (Value.long x).category = 2 := rfl
theorem cat_ref (x : Nat) : (Value.ref x).category = 1 := rfl
theorem i32ne2 {x v : Int32} {k : Int} (h : ¬ x = v) (hk : v.toInt = k) : ¬ k = x.toInt := fun q => h (Int32.toInt_inj.mp (q.symm.trans hk.symm))
