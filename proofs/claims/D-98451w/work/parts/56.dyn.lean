/-! ===== new dynamic cells ===== -/
/-- one more dynamic cell -/
def newZ (z : Zt) (e : Cel) (sz : Nat) : Zt := (z.1, z.2.1, (fun k => if k = z.2.2.2.1 then some e else z.2.2.1 k), z.2.2.2.1 + 1, z.2.2.2.2 + sz)
theorem wnew_E {μ : Mu} {z : Zt} {e : Cel} {sz : Nat} (h : 554 ≤ z.2.2.2.1) : wnew (E μ z) e sz = E μ (newZ z e sz) := by
  refine Prod.ext ?_ rfl
  funext k
  show (if k = z.2.2.2.1 then some e else if 400 ≤ k ∧ k < 554 then celA k (μ k) (z.1 k) (z.2.1 k) else z.2.2.1 k) = if 400 ≤ k ∧ k < 554 then celA k (μ k) (z.1 k) (z.2.1 k) else if k = z.2.2.2.1 then some e else z.2.2.1 k
  by_cases h1 : k = z.2.2.2.1
  · rw [if_pos h1, if_neg (by omega), if_pos h1]
  · rw [if_neg h1, if_neg h1]
theorem newZ_at (z : Zt) (e : Cel) (sz : Nat) : (newZ z e sz).2.2.1 z.2.2.2.1 = some e := if_pos rfl
theorem newZ_ne {z : Zt} {e : Cel} {sz k : Nat} (h : k ≠ z.2.2.2.1) : (newZ z e sz).2.2.1 k = z.2.2.1 k := if_neg h
/-- a dynamic cell exchanged -/
def setD (z : Zt) (k : Nat) (e : Cel) : Zt := (z.1, z.2.1, (fun q => if q = k then some e else z.2.2.1 q), z.2.2.2)
theorem wst_D {μ : Mu} {z : Zt} {k : Nat} {e : Cel} (h : 554 ≤ k) : wst (E μ z) k e = E μ (setD z k e) := by
  refine Prod.ext ?_ rfl
  funext q
  show (if q = k then some e else if 400 ≤ q ∧ q < 554 then celA q (μ q) (z.1 q) (z.2.1 q) else z.2.2.1 q) = if 400 ≤ q ∧ q < 554 then celA q (μ q) (z.1 q) (z.2.1 q) else if q = k then some e else z.2.2.1 q
  by_cases h1 : q = k
  · rw [if_pos h1, if_neg (by omega), if_pos h1]
  · rw [if_neg h1, if_neg h1]
theorem setD_at (z : Zt) (k : Nat) (e : Cel) : (setD z k e).2.2.1 k = some e := if_pos rfl
theorem E_dyn {μ : Mu} {z : Zt} {k : Nat} (h : 554 ≤ k) : (E μ z).1 k = z.2.2.1 k := if_neg (by omega)
/-- storing into a dynamic array of ints -/
theorem ias_D {μ : Mu} {z : Zt} {k len n : Nat} {f : Nat → Int32} {i v : Int32} (hk : 554 ≤ k) (h : z.2.2.1 k = some (.inl (.int, len, .inl f))) (hi : i.toInt = (n : Int)) (hn : n < len) : ias (E μ z) (some k) i v = some (E μ (setD z k (.inl (.int, len, .inl (upd f n v))))) := by
  rw [ias_at (w := E μ z) (by rw [E_dyn hk]; exact h) (by omega) hi hn, wst_D hk]
/-- copying a dynamic array of ints into a fixed one -/
theorem copy_D {μ : Mu} {z : Zt} {k k' len len' : Nat} {f : Nat → Int32} (hk : 554 ≤ k) (h : z.2.2.1 k = some (.inl (.int, len, .inl f))) (h' : isI k' len') (hl : len ≤ len') (hl2 : len < 2 ^ 31) (hp' : k' < 554) : mX1_copy (some k) (some k') (E μ z) = some ((), E (setM μ k' (va_cpy f (μ k') 0 0 len)) z) := by
  have e : (E μ z).1 k = some (.inl (.int, len, .inl f)) := by rw [E_dyn hk]; exact h
  have hc := cl_of (tI hl2)
  unfold mX1_copy
  refine bind_step (a := Int32.ofNat len) ?_ ?_
  · unfold alen arr
    simp only [Option.bind_some, e]
  · refine bind_step (a := E (setM μ k' (va_cpy f (μ k') 0 0 len)) z) ?_ rfl
    unfold acpI arr
    simp only [Option.bind_some, e, E_at h'.1 hp', h'.2]
    rw [if_pos ⟨by simp, ⟨by show 400 ≤ k; omega, h'.1⟩, ⟨by decide, by decide, hc.1⟩, by rw [hc.2]; exact ⟨by show 0 + len ≤ len; omega, by show 0 + len ≤ len'; omega⟩⟩, hc.2]
    show some (wst (E μ z) k' (.inl (.int, len', .inl (va_cpy f (μ k') 0 0 len)))) = _
    rw [E_wst h'.1 hp' (f := va_cpy f (μ k') 0 0 len) (h'.2 _ _ _)]
