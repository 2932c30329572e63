/-! ===== heap rows: reading ===== -/
theorem EnvK.alike {K : Kx} {U : State} (h : EnvK K U) : (kS K).vm.Alike U.vm := h.1.alike
def ob (w : Wd) (r : Option Nat) (ci : Nat) : Option (List Value) := r.bind fun a => (w.1 a).bind fun e => match e with
  | .inr (c, fs) => if c = ci then some fs else none
  | .inl _ => none
theorem ob_spec {w : Wd} {r : Option Nat} {ci : Nat} {fs : List Value} (h : ob w r ci = some fs) : ∃ a, r = some a ∧ w.1 a = some (.inr (ci, fs)) := by
  unfold ob at h
  obtain ⟨a, ha, h1⟩ := Option.bind_eq_some_iff.mp h
  obtain ⟨e, he, h2⟩ := Option.bind_eq_some_iff.mp h1
  refine ⟨a, ha, ?_⟩
  rcases e with x | ⟨c, gs⟩
  · cases h2
  · dsimp only at h2
    by_cases hc : c = ci
    · rw [if_pos hc] at h2; have h3 := Option.some.inj h2; rw [← hc, ← h3]; exact he
    · rw [if_neg hc] at h2; cases h2
def vI (v : Option Value) : Option Int32 := match v with
  | some (.int x) => some x
  | _ => none
def vJ (v : Option Value) : Option Int64 := match v with
  | some (.long x) => some x
  | _ => none
def vR (v : Option Value) : Option (Option Nat) := match v with
  | some (.ref a) => some (some a)
  | some .null => some none
  | _ => none
theorem vI_spec {v : Option Value} {x : Int32} (h : vI v = some x) : v = some (.int x) := by
  rcases v with _ | v
  · cases h
  · cases v <;> simp [vI] at h; exact congrArg some (congrArg Value.int h)
theorem vJ_spec {v : Option Value} {x : Int64} (h : vJ v = some x) : v = some (.long x) := by
  rcases v with _ | v
  · cases h
  · cases v <;> simp [vJ] at h; exact congrArg some (congrArg Value.long h)
theorem vR_spec {v : Option Value} {x : Option Nat} (h : vR v = some x) : v = some (va_rf x) := by
  rcases v with _ | v
  · cases h
  · cases v <;> simp [vR] at h <;> subst h <;> rfl
def gI (w : Wd) (r : Option Nat) (ci k : Nat) : Option Int32 := (ob w r ci).bind fun fs => vI fs[k]?
def gJ (w : Wd) (r : Option Nat) (ci k : Nat) : Option Int64 := (ob w r ci).bind fun fs => vJ fs[k]?
def gR (w : Wd) (r : Option Nat) (ci k : Nat) : Option (Option Nat) := (ob w r ci).bind fun fs => vR fs[k]?
section VH
variable {β : Type} {y : Fx β} {own : String} {cc : ByteArray} {nL F L : Nat} {w : Wd} {lc : List (Nat × Value)} {st : List Value} {pc : Nat} {comp : Option β}
def GetL (y : Fx β) (own : String) (i : Nat) (ref n d : String) : Prop := (Cond.fieldLink own i ref n d).before (fargs y) (fs y) = true ∨ ∃ host, (Cond.fieldLinkNest own i ref n d host).before (fargs y) (fs y) = true
theorem getL (hk : OkF y own cc nL F L) {own' ref n d : String} {i : Nat} (hq : Cond.fieldLink own' i ref n d ∈ lw_all) : GetL y own' i ref n d := Or.inl (hk.2.2.2.2.2.1 _ hq)
theorem getLN (hk : OkF y own cc nL F L) {own' ref n d host : String} {i : Nat} (hq : Cond.fieldLinkNest own' i ref n d host ∈ lw_tbl) : GetL y own' i ref n d := by
  refine Or.inr ⟨host, ?_⟩
  obtain ⟨A0, h⟩ := hk.2.2.2.2.2.2.2.1.2.2.2.1
  exact va_Nw.use rfl ((va_Nw.of rfl (h _ hq)).warmF hk.2.2.2.2.2.2.1.1)
theorem V_getG (hk : OkF y own cc nL F L) {a ci k i : Nat} {fs' : List Value} {v : Value} {ref : String} (C : vw_C) (hc : vwAll[ci]? = some C) (hkN : k < C.2.2) (hL : GetL y own i ref (C.2.1 k).2.1 (C.2.1 k).2.2.1)
    (hsame : ∀ x, (fs y).fieldFound? (C.2.1 k).1 (C.2.1 k).2.1 (C.2.1 k).2.2.1 = some x → (fs y).fieldFound? ref (C.2.1 k).2.1 (C.2.1 k).2.2.1 = some x) (hd : decode cc pc = .ok (.getfield i, 3)) (ha : w.1 a = some (.inr (ci, fs'))) (hv : fs'[k]? = some v) (kk : V y w lc (v :: st) (pc + 3) comp) : V y w lc (va_rf (some a) :: st) pc comp := by
  intro r hr
  obtain ⟨h1, h2⟩ := kk r hr
  refine ⟨h1, fun H locs ls hp hl => ?_⟩
  have h3 := h2 H locs ls hp hl
  obtain ⟨cell, c1, c2, c3, C', c4, c5, c6⟩ := hp.2.2.2.2.1.wk hk.2.2.2.2.2.2.2.1 ha
  have hC : C' = C := Option.some.inj (c4.symm.trans hc)
  subst hC
  obtain ⟨sl, hF, hs⟩ := c6 k hkN
  obtain ⟨cf, kf, fi, fd, f1, f2, f3⟩ := hF.moved (EnvK.alike hk.2.2.2.2.2.2.1)
  have hslot : cell.slots[fd.slot]? = some (cv (kL (fK y)) v) := by
    rw [f2, hs]
    simp [vp_V, List.getD, hv]
  rcases hL with hL | ⟨host, hL⟩
  · exact W.getf hk.1 hk.2.1 hk.2.2.2.2.1 hL (hsame _ f1) f3 c1 c2 hslot rfl rfl hd h3
  · exact va_Wgetf hk.1 hk.2.1 hk.2.2.2.2.1 hL (hsame _ f1) f3 c1 c2 hslot rfl rfl hd h3
theorem V_getI (hk : OkF y own cc nL F L) {r : Option Nat} {ci k i : Nat} {ref : String} {kc : Int32 → Option β} (C : vw_C) (hc : vwAll[ci]? = some C) (hkN : k < C.2.2) (hL : GetL y own i ref (C.2.1 k).2.1 (C.2.1 k).2.2.1)
    (hsame : ∀ x, (fs y).fieldFound? (C.2.1 k).1 (C.2.1 k).2.1 (C.2.1 k).2.2.1 = some x → (fs y).fieldFound? ref (C.2.1 k).2.1 (C.2.1 k).2.2.1 = some x) (hd : decode cc pc = .ok (.getfield i, 3)) (kk : ∀ v, V y w lc (.int v :: st) (pc + 3) (kc v)) : V y w lc (va_rf r :: st) pc ((gI w r ci k).bind kc) := by
  refine V_bind fun v hv => ?_
  obtain ⟨fs', h1, h2⟩ := Option.bind_eq_some_iff.mp hv
  obtain ⟨a, rfl, h3⟩ := ob_spec h1
  exact V_getG hk C hc hkN hL hsame hd h3 (vI_spec h2) (kk v)
theorem V_getJ (hk : OkF y own cc nL F L) {r : Option Nat} {ci k i : Nat} {ref : String} {kc : Int64 → Option β} (C : vw_C) (hc : vwAll[ci]? = some C) (hkN : k < C.2.2) (hL : GetL y own i ref (C.2.1 k).2.1 (C.2.1 k).2.2.1)
    (hsame : ∀ x, (fs y).fieldFound? (C.2.1 k).1 (C.2.1 k).2.1 (C.2.1 k).2.2.1 = some x → (fs y).fieldFound? ref (C.2.1 k).2.1 (C.2.1 k).2.2.1 = some x) (hd : decode cc pc = .ok (.getfield i, 3)) (kk : ∀ v, V y w lc (.long v :: st) (pc + 3) (kc v)) : V y w lc (va_rf r :: st) pc ((gJ w r ci k).bind kc) := by
  refine V_bind fun v hv => ?_
  obtain ⟨fs', h1, h2⟩ := Option.bind_eq_some_iff.mp hv
  obtain ⟨a, rfl, h3⟩ := ob_spec h1
  exact V_getG hk C hc hkN hL hsame hd h3 (vJ_spec h2) (kk v)
theorem V_getR (hk : OkF y own cc nL F L) {r : Option Nat} {ci k i : Nat} {ref : String} {kc : Option Nat → Option β} (C : vw_C) (hc : vwAll[ci]? = some C) (hkN : k < C.2.2) (hL : GetL y own i ref (C.2.1 k).2.1 (C.2.1 k).2.2.1)
    (hsame : ∀ x, (fs y).fieldFound? (C.2.1 k).1 (C.2.1 k).2.1 (C.2.1 k).2.2.1 = some x → (fs y).fieldFound? ref (C.2.1 k).2.1 (C.2.1 k).2.2.1 = some x) (hd : decode cc pc = .ok (.getfield i, 3)) (kk : ∀ v, V y w lc (va_rf v :: st) (pc + 3) (kc v)) : V y w lc (va_rf r :: st) pc ((gR w r ci k).bind kc) := by
  refine V_bind fun v hv => ?_
  obtain ⟨fs', h1, h2⟩ := Option.bind_eq_some_iff.mp hv
  obtain ⟨a, rfl, h3⟩ := ob_spec h1
  exact V_getG hk C hc hkN hL hsame hd h3 (vR_spec h2) (kk v)
end VH
def arr (w : Wd) (r : Option Nat) : Option (FieldType × vp_A) := r.bind fun a => (w.1 a).bind fun e => match e with
  | .inl x => some x
  | .inr _ => none
theorem arr_spec {w : Wd} {r : Option Nat} {x : FieldType × vp_A} (h : arr w r = some x) : ∃ a, r = some a ∧ w.1 a = some (.inl x) := by
  unfold arr at h
  obtain ⟨a, ha, h⟩ := Option.bind_eq_some_iff.mp h
  obtain ⟨e, he, h⟩ := Option.bind_eq_some_iff.mp h
  refine ⟨a, ha, ?_⟩
  rcases e with x | ⟨c, gs⟩
  · cases h; exact he
  · cases h
def asI (x : (Nat → Int32) ⊕ (Nat → Int64) ⊕ (Nat → UInt32) ⊕ (Nat → UInt64) ⊕ (Nat → Option Nat)) : Option (Nat → Int32) := match x with
  | .inl f => some f
  | _ => none
def asJ (x : (Nat → Int32) ⊕ (Nat → Int64) ⊕ (Nat → UInt32) ⊕ (Nat → UInt64) ⊕ (Nat → Option Nat)) : Option (Nat → Int64) := match x with
  | .inr (.inl f) => some f
  | _ => none
def asR (x : (Nat → Int32) ⊕ (Nat → Int64) ⊕ (Nat → UInt32) ⊕ (Nat → UInt64) ⊕ (Nat → Option Nat)) : Option (Nat → Option Nat) := match x with
  | .inr (.inr (.inr (.inr f))) => some f
  | _ => none
theorem asI_spec {x} {f} (h : asI x = some f) : x = .inl f := by rcases x with f | f | f | f | f <;> simp [asI] at h; rw [h]
theorem asJ_spec {x} {f} (h : asJ x = some f) : x = .inr (.inl f) := by rcases x with f | f | f | f | f <;> simp [asJ] at h; rw [h]
theorem asR_spec {x} {f} (h : asR x = some f) : x = .inr (.inr (.inr (.inr f))) := by rcases x with f | f | f | f | f <;> simp [asR] at h; rw [h]
/-- an index out of an array's range -/
def outI (i : Int32) (n : Nat) : Prop := i < 0 ∨ n ≤ i.toNatClampNeg
noncomputable def ia (w : Wd) (r : Option Nat) (i : Int32) : Option Int32 := (arr w r).bind fun x => if x.1 = .int ∧ ¬ (i < 0 ∨ x.2.1 ≤ i.toNatClampNeg) then (asI x.2.2).map fun f => f i.toNatClampNeg else none
noncomputable def ba (w : Wd) (r : Option Nat) (i : Int32) : Option Int32 := (arr w r).bind fun x => if (x.1 = .byte ∨ x.1 = .boolean) ∧ ¬ (i < 0 ∨ x.2.1 ≤ i.toNatClampNeg) then (asI x.2.2).map fun f => f i.toNatClampNeg else none
noncomputable def la (w : Wd) (r : Option Nat) (i : Int32) : Option Int64 := (arr w r).bind fun x => if x.1 = .long ∧ ¬ (i < 0 ∨ x.2.1 ≤ i.toNatClampNeg) then (asJ x.2.2).map fun f => f i.toNatClampNeg else none
noncomputable def aa (w : Wd) (r : Option Nat) (i : Int32) : Option (Option Nat) := (arr w r).bind fun x => if x.1.isReference = true ∧ ¬ (i < 0 ∨ x.2.1 ≤ i.toNatClampNeg) then (asR x.2.2).map fun f => f i.toNatClampNeg else none
def alen (w : Wd) (r : Option Nat) : Option Int32 := (arr w r).bind fun x => some (Int32.ofNat x.2.1)
section VA
variable {β : Type} {y : Fx β} {own : String} {cc : ByteArray} {nL F L : Nat} {w : Wd} {lc : List (Nat × Value)} {st : List Value} {pc : Nat} {comp : Option β}
theorem arr_cell (hk : OkF y own cc nL F L) {H : Heap} (h : HP (fK y) w H) {a : Nat} {x : FieldType × vp_A} (ha : w.1 a = some (.inl x)) : ∃ cell : Cell, H[kL (fK y) a]? = some cell ∧ cell.vm ≠ .unknown ∧ (fs y).isArrayOf cell x.1 ∧ cell.slots.size = x.2.1 ∧ ∀ j, j < x.2.1 → cell.slots[j]? = some (vAr (kL (fK y)) x.2 j) := by
  obtain ⟨cell, c1, c2, c3, c4, c5, c6⟩ := h.wk hk.2.2.2.2.2.2.2.1 ha
  exact ⟨cell, c1, c2, State.isArrayOf_alike (EnvK.alike hk.2.2.2.2.2.2.1) c4, c5, c6⟩
theorem notin {i : Int32} {n : Nat} (h : ¬ (i < 0 ∨ n ≤ i.toNatClampNeg)) : i.toNatClampNeg < n := Nat.lt_of_not_le fun q => h (Or.inr q)
/-- the frame of the reading rows of arrays -/
theorem V_ldG (hk : OkF y own cc nL F L) {a : Nat} {x : FieldType × vp_A} {v : Value} {i : Int32} {pc' : Nat} (ha : w.1 a = some (.inl x)) (hi : ¬ (i < 0 ∨ x.2.1 ≤ i.toNatClampNeg)) (hv : vAr (kL (fK y)) x.2 i.toNatClampNeg = cv (kL (fK y)) v)
    (hgo : ∀ (r : β) (H : Heap) (locs : List Loc) (ls : Array Slot) (cell : Cell), H[kL (fK y) a]? = some cell → cell.vm ≠ .unknown → (fs y).isArrayOf cell x.1 → ¬ (i < 0 ∨ cell.slots.size ≤ i.toNatClampNeg) → cell.slots[i.toNatClampNeg]? = some (cv (kL (fK y)) v) → WV y r H locs w (F0 (fm y) pc' ls (cvs (fK y) (v :: st))) → WV y r H locs w (F0 (fm y) pc ls (cvs (fK y) (.int i :: va_rf (some a) :: st))))
    (kk : V y w lc (v :: st) pc' comp) : V y w lc (.int i :: va_rf (some a) :: st) pc comp := by
  intro r hr
  obtain ⟨h1, h2⟩ := kk r hr
  refine ⟨h1, fun H locs ls hp hl => ?_⟩
  obtain ⟨cell, c1, c2, c4, c5, c6⟩ := arr_cell hk hp.2.2.2.2.1 ha
  exact hgo r H locs ls cell c1 c2 c4 (by rw [c5]; exact hi) (by rw [c6 _ (notin hi), hv]) (h2 H locs ls hp hl)
theorem V_iaload (hk : OkF y own cc nL F L) {r : Option Nat} {i : Int32} {kc : Int32 → Option β} (hd : decode cc pc = .ok (.iaload, 1)) (kk : ∀ v, V y w lc (.int v :: st) (pc + 1) (kc v)) : V y w lc (.int i :: va_rf r :: st) pc ((ia w r i).bind kc) := by
  refine V_bind fun v hv => ?_
  obtain ⟨x, h1, h2⟩ := Option.bind_eq_some_iff.mp hv
  obtain ⟨a, rfl, h3⟩ := arr_spec h1
  split at h2
  · rename_i hc
    obtain ⟨f, h4, h5⟩ := Option.map_eq_some_iff.mp h2
    obtain ⟨ty, n, g⟩ := x
    have h6 := asI_spec h4
    dsimp only at h6 hc
    subst h6
    obtain ⟨rfl, hc⟩ := hc
    refine V_ldG hk h3 hc (v := .int v) (by rw [← h5]; rfl) (fun r H locs ls cell c1 c2 c3 c4 c5 k => ?_) (kk v)
    exact W.iald hk.1 hk.2.1 c1 c3 c2 c4 c5 rfl rfl hd k
  · cases h2
theorem V_baload (hk : OkF y own cc nL F L) {r : Option Nat} {i : Int32} {kc : Int32 → Option β} (hd : decode cc pc = .ok (.baload, 1)) (kk : ∀ v, V y w lc (.int v :: st) (pc + 1) (kc v)) : V y w lc (.int i :: va_rf r :: st) pc ((ba w r i).bind kc) := by
  refine V_bind fun v hv => ?_
  obtain ⟨x, h1, h2⟩ := Option.bind_eq_some_iff.mp hv
  obtain ⟨a, rfl, h3⟩ := arr_spec h1
  split at h2
  · rename_i hc
    obtain ⟨f, h4, h5⟩ := Option.map_eq_some_iff.mp h2
    obtain ⟨ty, n, g⟩ := x
    have h6 := asI_spec h4
    dsimp only at h6 hc
    subst h6
    obtain ⟨ht, hc⟩ := hc
    refine V_ldG hk h3 hc (v := .int v) (by rw [← h5]; rfl) (fun r H locs ls cell c1 c2 c3 c4 c5 k => ?_) (kk v)
    rcases ht with rfl | rfl
    · exact W.bald hk.1 hk.2.1 c1 c3 c2 c4 c5 rfl rfl hd k
    · exact W.zald hk.1 hk.2.1 c1 c3 c2 c4 c5 rfl rfl hd k
  · cases h2
theorem V_laload (hk : OkF y own cc nL F L) {r : Option Nat} {i : Int32} {kc : Int64 → Option β} (hd : decode cc pc = .ok (.laload, 1)) (kk : ∀ v, V y w lc (.long v :: st) (pc + 1) (kc v)) : V y w lc (.int i :: va_rf r :: st) pc ((la w r i).bind kc) := by
  refine V_bind fun v hv => ?_
  obtain ⟨x, h1, h2⟩ := Option.bind_eq_some_iff.mp hv
  obtain ⟨a, rfl, h3⟩ := arr_spec h1
  split at h2
  · rename_i hc
    obtain ⟨f, h4, h5⟩ := Option.map_eq_some_iff.mp h2
    obtain ⟨ty, n, g⟩ := x
    have h6 := asJ_spec h4
    dsimp only at h6 hc
    subst h6
    obtain ⟨rfl, hc⟩ := hc
    refine V_ldG hk h3 hc (v := .long v) (by rw [← h5]; rfl) (fun r H locs ls cell c1 c2 c3 c4 c5 k => ?_) (kk v)
    exact W.lald hk.1 hk.2.1 c1 c3 c2 c4 c5 rfl rfl hd k
  · cases h2
theorem V_aaload (hk : OkF y own cc nL F L) {r : Option Nat} {i : Int32} {kc : Option Nat → Option β} (hd : decode cc pc = .ok (.aaload, 1)) (kk : ∀ v, V y w lc (va_rf v :: st) (pc + 1) (kc v)) : V y w lc (.int i :: va_rf r :: st) pc ((aa w r i).bind kc) := by
  refine V_bind fun v hv => ?_
  obtain ⟨x, h1, h2⟩ := Option.bind_eq_some_iff.mp hv
  obtain ⟨a, rfl, h3⟩ := arr_spec h1
  split at h2
  · rename_i hc
    obtain ⟨f, h4, h5⟩ := Option.map_eq_some_iff.mp h2
    obtain ⟨ty, n, g⟩ := x
    have h6 := asR_spec h4
    dsimp only at h6 hc
    subst h6
    obtain ⟨ht, hc⟩ := hc
    refine V_ldG hk h3 hc (v := va_rf v) (by rw [← h5, cv_rf]; rfl) (fun r H locs ls cell c1 c2 c3 c4 c5 k => ?_) (kk v)
    exact W.aald hk.1 hk.2.1 c1 c3 ht c2 c4 c5 rfl rfl hd k
  · cases h2
theorem V_alen (hk : OkF y own cc nL F L) {r : Option Nat} {kc : Int32 → Option β} (hd : decode cc pc = .ok (.arraylength, 1)) (kk : ∀ v, V y w lc (.int v :: st) (pc + 1) (kc v)) : V y w lc (va_rf r :: st) pc ((alen w r).bind kc) := by
  refine V_bind fun v hv => ?_
  obtain ⟨x, h1, h2⟩ := Option.bind_eq_some_iff.mp hv
  obtain ⟨a, rfl, h3⟩ := arr_spec h1
  cases h2
  intro r hr
  obtain ⟨h1, h2⟩ := kk _ r hr
  refine ⟨h1, fun H locs ls hp hl => ?_⟩
  obtain ⟨cell, c1, c2, c4, c5, c6⟩ := arr_cell hk hp.2.2.2.2.1 h3
  exact W.alen hk.1 hk.2.1 c1 c4 (by rw [c5]) rfl rfl hd (h2 H locs ls hp hl)
end VA
