/-! ===== heap rows: writing ===== -/
theorem hK_at {K : Kx} {U : State} (hI : Ini K) (h : EnvK K U) : va_K (kD K) vwCl (ktys K) U := hI.1.moved h.alike
theorem va_S_put {A : Nat → Prop} {H0 H H1 : Heap} {locs : List Loc} {a k : Nat} (h : va_S A H0 H locs) (z : H1.size = H.size) (oq : ∀ q : Nat, q ≠ a → H1[q]? = H[q]?) (ha : A a) : va_S A H0 H1 (locs ++ [⟨a, k⟩]) := h.put z oq ha
theorem Afr_lab {K : Kx} (hI : Ini K) {k : Nat} (h : nOld ≤ k) : Afr K (kL K k) := by
  show (kS K).heap.size ≤ kL K k
  rw [hI.2.1 k h]
  exact Nat.le_add_right _ _
def PutOk (ty : FieldType) (v : Value) : Prop := ∀ al : Nat → Nat, narrow ty (cv al v) = cv al v ∧ fits ty (cv al v) = true
theorem putI (x : Int32) : PutOk .int (.int x) := fun _ => ⟨rfl, rfl⟩
theorem putJ (x : Int64) : PutOk .long (.long x) := fun _ => ⟨rfl, rfl⟩
theorem putO (c : String) (r : Option Nat) : PutOk (.object c) (va_rf r) := fun al => by cases r <;> exact ⟨rfl, rfl⟩
theorem putA (c : FieldType) (r : Option Nat) : PutOk (.array c) (va_rf r) := fun al => by cases r <;> exact ⟨rfl, rfl⟩
theorem putZ (x : Int32) (h : x = 0 ∨ x = 1) : PutOk .boolean (.int x) := fun _ => by
  rcases h with rfl | rfl
  · exact ⟨congrArg Value.int (show (0 : Int32) &&& 1 = 0 by decide +kernel), rfl⟩
  · exact ⟨congrArg Value.int (show (1 : Int32) &&& 1 = 1 by decide +kernel), rfl⟩
def pf (w : Wd) (r : Option Nat) (ci k : Nat) (v : Value) : Option Wd := (ob w r ci).bind fun fs' => r.bind fun a => if nOld ≤ a ∧ k < fs'.length then some (wst w a (.inr (ci, fs'.set k v))) else none
section VP
variable {β : Type} {y : Fx β} {own : String} {cc : ByteArray} {nL F L : Nat} {w : Wd} {lc : List (Nat × Value)} {st : List Value} {pc : Nat} {comp : Option β}
/-- how a field may be written: not final (by a link, or by a nest mate's), or final by its own constructor -/
def PutL (y : Fx β) (own : String) (i : Nat) (ref o n d : String) (fin : Bool) : Prop :=
  (fin = false ∧ (Cond.fieldLink own i ref n d).before (fargs y) (fs y) = true) ∨ (fin = true ∧ (fmeth y).name = "<init>" ∧ o = own ∧ (Cond.fieldLink own i ref n d).before (fargs y) (fs y) = true) ∨ (fin = false ∧ ∃ host, (Cond.fieldLinkNest own i ref n d host).before (fargs y) (fs y) = true)
theorem putL (hk : OkF y own cc nL F L) {own' ref o n d : String} {i : Nat} (hq : Cond.fieldLink own' i ref n d ∈ lw_all) : PutL y own' i ref o n d false := Or.inl ⟨rfl, hk.2.2.2.2.2.1 _ hq⟩
theorem putLF (hk : OkF y own cc nL F L) {ref n d : String} {i : Nat} (hin : (fmeth y).name = "<init>") (hq : Cond.fieldLink own i ref n d ∈ lw_all) : PutL y own i ref own n d true := Or.inr (Or.inl ⟨rfl, hin, rfl, hk.2.2.2.2.2.1 _ hq⟩)
theorem putLN (hk : OkF y own cc nL F L) {own' ref o n d host : String} {i : Nat} (hq : Cond.fieldLinkNest own' i ref n d host ∈ lw_tbl) : PutL y own' i ref o n d false := by
  refine Or.inr (Or.inr ⟨rfl, host, ?_⟩)
  obtain ⟨A0, h⟩ := hk.2.2.2.2.2.2.2.1.2.2.2.1
  exact va_Nw.use rfl ((va_Nw.of rfl (h _ hq)).warmF hk.2.2.2.2.2.2.1.1)
theorem pf_spec {w w' : Wd} {r : Option Nat} {ci k : Nat} {v : Value} (h : pf w r ci k v = some w') : ∃ a fs', r = some a ∧ w.1 a = some (.inr (ci, fs')) ∧ nOld ≤ a ∧ k < fs'.length ∧ w' = wst w a (.inr (ci, fs'.set k v)) := by
  unfold pf at h
  obtain ⟨fs', h1, h2⟩ := Option.bind_eq_some_iff.mp h
  obtain ⟨a, h3, h4⟩ := Option.bind_eq_some_iff.mp h2
  obtain ⟨a', h5, h6⟩ := ob_spec h1
  subst h3
  cases h5
  split at h4
  · rename_i hc
    exact ⟨a, fs', rfl, h6, hc.1, hc.2, (Option.some.inj h4).symm⟩
  · cases h4
theorem V_put (hk : OkF y own cc nL F L) {r : Option Nat} {ci k i N : Nat} {v : Value} {ref C : String} {T : u_T} {kc : Wd → Option β} (ty0 : Nat → FieldType) (hty : ∀ k, k < N → parseFieldDescriptor (T k).2.2.1 = some (ty0 k)) (hnm : ∀ a, a < N → ∀ b, b < N → a ≠ b → (T a).2.1 ≠ (T b).2.1) (hc : vwCl[ci]? = some (C, T, N)) (hkN : k < N) (hL : PutL y own i ref (T k).1 (T k).2.1 (T k).2.2.1 (T k).2.2.2)
    (hsame : ∀ x, (fs y).fieldFound? (T k).1 (T k).2.1 (T k).2.2.1 = some x → (fs y).fieldFound? ref (T k).2.1 (T k).2.2.1 = some x) (hv : PutOk (ty0 k) v) (hd : decode cc pc = .ok (.putfield i, 3)) (kk : ∀ w', V y w' lc st (pc + 3) (kc w')) : V y w lc (v :: va_rf r :: st) pc ((pf w r ci k v).bind kc) := by
  refine V_bind fun w' hw' => ?_
  obtain ⟨a, fs', rfl, ha, hn, hl, rfl⟩ := pf_spec hw'
  have hI := hk.2.2.2.2.2.2.2.1
  have hE := hk.2.2.2.2.2.2.1
  have hts := hk.2.2.2.2.2.1
  have hown := hk.2.2.2.2.1
  have hK := hK_at hI hE
  have hin := lays_all ci _ hc
  intro r hr
  obtain ⟨h1, h2⟩ := kk _ r hr
  refine ⟨h1, fun H locs ls hp hls => ?_⟩
  obtain ⟨p1, p2, p3, p4, hH, hS⟩ := hp
  have hap := va_apart (own := own) hts hin ty0 hty hnm hK hc
  obtain ⟨-, hat, cellm, hm1, hm2⟩ := (hH.2.2 a _ ha).2.2 hn
  obtain ⟨r9, g1, cell, q1, q2, q3, q4⟩ := hat
  have hr9 : r9 = (C, T, N) := Option.some.inj (g1.symm.trans hc)
  subst hr9
  obtain ⟨hS9, hfc, kC, hkC, hkind⟩ := hK.1 ci _ hc
  obtain ⟨cf, kf, fi, f, hi, hsl⟩ := hS9 k hkN
  have hlay := hts _ (hin _ (u_in_lay hkN))
  have hst := (u_facts hfc hkC (u_lays hts hin hkN) hi).1
  have hfin : ∀ H' : Heap, H'[kL (fK y) a]? = some (cell.setSlot f.slot (cv (kL (fK y)) v)) → H'.size = H.size → (∀ q, q ≠ kL (fK y) a → H'[q]? = H[q]?) → WV y r H' (locs ++ [⟨kL (fK y) a, f.slot⟩]) w (F0 (fm y) (pc + 3) ls (cvs (fK y) st)) := by
    intro H' e1 e2 e3
    rw [hsl] at e1 ⊢
    refine h2 H' _ ls ⟨p1, p2, p3, p4, ?_, hS.put e2 e3 (Afr_lab hI hn)⟩ hls
    have hcm : cellm = cell := Option.some.inj (hm1.symm.trans q1)
    refine hH.set hI ha hn (show ci < 18 from (List.getElem?_eq_some_iff.mp hc).1) e2 e3 ⟨_, hc, ?_⟩ ⟨_, e1, by rw [← hcm]; exact hm2.1, by rw [← hcm]; exact hm2.2.1, fun kC9 hkC9 => by rw [← hcm] at hkC9 ⊢; simp only [Cell.setSlot, Array.size_setIfInBounds]; exact hm2.2.2 kC9 hkC9⟩
    refine t_OB.to (V := updV (vp_V (fs'.map (cv (kL (fK y))))) k (cv (kL (fK y)) v)) ⟨_, e1, q2, q3, t_set q4 hap hkN _⟩ (fun j _ => ?_)
    rw [vp_updV_set (by rw [List.length_map]; exact hl), List.map_set]
  have hslot : f.slot < cell.slots.size := by rw [hsl]; exact k2_hasslot (q4 k hkN)
  rcases hL with ⟨hf, hL⟩ | ⟨hf, hin9, ho, hL⟩ | ⟨hf, host, hL⟩
  · unfold u_lay at hlay
    rw [if_neg (by rw [hf]; decide)] at hlay
    have h6 := u_store hfc hkC hkind hlay hi (hty k hkN) (hv (kL (fK y))).1 (hv (kL (fK y))).2
    exact W.putK hk.1 hk.2.1 (f := f) ⟨hown, hL, ⟨_, _, _, hsame _ hi⟩, hst⟩ (by rw [q2]; exact h6) q1 q3 hslot rfl rfl hd hfin
  · unfold u_lay at hlay
    rw [if_pos hf] at hlay
    have hcf : (fm y).cls = cf := by
      obtain ⟨_, _, c', _, _, _, -, -, hf', -, -, -, hown2, -⟩ := Cond.laysFinal_spec hlay
      have e1 : c' = cf := by have := hi.symm.trans hf'; simp at this; exact this.1.symm
      rw [ho] at hown2
      rw [← e1]; exact Option.some.inj (hown.symm.trans hown2)
    have h6 := u_fits hfc hkC hkind (Or.inr hlay) hi (hty k hkN) (hv (kL (fK y))).1 (hv (kL (fK y))).2
    exact W.putFinK hk.1 hk.2.1 hown hL (hsame _ hi) hst hcf hin9 (by rw [q2]; exact h6) q1 q3 hslot rfl rfl hd hfin
  · unfold u_lay at hlay
    rw [if_neg (by rw [hf]; decide)] at hlay
    have h6 := u_store hfc hkC hkind hlay hi (hty k hkN) (hv (kL (fK y))).1 (hv (kL (fK y))).2
    exact va_WputK hk.1 hk.2.1 (f := f) hown hL (hsame _ hi) hst (by rw [q2]; exact h6) q1 q3 hslot rfl rfl hd hfin
end VP
/-- a boolean's field takes 0 and 1 alone -/
def zok (x : Int32) : Option Unit := if x = 0 ∨ x = 1 then some () else none
