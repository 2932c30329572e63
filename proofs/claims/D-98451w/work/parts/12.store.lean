/-! ===== heap rows: storing into arrays, new cells ===== -/
noncomputable def ias (w : Wd) (r : Option Nat) (i v : Int32) : Option Wd := (arr w r).bind fun x => r.bind fun a => if x.1 = .int ∧ nOld ≤ a ∧ ¬ (i < 0 ∨ x.2.1 ≤ i.toNatClampNeg) then (asI x.2.2).map fun f => wst w a (.inl (.int, x.2.1, .inl (upd f i.toNatClampNeg v))) else none
noncomputable def bas (w : Wd) (r : Option Nat) (i v : Int32) : Option Wd := (arr w r).bind fun x => r.bind fun a => if (x.1 = .byte ∨ x.1 = .boolean) ∧ nOld ≤ a ∧ ¬ (i < 0 ∨ x.2.1 ≤ i.toNatClampNeg) then (asI x.2.2).map fun f => wst w a (.inl (x.1, x.2.1, .inl (upd f i.toNatClampNeg (vp_nar x.1 v)))) else none
noncomputable def las (w : Wd) (r : Option Nat) (i : Int32) (v : Int64) : Option Wd := (arr w r).bind fun x => r.bind fun a => if x.1 = .long ∧ nOld ≤ a ∧ ¬ (i < 0 ∨ x.2.1 ≤ i.toNatClampNeg) then (asJ x.2.2).map fun f => wst w a (.inl (.long, x.2.1, .inr (.inl (vp_updL f i.toNatClampNeg v)))) else none
/-- which array of references takes which class: by the tables' castable words -/
def cstl (ci : Nat) (e : String) : Prop := ∃ C : vw_C, vwCl[ci]? = some C ∧ (Cond.castable C.1 e ∈ lw_tbl ∨ C.1 = e)
/-- the class of an object -/
def cls (w : Wd) (a : Nat) : Option Nat := (w.1 a).bind fun e => match e with
  | .inr (c, _) => some c
  | .inl _ => none
theorem cls_spec {w : Wd} {a c : Nat} (h : cls w a = some c) : ∃ fs, w.1 a = some (.inr (c, fs)) := by
  unfold cls at h
  obtain ⟨e, he, h2⟩ := Option.bind_eq_some_iff.mp h
  rcases e with x | ⟨c', gs⟩
  · cases h2
  · cases h2; exact ⟨gs, he⟩
noncomputable def aas (w : Wd) (l : List Nat) (e : String) (r : Option Nat) (i : Int32) (v : Option Nat) : Option Wd := (arr w r).bind fun x => r.bind fun a => v.bind fun b => (cls w b).bind fun c => if x.1 = .object e ∧ x.1 ∈ tysL ∧ nOld ≤ a ∧ c ∈ l ∧ ¬ (i < 0 ∨ x.2.1 ≤ i.toNatClampNeg) then (asR x.2.2).map fun f => wst w a (.inl (x.1, x.2.1, .inr (.inr (.inr (.inr (va_up f i.toNatClampNeg (some b))))))) else none
theorem va_at_arr {K : Kx} {k : Nat} {x : FieldType × vp_A} {H : Heap} (h : va_at (kD K) vwCl (kL K k, cE K (.inl x)) H) : H[kL K k]? = some (arrV (kA K x.1) x.2.1 (vAr (kL K) x.2)) := by rw [← vp_cell_arrV]; exact h
theorem va_at_arr' {K : Kx} {q : Nat} {x : FieldType × vp_A} {H : Heap} (h : H[q]? = some (arrV (kA K x.1) x.2.1 (vAr (kL K) x.2))) : va_at (kD K) vwCl (q, cE K (.inl x)) H := by
  show H[q]? = some (vp_cell _ _)
  rw [vp_cell_arrV]
  exact h
section VS
variable {β : Type} {y : Fx β} {own : String} {cc : ByteArray} {nL F L : Nat} {w : Wd} {lc : List (Nat × Value)} {st : List Value} {pc : Nat} {comp : Option β}
/-- the frame of the storing rows of arrays -/
theorem V_stG (hk : OkF y own cc nL F L) {a j : Nat} {ty : FieldType} {n : Nat} {g g' : (Nat → Int32) ⊕ (Nat → Int64) ⊕ (Nat → UInt32) ⊕ (Nat → UInt64) ⊕ (Nat → Option Nat)} {v : Value} {sti : List Value} {pc' : Nat} (ha : w.1 a = some (.inl (ty, n, g))) (hn : nOld ≤ a)
    (hv : updV (vAr (kL (fK y)) (n, g)) j v = vAr (kL (fK y)) (n, g'))
    (hgo : ∀ (r : β) (H : Heap) (locs : List Loc) (ls : Array Slot) (cell : Cell), HP (fK y) w H → H[kL (fK y) a]? = some cell → cell.vm = .none → cell.cls = kA (fK y) ty → (fs y).isArrayOf cell ty → cell.slots.size = n → (∀ H' : Heap, H'[kL (fK y) a]? = some (cell.setSlot j v) → H'.size = H.size → (∀ q, q ≠ kL (fK y) a → H'[q]? = H[q]?) → WV y r H' (locs ++ [⟨kL (fK y) a, j⟩]) w (F0 (fm y) pc' ls (cvs (fK y) st))) → WV y r H locs w (F0 (fm y) pc ls (cvs (fK y) sti)))
    (kk : V y (wst w a (.inl (ty, n, g'))) lc st pc' comp) : V y w lc sti pc comp := by
  have hI := hk.2.2.2.2.2.2.2.1
  intro r hr
  obtain ⟨h1, h2⟩ := kk r hr
  refine ⟨h1, fun H locs ls hp hls => ?_⟩
  obtain ⟨p1, p2, p3, p4, hH, hS⟩ := hp
  obtain ⟨htok, hat, hmon⟩ := (hH.2.2 a _ ha).2.2 hn
  have hcell := va_at_arr hat
  obtain ⟨i, hi⟩ := List.getElem?_of_mem (show ty ∈ tysL from htok)
  have h2' : (ktys (fK y))[i]? = some (kA (fK y) ty, ty) := by simp [ktys, hi]
  have hAr := ((hK_at hI hk.2.2.2.2.2.2.1).2 i _ h2').1
  refine hgo r H locs ls _ hH hcell rfl rfl (hAr _ _) (arrV_size _ _ _) fun H' e1 e2 e3 => ?_
  refine h2 H' _ ls ⟨p1, p2, p3, p4, ?_, hS.put e2 e3 (Afr_lab hI hn)⟩ hls
  refine hH.set hI ha hn htok e2 e3 (va_at_arr' ?_) ⟨_, e1, rfl, rfl, trivial⟩
  rw [e1, arrV_store]
  exact congrArg (fun z => some (arrV (kA (fK y) ty) n z)) hv
theorem updV_ext {f g : Nat → Value} {j : Nat} {v : Value} (h1 : g j = v) (h2 : ∀ k, k ≠ j → g k = f k) : updV f j v = g := by
  funext k
  unfold updV
  by_cases h : k = j
  · rw [if_pos h, h, h1]
  · rw [if_neg h, h2 k h]
theorem V_iastore (hk : OkF y own cc nL F L) {r : Option Nat} {i v : Int32} {kc : Wd → Option β} (hd : decode cc pc = .ok (.iastore, 1)) (kk : ∀ w', V y w' lc st (pc + 1) (kc w')) : V y w lc (.int v :: .int i :: va_rf r :: st) pc ((ias w r i v).bind kc) := by
  refine V_bind fun w' hw' => ?_
  obtain ⟨x, h1, h2⟩ := Option.bind_eq_some_iff.mp hw'
  obtain ⟨a, h3, h4⟩ := Option.bind_eq_some_iff.mp h2
  obtain ⟨a', h5, h6⟩ := arr_spec h1
  subst h3
  cases h5
  split at h4
  · rename_i hc
    obtain ⟨f, h7, h8⟩ := Option.map_eq_some_iff.mp h4
    obtain ⟨ty, n, g⟩ := x
    have h9 := asI_spec h7
    dsimp only at h9 hc h8
    subst h9
    subst h8
    obtain ⟨rfl, hn, hc⟩ := hc
    refine V_stG hk h6 hn (v := .int v) (j := i.toNatClampNeg) (updV_ext (by simp [vAr, upd]) (fun k q => by simp [vAr, upd, q])) (fun r H locs ls cell hH c1 c2 c2' c3 c4 k => ?_) (kk _)
    exact W.iast hk.1 hk.2.1 c1 c3 (by rw [c2]; exact fun q => by cases q) (by rw [c4]; exact hc) rfl rfl hd k
  · cases h4
theorem V_bastore (hk : OkF y own cc nL F L) {r : Option Nat} {i v : Int32} {kc : Wd → Option β} (hd : decode cc pc = .ok (.bastore, 1)) (kk : ∀ w', V y w' lc st (pc + 1) (kc w')) : V y w lc (.int v :: .int i :: va_rf r :: st) pc ((bas w r i v).bind kc) := by
  refine V_bind fun w' hw' => ?_
  obtain ⟨x, h1, h2⟩ := Option.bind_eq_some_iff.mp hw'
  obtain ⟨a, h3, h4⟩ := Option.bind_eq_some_iff.mp h2
  obtain ⟨a', h5, h6⟩ := arr_spec h1
  subst h3
  cases h5
  split at h4
  · rename_i hc
    obtain ⟨f, h7, h8⟩ := Option.map_eq_some_iff.mp h4
    obtain ⟨ty, n, g⟩ := x
    have h9 := asI_spec h7
    dsimp only at h9 hc h8
    subst h9
    subst h8
    obtain ⟨ht, hn, hc⟩ := hc
    refine V_stG hk h6 hn (v := .int (vp_nar ty v)) (j := i.toNatClampNeg) (updV_ext (by simp [vAr, upd]) (fun k q => by simp [vAr, upd, q])) (fun r H locs ls cell hH c1 c2 c2' c3 c4 k => ?_) (kk _)
    rcases ht with rfl | rfl
    · exact W.bast hk.1 hk.2.1 c1 c3 (by rw [c2]; exact fun q => by cases q) (by rw [c4]; exact hc) rfl rfl hd k
    · exact W.zast hk.1 hk.2.1 c1 c3 (by rw [c2]; exact fun q => by cases q) (by rw [c4]; exact hc) rfl rfl hd k
  · cases h4
theorem V_lastore (hk : OkF y own cc nL F L) {r : Option Nat} {i : Int32} {v : Int64} {kc : Wd → Option β} (hd : decode cc pc = .ok (.lastore, 1)) (kk : ∀ w', V y w' lc st (pc + 1) (kc w')) : V y w lc (.long v :: .int i :: va_rf r :: st) pc ((las w r i v).bind kc) := by
  refine V_bind fun w' hw' => ?_
  obtain ⟨x, h1, h2⟩ := Option.bind_eq_some_iff.mp hw'
  obtain ⟨a, h3, h4⟩ := Option.bind_eq_some_iff.mp h2
  obtain ⟨a', h5, h6⟩ := arr_spec h1
  subst h3
  cases h5
  split at h4
  · rename_i hc
    obtain ⟨f, h7, h8⟩ := Option.map_eq_some_iff.mp h4
    obtain ⟨ty, n, g⟩ := x
    have h9 := asJ_spec h7
    dsimp only at h9 hc h8
    subst h9
    subst h8
    obtain ⟨rfl, hn, hc⟩ := hc
    refine V_stG hk h6 hn (v := .long v) (j := i.toNatClampNeg) (updV_ext (by simp [vAr, vp_updL]) (fun k q => by simp [vAr, vp_updL, q])) (fun r H locs ls cell hH c1 c2 c2' c3 c4 k => ?_) (kk _)
    exact W.last hk.1 hk.2.1 c1 c3 (by rw [c2]; exact fun q => by cases q) (by rw [c4]; exact hc) rfl rfl hd k
  · cases h4
theorem cast_at (hk : OkF y own cc nL F L) {C e : String} (h : Cond.castable C e ∈ lw_tbl) : va_Nw (.castable C e) (fs y) := by
  obtain ⟨A0, h0⟩ := hk.2.2.2.2.2.2.2.1.2.2.2.1
  exact (va_Nw.of rfl (h0 _ h)).warmC hk.2.2.2.2.2.2.1.1
theorem asg_at (hk : OkF y own cc nL F L) {ci : Nat} {e : String} {C : vw_C} (hC : vwCl[ci]? = some C) (h : Cond.castable C.1 e ∈ lw_tbl ∨ C.1 = e) : ∃ c t, (fs y).vm.findClass C.1 = some c ∧ (fs y).vm.findClass e = some t ∧ (fs y).vm.assignable c t = true := by
  rcases h with h | h
  · exact Cond.castable_spec (show (Cond.castable C.1 e).holds #[] (fs y) none (fs y) [] = true from cast_at hk h)
  · have h1 := ((hK_at hk.2.2.2.2.2.2.2.1 hk.2.2.2.2.2.2.1).1 ci _ hC).2
    exact ⟨_, _, h1.1, by rw [← h]; exact h1.1, va_assign h1⟩
theorem V_aastore (hk : OkF y own cc nL F L) {l : List Nat} {e : String} {r v : Option Nat} {i : Int32} {kc : Wd → Option β} (hl : ∀ c ∈ l, cstl c e) (hd : decode cc pc = .ok (.aastore, 1)) (kk : ∀ w', V y w' lc st (pc + 1) (kc w')) : V y w lc (va_rf v :: .int i :: va_rf r :: st) pc ((aas w l e r i v).bind kc) := by
  refine V_bind fun w' hw' => ?_
  obtain ⟨x, h1, h2⟩ := Option.bind_eq_some_iff.mp hw'
  obtain ⟨a, h3, h4⟩ := Option.bind_eq_some_iff.mp h2
  obtain ⟨b, hb, h5⟩ := Option.bind_eq_some_iff.mp h4
  obtain ⟨ci, hci, h10⟩ := Option.bind_eq_some_iff.mp h5
  obtain ⟨a', h11, h6⟩ := arr_spec h1
  obtain ⟨fsb, hfsb⟩ := cls_spec hci
  subst h3
  cases h11
  subst hb
  split at h10
  · rename_i hc
    obtain ⟨f, h7, h8⟩ := Option.map_eq_some_iff.mp h10
    obtain ⟨ty, n, g⟩ := x
    have h9 := asR_spec h7
    dsimp only at h9 hc h8
    subst h9
    subst h8
    obtain ⟨rfl, hty, hn, hcl, hc⟩ := hc
    have hI := hk.2.2.2.2.2.2.2.1
    have hE := hk.2.2.2.2.2.2.1
    refine V_stG hk h6 hn (v := .ref (kL (fK y) b)) (j := i.toNatClampNeg) (g' := .inr (.inr (.inr (.inr (va_up f i.toNatClampNeg (some b)))))) ?_ (fun r H locs ls cell hH c1 c2 c2' c3 c4 k => ?_) (kk _)
    · exact updV_ext (by simp [vAr, va_up, va_rf]) (fun k q => by simp [vAr, va_up, q])
    · obtain ⟨C, hC, hw⟩ := hl ci hcl
      obtain ⟨cellb, d1, d2, d3, C', e1, e2, e3⟩ := hH.wk hI hfsb
      have hCC : C' = C := Option.some.inj (e1.symm.trans (vwAll_of hC))
      subst hCC
      obtain ⟨c0, t0, f1, f2, f3⟩ := asg_at hk hC hw
      obtain ⟨kv, g1, -⟩ := Vm.findClass_spec f1
      obtain ⟨kt, g2, -⟩ := Vm.findClass_spec f2
      have e2' : (fs y).vm.findClass C'.1 = some cellb.cls := by rw [(EnvK.alike hE).findClass]; exact e2
      have hcc : cellb.cls = c0 := Option.some.inj (e2'.symm.trans f1)
      obtain ⟨j, hj⟩ := List.getElem?_of_mem hty
      have h2' : (ktys (fK y))[j]? = some (kA (fK y) (.object e), .object e) := by simp [ktys, hj]
      obtain ⟨kA9, comp, a1, a2, a3, a4⟩ := ((hK_at hI hE).2 j _ h2').2
      have hcomp : comp = t0 := Option.some.inj (a3.symm.trans f2)
      refine W.aast hk.1 hk.2.1 c1 (fun q z => by rw [c2] at z; cases z) (by rw [c2]; exact fun q => by cases q) (by rw [c2']; exact a1) a2 rfl (by rw [hcomp]; exact g2) ⟨fun q => hc (Or.inl q), by rw [c4]; exact notin hc⟩ d1 (fun q z => by rw [z] at d3; cases d3) (by rw [hcc]; exact g1) (by rw [hcc, hcomp]; exact f3) rfl rfl hd k
  · cases h10
end VS
