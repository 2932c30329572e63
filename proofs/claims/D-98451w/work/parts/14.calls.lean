/-! ===== statics, casts, ends, contracts, calls ===== -/
def va_AOA (U : State) : Prop := (Cond.arrayOver (.array .int)).before #[] U = true
theorem va_AOA.moved {u U : State} (hvm : u.vm.Alike U.vm) (h : va_AOA u) : va_AOA U := by
  obtain ⟨comp, c, k, h1, h2, h3, h4, h5⟩ := arrayOverA_spec h
  obtain ⟨k', hk', he⟩ := hvm.2.2 _ _ h3
  have hi : (U.vm.classes.findIdx? fun (x : Class) => match x.kind with | .array component _ => component == comp | _ => false) = some c := by
    rw [hvm.findIdx?_eq _ (fun _ => rfl)]; exact h2
  have hkind : k'.kind = .array comp (.array .int) := by rw [he]; exact h4
  have f1 : U.vm.findClass (FieldType.array .int).toString = some comp := by rw [hvm.findClass]; exact h1
  have f2 : U.vm.findClass ("[" ++ (FieldType.array .int).toString) = some c := by rw [hvm.findClass]; exact h5
  unfold va_AOA Cond.before Cond.holds
  simp only [Cond.value]
  rw [f1, Option.bind_some]
  refine (congrArg (fun o : Option Nat => (o.bind (fun c => (U.vm.classes[c]?).map fun (k : Class) => match k.kind with | .array _ ty => decide (ty = FieldType.array .int) && decide (U.vm.findClass ("[" ++ (FieldType.array .int).toString) = some c) | _ => false) == some true)) hi).trans ?_
  simp [hk', hkind, f2]
theorem outerC_arrV (c : ClassId) (N h0 : Nat) : ∀ i, Jvm.Free.Multi.outerC c N h0 i = arrV c N (fun j => if j < i then .ref (h0 + 1 + j) else .null)
  | 0 => by
    show ({ cls := c, slots := Array.replicate N .null, vm := .none } : Cell) = _
    rw [arrV_new]
    congr 1
  | i + 1 => by
    show (Jvm.Free.Multi.outerC c N h0 i).setSlot i (.ref (h0 + 1 + i)) = _
    rw [outerC_arrV c N h0 i, arrV_store]
    congr 1
    refine updV_ext (by simp) (fun k hk => ?_)
    have : k < i + 1 ↔ k < i := by omega
    simp [this]
theorem arrV_congr (c : ClassId) (N : Nat) {f g : Nat → Value} (h : ∀ j, j < N → f j = g j) : arrV c N f = arrV c N g := by
  unfold arrV
  congr 1
  apply Array.ext
  · simp
  · intro j h1 h2
    simp only [Array.getElem_ofFn]
    exact h j (by simpa using h1)
section VG
variable {β : Type} {y : Fx β} {own : String} {cc : ByteArray} {nL F L : Nat} {w : Wd} {lc : List (Nat × Value)} {st : List Value} {pc : Nat} {comp : Option β}
theorem V_gets (hk : OkF y own cc nL F L) {C n d ref : String} {v : Value} {i : Nat} (hz : (C, n, d, v) ∈ statL) (hq : Cond.fieldLink own i ref n d ∈ lw_all) (hsame : ∀ x, (fs y).fieldFound? C n d = some x → (fs y).fieldFound? ref n d = some x) (hd : decode cc pc = .ok (.getstatic i, 3)) (kk : V y w lc (v :: st) (pc + 3) comp) : V y w lc st pc comp := by
  have hI := hk.2.2.2.2.2.2.2.1
  have hE := hk.2.2.2.2.2.2.1
  intro r hr
  obtain ⟨h1, h2⟩ := kk r hr
  refine ⟨h1, fun H locs ls hp hl => ?_⟩
  have hZ := hI.2.2.2.2.2.1 _ hz
  have hZ2 := (hZ.moved hE.alike).kept (H1 := (fs y).heap) (fun a ha _ => hE.2.2 a ha)
  exact va_gets hk.1 hk.2.1 hZ2 hp.2.2.2.2.2 hk.2.2.2.2.1 (hk.2.2.2.2.2.1 _ hq) hsame hd (h2 H locs ls hp hl)
theorem V_ldcS (hk : OkF y "HookSwings$Tokens" cc nL F L) (hd : decode cc pc = .ok (.ldc 53, 2)) (kk : V y w lc (va_rf (some 297) :: st) (pc + 2) comp) : V y w lc st pc comp := by
  have hI := hk.2.2.2.2.2.2.2.1
  have hE := hk.2.2.2.2.2.2.1
  intro r hr
  obtain ⟨h1, h2⟩ := kk r hr
  refine ⟨h1, fun H locs ls hp hl => ?_⟩
  exact va_ldcS hk.1 hk.2.1 hk.2.2.2.2.1 (hI.2.2.2.2.2.2.1.warm hE.1) hd (h2 H locs ls hp hl)
/-- a cast of an object of one of the classes, or of null -/
def ccast (w : Wd) (l : List Nat) (r : Option Nat) : Option Unit := match r with
  | none => some ()
  | some a => (cls w a).bind fun c => if c ∈ l then some () else none
theorem V_cast (hk : OkF y own cc nL F L) {l : List Nat} {nm : String} {i : Nat} {r : Option Nat} {kc : Unit → Option β} (hl : ∀ c ∈ l, cstl c nm) (hq : Cond.classLink own i nm ∈ lw_all) (hd : decode cc pc = .ok (.checkcast i, 3)) (kk : V y w lc (va_rf r :: st) (pc + 3) (kc ())) : V y w lc (va_rf r :: st) pc ((ccast w l r).bind kc) := by
  refine V_bind fun v hv => ?_
  have hI := hk.2.2.2.2.2.2.2.1
  have hE := hk.2.2.2.2.2.2.1
  intro r9 hr
  obtain ⟨h1, h2⟩ := kk r9 hr
  refine ⟨h1, fun H locs ls hp hls => ?_⟩
  have h3 := h2 H locs ls hp hls
  cases r with
  | none => exact lv_castN hk.1 hk.2.1 hd h3
  | some a =>
    obtain ⟨c, hc, h4⟩ := Option.bind_eq_some_iff.mp hv
    split at h4
    · rename_i hm
      obtain ⟨C, hC, hw⟩ := hl c hm
      obtain ⟨fs9, hfs⟩ := cls_spec hc
      obtain ⟨cell, d1, d2, d3, C', e1, e2, e3⟩ := hp.2.2.2.2.1.wk hI hfs
      have hCC : C' = C := Option.some.inj (e1.symm.trans (vwAll_of hC))
      subst hCC
      rcases hw with hw | hw
      · exact va_castY hk.1 hk.2.1 hk.2.2.2.2.1 (hk.2.2.2.2.2.1 _ hq) (cast_at hk hw) ⟨cell, d1, d3, by rw [(EnvK.alike hE).findClass]; exact e2⟩ hd h3
      · subst hw
        exact va_castS hk.1 hk.2.1 hk.2.2.2.2.1 (hk.2.2.2.2.2.1 _ hq) ((hK_at hI hE).1 c _ hC).2 ⟨cell, d1, d3, by rw [(EnvK.alike hE).findClass]; exact e2⟩ hd h3
    · cases h4
theorem V_multi (hk : OkF y own cc nL F L) {n m9 : Int32} {i : Nat} {kc : Nat → Nat → Option β} (hq1 : Cond.classLink own i "[[I" ∈ lw_all) (hq2 : Cond.arrayOver (.array .int) ∈ lw_tbl) (hq3 : Cond.arrayClass .int ∈ lw_all) (hd : decode cc pc = .ok (.multianewarray i 2, 4))
    (kk : ∀ N M, V y (wnew2 w N M) lc (va_rf (some (wnx w)) :: st) (pc + 4) (kc N M)) : V y w lc (.int m9 :: .int n :: st) pc ((nchk n).bind fun N => (nchk m9).bind fun M => kc N M) := by
  refine V_bind fun N hN => V_bind fun M hM => ?_
  obtain ⟨n1, n2, n3⟩ := nchk_spec hN
  obtain ⟨m1, m2, m3⟩ := nchk_spec hM
  have hI := hk.2.2.2.2.2.2.2.1
  have hE := hk.2.2.2.2.2.2.1
  have hts := hk.2.2.2.2.2.1
  obtain ⟨A0, h0⟩ := hI.2.2.2.1
  intro r hr
  obtain ⟨⟨h1, h1'⟩, h2⟩ := kk N M r hr
  have h1a : wnx w + 1 + N ≤ wnx (fwo y r) := h1
  have h1b : wsl w + N + N * M ≤ wsl (fwo y r) := h1'
  refine ⟨⟨by omega, by omega⟩, fun H locs ls hp hls => ?_⟩
  obtain ⟨p1, p2, p3, p4, hH, hS⟩ := hp
  have hover : va_AOA (fs y) := va_AOA.moved hE.alike (show va_AOA (kS (fK y)) from h0 _ hq2)
  intro T hT X
  have hcs : wnx w - wnx (fw0 y) + (1 + n.toNatClampNeg) ≤ (fR y).cells := by rw [n2]; omega
  have hss : wsl w - wsl (fw0 y) + (n.toNatClampNeg + n.toNatClampNeg * m9.toNatClampNeg) ≤ (fR y).slots := by rw [n2, m2]; omega
  obtain ⟨vm₁, cA, comp, hW, hfA, hfC, hO, hI9, X1, step⟩ := X.multianewarray2F hk.1 (ty := .int) hk.2.2.2.2.1 (index := i) (hts _ hq1) hover (hts _ hq3) (g := F0 (fm y) pc ls (cvs (fK y) (.int m9 :: .int n :: st))) rfl (by rw [hk.2.1]; exact hd) (n := n) (k := m9) (rest := cvs (fK y) st) rfl n1 m1 (by rw [n2]; omega) (by rw [m2]; show M * 4 ≤ _; omega) (by rw [m2]; omega) rfl rfl hcs hss
  rw [n2, m2] at X1 step
  have hk0 : (ktys (fK y))[0]? = some (kA (fK y) .int, .int) := rfl
  have hk4 : (ktys (fK y))[4]? = some (kA (fK y) (.array .int), .array .int) := rfl
  have hcA : cA = kA (fK y) (.array .int) := Option.some.inj (hfA.symm.trans ((hK_at hI hE).2 4 _ hk4).2)
  have hcC : comp = kA (fK y) .int := Option.some.inj (hfC.symm.trans ((hK_at hI hE).2 0 _ hk0).2)
  subst hcA
  subst hcC
  obtain ⟨f1, f2, -, -⟩ := Jvm.Free.Multi.fill_facts (T.setVm vm₁) (kA (fK y) (.array .int)) (kA (fK y) .int) N M (defaultValue .int) N
  have f3 : ∀ a : Nat, a < H.size → (Jvm.Free.Multi.fill (T.setVm vm₁) (kA (fK y) (.array .int)) (kA (fK y) .int) N M (defaultValue .int) N).heap[a]? = H[a]? := fun a ha => by
    have := Jvm.Free.Multi.fill_old (T.setVm vm₁) (kA (fK y) (.array .int)) (kA (fK y) .int) N M (defaultValue .int) (a := a) (by show a < T.heap.size; rw [hT]; exact ha) N
    rw [this]; show T.heap[a]? = _; rw [hT]
  have f4 := Jvm.Free.Multi.fill_inner (T.setVm vm₁) (kA (fK y) (.array .int)) (kA (fK y) .int) N M (defaultValue .int) N
  generalize hFe : Jvm.Free.Multi.fill (T.setVm vm₁) (kA (fK y) (.array .int)) (kA (fK y) .int) N M (defaultValue .int) N = T1 at X1 step f1 f2 f3 f4
  have hTh : (T.setVm vm₁).heap = H := hT
  rw [hTh] at f1 f2 f4
  have e3 : kL (fK y) (wnx w) = H.size := wnx_addr hI hH
  have eL : ∀ j, kL (fK y) (wnx w + j) = H.size + j := fun j => by
    have a1 := hI.2.1 (wnx w) hH.2.1
    have a2 := hI.2.1 (wnx w + j) (Nat.le_trans hH.2.1 (Nat.le_add_right _ _))
    have a3 : nOld ≤ wnx w := hH.2.1
    omega
  have hH1 : HP (fK y) (wnew2 w N M) T1.heap := by
    refine ⟨?_, ?_, fun j e' hj => ?_⟩
    · have := hH.1
      show T1.heap.size + nOld = (kS (fK y)).heap.size + (w.2.1 + 1 + N)
      have h8 : H.size + nOld = (kS (fK y)).heap.size + w.2.1 := hH.1
      omega
    · have h8 : nOld ≤ w.2.1 := hH.2.1
      show nOld ≤ w.2.1 + 1 + N
      omega
    · have h8 : nOld ≤ w.2.1 := hH.2.1
      simp only [wnew2] at hj
      by_cases c1 : j = w.2.1
      · rw [if_pos c1] at hj
        cases hj
        refine ⟨⟨by show j < w.2.1 + 1 + N; omega, Or.inr (by omega)⟩, fun q => by omega, fun _ => ⟨(show FieldType.array .int ∈ tysL by decide), ?_⟩⟩
        rw [c1]
        refine ⟨va_at_arr' ?_, by rw [show kL (fK y) w.2.1 = H.size from e3]; exact ⟨_, f2, by rw [outerC_arrV]; exact ⟨rfl, rfl, trivial⟩⟩⟩
        rw [show kL (fK y) w.2.1 = H.size from e3, f2, outerC_arrV]
        refine congrArg some (arrV_congr _ _ fun j hj => ?_)
        rw [if_pos hj]
        show _ = va_rf (some (kL (fK y) (w.2.1 + 1 + j)))
        rw [show w.2.1 + 1 + j = wnx w + (1 + j) from Nat.add_assoc _ _ _, eL]
        show Value.ref _ = Value.ref _
        rw [Nat.add_assoc]
      · rw [if_neg c1] at hj
        by_cases c2 : w.2.1 < j ∧ j ≤ w.2.1 + N
        · rw [if_pos c2] at hj
          cases hj
          refine ⟨⟨by show j < w.2.1 + 1 + N; omega, Or.inr (by omega)⟩, fun q => by omega, fun _ => ⟨(show FieldType.int ∈ tysL by decide), ?_⟩⟩
          obtain ⟨i9, rfl⟩ : ∃ i9, j = wnx w + (1 + i9) := ⟨j - w.2.1 - 1, by show j = w.2.1 + _; omega⟩
          have hi9 : i9 < N := by have := c2.2; simp only [wnx] at this; omega
          refine ⟨va_at_arr' ?_, by rw [eL, ← Nat.add_assoc]; exact ⟨_, f4 i9 hi9, rfl, rfl, trivial⟩⟩
          rw [eL, ← Nat.add_assoc, f4 i9 (by have := c2.2; simp only [wnx] at this; omega)]
          show some ({ cls := _, slots := Array.replicate M (.int 0), vm := .none } : Cell) = _
          rw [arrV_new]
          rfl
        · rw [if_neg c2] at hj
          obtain ⟨a1, a2, a3⟩ := hH.2.2 j e' hj
          have hne := f3 _ (va_at_lt hH hj hI)
          exact ⟨⟨by have : j < w.2.1 := a1.1; show j < w.2.1 + 1 + N; omega, a1.2⟩, fun q => (a2 q).kept hne, fun q => ⟨(a3 q).1, (a3 q).2.1.kept hne, (a3 q).2.2.kept hne⟩⟩
  have hS1 : va_S (Afr (fK y)) (fs y).heap T1.heap locs := ⟨Nat.le_trans hS.1 (by omega), fun x h1 h2 => (f3 x (Nat.lt_of_lt_of_le h1 hS.1)).trans (hS.2.1 x h1 h2), hS.2.2⟩
  have h3 := h2 _ locs ls ⟨p1, p2, by show _ ≤ w.2.1 + 1 + N; have : wnx (fw0 y) ≤ w.2.1 := p3; omega, by show _ ≤ w.2.2 + N + N * M; have : wsl (fw0 y) ≤ w.2.2 := p4; omega, hH1, hS1⟩ hls
  have e1 : wnx (wnew2 w N M) - wnx (fw0 y) = wnx w - wnx (fw0 y) + 1 + N := by show w.2.1 + 1 + N - _ = w.2.1 - _ + 1 + N; have : wnx (fw0 y) ≤ w.2.1 := p3; omega
  have e2 : wsl (wnew2 w N M) - wsl (fw0 y) = wsl w - wsl (fw0 y) + N + N * M := by show w.2.2 + N + N * M - _ = w.2.2 - _ + N + N * M; have : wsl (fw0 y) ≤ w.2.2 := p4; omega
  have h4 : cvs (fK y) (va_rf (some (wnx w)) :: st) = .ref T.heap.size :: cvs (fK y) st := by rw [hT, ← e3]; rfl
  unfold WV at h3
  rw [e1, e2, h4] at h3
  obtain ⟨t, t1, t2⟩ := h3 T1 rfl X1
  exact ⟨t, step t t1, t2⟩
end VG
