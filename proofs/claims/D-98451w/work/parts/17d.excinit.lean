/-! ===== the constructor of the class above, of an exception of the claim's own (launches without stack traces; follows the kit's vx_ctorMade0) ===== -/
def excI (w : Wd) (rr : Option Nat) : Option Nat := (ob w rr 5).bind fun fs' => rr.bind fun b => if nOld ≤ b ∧ fs'[2]? = some .null then some b else none
theorem wst_self {w : Wd} {k : Nat} {e : Cel} (h : w.1 k = some e) : wst w k e = w := by
  obtain ⟨f, n, s⟩ := w
  unfold wst
  have : (fun j => if j = k then some e else f j) = f := by
    funext j
    by_cases hj : j = k
    · rw [if_pos hj, hj]; exact h.symm
    · rw [if_neg hj]
  simp only [this]
section VEI
variable {β : Type} {y : Fx β} {cc : ByteArray} {nL F L : Nat} {w : Wd} {lc : List (Nat × Value)} {st : List Value} {pc : Nat}
theorem exc_atoms (hk : OkF y "HookSwings$Wrong" cc nL F L) : (∀ x ∈ Bundle.throwableAtoms, x.before (fargs y) (fs y) = true) ∧ (∀ x ∈ Bundle.chain0Atoms "java/lang/Exception" [], x.before (fargs y) (fs y) = true) := by
  have hts := hk.2.2.2.2.2.1
  have hI := hk.2.2.2.2.2.2.2.1
  have hE := hk.2.2.2.2.2.2.1
  obtain ⟨hq1, hq2⟩ := hI.2.2.2.2.2.2.2.2.1
  have l1 : (Cond.laysStatic "java/lang/Throwable" "UNASSIGNED_STACK" "[Ljava/lang/StackTraceElement;").before (fargs y) (fs y) = true := ((hq1.moved hE.alike).kept (H1 := (fs y).heap) (fun a ha _ => hE.2.2 a ha)).word
  have l2 : (Cond.laysStatic "java/lang/Throwable" "SUPPRESSED_SENTINEL" "Ljava/util/List;").before (fargs y) (fs y) = true := ((hq2.moved hE.alike).kept (H1 := (fs y).heap) (fun a ha _ => hE.2.2 a ha)).word
  obtain ⟨A0, h0⟩ := hI.2.2.2.1
  have ld : ∀ x : MethodName, Cond.declares x ∈ lw_tbl → (Cond.declares x).before (fargs y) (fs y) = true := fun x hx => va_Nw.use rfl (va_Nw.warmD hE.1 (va_Nw.of rfl (h0 _ hx)))
  refine ⟨fun x hx => ?_, fun x hx => ?_⟩
  · simp only [Bundle.throwableAtoms, List.mem_cons, List.not_mem_nil, or_false] at hx
    rcases hx with rfl | rfl | rfl | rfl | rfl | rfl | rfl | rfl | rfl | rfl | rfl | rfl | rfl | rfl | rfl | rfl | rfl | rfl | rfl | rfl | rfl | rfl | rfl | rfl
    · exact hts _ q144
    · exact hts _ q499
    · exact hts _ q508
    · exact hts _ q510
    · exact hts _ q513
    · exact hts _ q515
    · exact hts _ q500
    · exact hts _ q501
    · exact hts _ q170
    · exact hts _ q171
    · exact hts _ q502
    · exact hts _ q507
    · exact hts _ q511
    · exact hts _ q528
    · exact hts _ q489
    · exact hts _ q529
    · exact hts _ q491
    · exact hts _ q530
    · exact hts _ q493
    · exact hts _ q503
    · exact l1
    · exact hts _ q505
    · exact l2
    · exact hts _ q495
  · simp only [Bundle.chain0Atoms, Bundle.passAtoms, List.mem_cons, List.not_mem_nil, or_false] at hx
    rcases hx with rfl | rfl | rfl | rfl | rfl
    · exact hts _ q520
    · exact hts _ q521
    · exact hts _ q522
    · exact hts _ q500
    · exact ld _ q484
theorem vq_isRef {C n d : String} {v : Value} {A : Nat → Prop} {s : State} {args : Array Value} (h : va_Z C n d v A s s.heap) (hv : v.isRef = true) : (Cond.isRef (.static C n d)).before args s = true := by
  obtain ⟨cf, kf, fi, f, a, cell, h1, h2, h3, h4, h5, h6, h7, -⟩ := h
  have he : (Term.static C n d).eval args s none [] s = some v := by
    simp [Term.eval, State.fieldNamed?, h1, h2, h4, h5, h6, h7]
  simp only [Cond.before, Cond.holds, Cond.value, he]
  cases v <;> simp_all [Value.isRef]
theorem unk_isRef (hk : OkF y "HookSwings$Wrong" cc nL F L) {q : String × String × String × Nat} (hq : q ∈ unkL) : (Cond.isRef (.static q.1 q.2.1 q.2.2.1)).before (fargs y) (fs y) = true := by
  have hI := hk.2.2.2.2.2.2.2.1
  have hE := hk.2.2.2.2.2.2.1
  rcases hI.2.2.2.2.2.2.2.2.2 _ hq with hZ | hZ
  · exact vq_isRef ((hZ.moved hE.alike).kept (H1 := (fs y).heap) (fun a ha _ => hE.2.2 a ha)) rfl
  · exact vq_isRef ((hZ.moved hE.alike).kept (H1 := (fs y).heap) (fun a ha _ => hE.2.2 a ha)) rfl
set_option maxHeartbeats 4000000 in
theorem V_excInit (hk : OkF y "HookSwings$Wrong" cc nL F L) (htr0 : (fl y).stackTraces = false) {rr : Option Nat} {i : Nat} {k : Nat → Option β} (hq : Cond.methodLink "HookSwings$Wrong" i (Bundle.init0 "java/lang/Exception") ∈ lw_all) (hF : 4 ≤ F ∧ 100 ≤ L) (hcat : (st.map fun v => v.category).sum ≤ 8) (hd : decode cc pc = .ok (.invokespecial i, 3)) (kk : ∀ b, V y w lc st (pc + 3) (k b)) : V y w lc (va_rf rr :: st) pc ((excI w rr).bind k) := by
  refine V_bind fun b hb0 => ?_
  obtain ⟨fs', h1, h2⟩ := Option.bind_eq_some_iff.mp hb0
  obtain ⟨b', rfl, h3⟩ := Option.bind_eq_some_iff.mp h2
  obtain ⟨_, h4, hb⟩ := ob_spec h1
  cases h4
  split at h3
  case isFalse => cases h3
  rename_i hc
  cases h3
  obtain ⟨hn, hnull⟩ := hc
  have hI := hk.2.2.2.2.2.2.2.1
  have hE := hk.2.2.2.2.2.2.1
  have hts := hk.2.2.2.2.2.1
  have hown := hk.2.2.2.2.1
  have hK := hK_at hI hE
  intro r hr
  obtain ⟨k1, k2⟩ := kk b r hr
  refine ⟨k1, fun H locs ls hp hl => ?_⟩
  obtain ⟨p1, p2, p3, p4, hH, hS⟩ := hp
  obtain ⟨htok, ⟨r9, g1, cell, q1, q2, q3, q4⟩, cellm, m1, m2, m3, m4⟩ := (hH.2.2 b _ hb).2.2 hn
  have hr9 : r9 = (RX5, TX5w, 3) := Option.some.inj (g1.symm.trans rfl)
  subst hr9
  have hcm : cellm = cell := Option.some.inj (m1.symm.trans q1)
  subst hcm
  obtain ⟨hS9, hfc, kW, hkW, hord⟩ := hK.1 5 _ rfl
  obtain ⟨-, -, k0, hk0, -⟩ := hI.1.1 5 _ rfl
  have hsz : cellm.slots.size = kW.instanceTypes.size := by
    obtain ⟨k', e1, e2⟩ := hE.alike.2.2 _ _ hk0
    have e3 : kW = k' := Option.some.inj (hkW.symm.trans e1)
    rw [m4 k0 (by rw [q2]; exact hk0), e3, e2]
  have hfcW : (fs y).vm.findClass "HookSwings$Wrong" = some cellm.cls := by rw [q2]; exact hfc
  have hkW' : (fs y).vm.classes[cellm.cls]? = some kW := by rw [q2]; exact hkW
  obtain ⟨aT, aC⟩ := exc_atoms hk
  intro T hT X
  have htr : (fe y).platform.stackTraces = false := (show (fe y).platform.stackTraces = (fl y).stackTraces by rw [X.admits.platform]).trans htr0
  have howns : (fe y).platform.frameOwnsMonitors = true := by rw [X.admits.platform]
  have hfin : (fe y).platform.finalization = false := by rw [X.admits.platform]
  have hpl : (fe y).platform.magicAccessors = ({} : Platform).magicAccessors := by rw [X.admits.platform]
  obtain ⟨Tc, Z, Lk, LZ, Y⟩ := ThrowableC.of_atoms (args := fargs y) howns hfin hpl aT
  obtain ⟨P1, Ps, hlen, L1, hL, hP1m, hlink1, hlink⟩ := Bundle.chain0 (args := fargs y) hpl Y.init0 [] "java/lang/Exception" (by decide +kernel) (fun n hn => by cases hn) aC
  have hsel0 : selectMethod (fe y).platform (fs y).vm cellm.cls Tc.fill0 = .method Tc.fill0 := by
    obtain ⟨c2, r2, mm2, s1, s2, s3, s4, -⟩ := Cond.selects_spec (hts _ q486)
    cases Option.some.inj (s1.symm.trans hfcW)
    cases Option.some.inj (s2.symm.trans (State.methodFound?_of_named Y.fill0 (by decide)))
    cases Option.some.inj (s3.symm.trans Y.fill0)
    rw [Launch.admits_selectMethod X.admits]; exact s4
  have hselF : selectMethod (fe y).platform (fs y).vm cellm.cls Tc.fill = .method Tc.fill := by
    obtain ⟨c2, r2, mm2, s1, s2, s3, s4, -⟩ := Cond.selects_spec (hts _ q487)
    cases Option.some.inj (s1.symm.trans hfcW)
    cases Option.some.inj (s2.symm.trans (State.methodFound?_of_named Y.fill (by decide)))
    cases Option.some.inj (s3.symm.trans Y.fill)
    rw [Launch.admits_selectMethod X.admits]; exact s4
  obtain ⟨cellS0, hcS0, hiss⟩ := Y.statics
  obtain ⟨u0, hu0⟩ := Cond.staticRefV Y.unassigned Lk.unassignedStatic Lk.statics hcS0 hiss (unk_isRef hk (q := ("java/lang/Throwable", "UNASSIGNED_STACK", "[Ljava/lang/StackTraceElement;", 397)) (by decide +kernel))
  obtain ⟨sen, hsen⟩ := Cond.staticRefV Y.sentinel Lk.sentinelStatic Lk.statics hcS0 hiss (unk_isRef hk (q := ("java/lang/Throwable", "SUPPRESSED_SENTINEL", "Ljava/util/List;", 396)) (by decide +kernel))
  obtain ⟨ci198, i198, fB, hk198, hg198, ha198, hsB, -, hnB, htB, hffB⟩ := Cond.ownField (t := .object "java/lang/Object") Y.found Lk.cls (by decide +kernel) (hts _ q498) (hts _ q497) (fe y).platform hpl
  -- the statics' cell is an old one
  have hqL := (hI.2.2.2.2.2.2.2.2.1.1.moved hE.alike).kept (H1 := (fs y).heap) (fun a ha _ => hE.2.2 a ha)
  have haS : ¬ Afr (fK y) Tc.aS := by
    obtain ⟨c9, k9, i9, f9, a9, cell9, z1, z2, z3, z4, z5, z6, z7, z8, z9, z10⟩ := hqL
    have e1 := z2.symm.trans Y.unassigned
    simp only [Option.some.injEq, Prod.mk.injEq] at e1
    have e2 : some a9 = some Tc.aS := by rw [← z4, e1.2.1]; exact Lk.statics
    cases e2
    exact z10
  have hcellS : T.heap[Tc.aS]? = some cellS0 := by
    rw [hT, hS.2.1 _ (Array.getElem?_eq_some_iff.mp hcS0).1 haS]; exact hcS0
  have hknownS : cellS0.vm ≠ .unknown := by
    intro hu; rw [hu] at hiss; cases hiss
  have hAb := Afr_lab hI hn
  have hneS : Tc.aS ≠ kL (fK y) b := fun q => haS (by rw [q]; exact hAb)
  obtain ⟨tyC, dC, hdC, hdnC⟩ := Cond.laysAt hfcW hkW' Y.cause (hts _ q488)
  obtain ⟨tyS, dS, hdS, hdnS⟩ := Cond.laysAt hfcW hkW' Y.stack (hts _ q490)
  obtain ⟨tyP, dP, hdP, hdnP⟩ := Cond.laysAt hfcW hkW' Y.supp (hts _ q492)
  obtain ⟨tyB, dB, hdB, hdnB⟩ := Cond.laysAt hfcW hkW' hffB (hts _ q496)
  have bC := Cond.laysApart hdB hdC hdnB hdnC (by rw [hnB, Y.causeName]; decide)
  have bS := Cond.laysApart hdB hdS hdnB hdnS (by rw [hnB, Y.stackName]; decide)
  have bP := Cond.laysApart hdB hdP hdnB hdnP (by rw [hnB, Y.suppName]; decide)
  have hslB : (kD (fK y)).2 5 2 = fB.slot := by
    obtain ⟨cf, kf, fi, fd, z1, z2⟩ := hS9 2 (by decide)
    have e1 := z1.symm.trans hffB
    simp only [Option.some.injEq, Prod.mk.injEq] at e1
    rw [← z2, e1.2.2.2]
  have hnullB : cellm.slots[fB.slot]? = some .null := by
    rw [← hslB, q4 2 (by decide)]
    simp [vp_V, List.getD, hnull, cv]
  have hskip : SkipFacts Tc (fe y).platform (fs y) (fun u => u) u0 ((preparedCellV Tc.toThrowableT cellm (kL (fK y) b) u0 sen).withEntry T.cur) :=
    ⟨{ ci198 := ci198, i198 := i198, fBack := fB }, ⟨hk198, hg198, ha198, hsB⟩, by
      simpa [preparedCellV, Cell.setSlot, Cell.withEntry, Array.getElem?_setIfInBounds, bC, bS, bP, bC.symm, bS.symm, bP.symm] using hnullB, fun _ _ => rfl⟩
  have tk : ∀ {f : Field} {v : Value}, kW.instanceTypes[f.slot]? = some f.type → fits f.type v = true → Takes (fs y) cellm f v := fun hty hv => ⟨by rw [hsz]; exact (Array.getElem?_eq_some_iff.mp hty).1, by rw [q3]; exact fresh_fits (s := fs y) (U := fs y) (Vm.Alike.refl _) hkW' hord hty hv⟩
  let g : JFrame := F0 (fm y) pc ls (cvs (fK y) (va_rf (some b) :: st))
  obtain ⟨tm, methC, cdC, kC, vm₁, hnC, -, -, -, -, -, -, -, hW₁, st1⟩ := Steps.initCold (tb := (fp y).tables) (e := fe y) (below := fbelow y) (s := fs y) (U := T) X.here hk.1 X.warmed hpl hown (t := Bundle.init0 "java/lang/Exception") rfl rfl (Bundle.fit_spec (by decide +kernel)).2
    (hts _ hq) (hts _ q520) (bytes := Bundle.five) (maxL := 1) (hts _ q521) (f := g) rfl (a := kL (fK y) b) (rest := cvs (fK y) st) rfl (by rw [hk.2.1]; exact hd)
  cases Option.some.inj (hnC.symm.trans hP1m)
  have X₁ := X.noted hW₁
  obtain ⟨vm₂, X₂, st2⟩ := X₁.ctorPlainOffV hk.1 (g := { g with stack := cvs (fK y) st }) rfl (by show ls.size = _; rw [hl.1, hk.2.2.2.1, hk.2.2.1]) Tc Lk Z LZ (P1 :: Ps)
    (fun P hP => by rcases List.mem_cons.mp hP with rfl | hP; exact L1; exact hL P hP) ⟨hlink1, hlink⟩ (u0 := u0) (sen := sen) (self := kL (fK y) b) (cell := cellm) (cellS := cellS0)
    (by show T.heap[_]? = _; rw [hT]; exact q1) (fun _ => by rw [q3]; exact fun z => by cases z) (by rw [q3]; exact fun z => by cases z) m2 m3 hsel0 hselF hcellS hneS hknownS hu0 hsen
    (tk tyC (by rw [Y.causeType]; rfl)) (tk tyS (by rw [Y.stackType]; exact fits_refV_array _ u0)) (tk tyP (by rw [Y.suppType]; exact fits_refV_object _ sen)) Y.objLocals hskip htr [] (by rw [hk.2.1]; exact hd)
    (by simp only [List.length_cons, hlen, List.length_nil]; rw [hk.2.2.2.2.2.2.2.2.1]; omega) (by simp only [List.length_cons, hlen, List.length_nil]; rw [hk.2.2.2.2.2.2.2.2.2.1]; show 2 * 0 + ((cvs (fK y) st).map fun v => v.category).sum + _ ≤ _; rw [cvs_cat]; omega)
  generalize hce : (preparedCellV Tc.toThrowableT cellm (kL (fK y) b) u0 sen).setSlot Tc.fStack.slot u0.v = ce at X₂ st2
  have hlt : kL (fK y) b < H.size := (Array.getElem?_eq_some_iff.mp q1).1
  have hheap : (((T.setVm vm₁).setVm vm₂).setCell (kL (fK y) b) ce).heap = H.setIfInBounds (kL (fK y) b) ce := by rw [← hT]; rfl
  have oq : ∀ q : Nat, q ≠ kL (fK y) b → (H.setIfInBounds (kL (fK y) b) ce)[q]? = H[q]? := fun q hq => by simp [Array.getElem?_setIfInBounds, Ne.symm hq]
  have oa : (H.setIfInBounds (kL (fK y) b) ce)[kL (fK y) b]? = some ce := by simp [Array.getElem?_setIfInBounds, hlt]
  have hinA := lays_all 5 _ rfl
  have hfar : ∀ (j : Nat), j < 3 → ∀ (f : Field) (cf : ClassId) (kf : Class) (fi : Nat) (n d : String), (fs y).fieldFound? "java/lang/Throwable" n d = some (cf, kf, fi, f) → (Cond.lays RX5 "java/lang/Throwable" n d).before (fargs y) (fs y) = true → f.name ≠ (TX5w j).2.1 → (kD (fK y)).2 5 j ≠ f.slot := by
    intro j hj f cf kf fi n d hf hla hne
    obtain ⟨cf', kf', fi', fd', z1, z2⟩ := hS9 j hj
    rw [← z2]
    refine u_apart (u_lays hts hinA hj) (Or.inl hla) z1 hf ?_
    rw [(State.fieldFound?_type z1 (tyX5w_ok j hj)).1]
    exact hne.symm
  have hkeep : ∀ j, j < 3 → ce.slots[(kD (fK y)).2 5 j]? = cellm.slots[(kD (fK y)).2 5 j]? := by
    intro j hj
    have hnm : ∀ (n : String), n = "cause" ∨ n = "stackTrace" ∨ n = "suppressedExceptions" → n ≠ (TX5w j).2.1 := by
      intro n hn
      match j, hj with
      | 0, _ => rcases hn with rfl | rfl | rfl <;> decide
      | 1, _ => rcases hn with rfl | rfl | rfl <;> decide
      | 2, _ => rcases hn with rfl | rfl | rfl <;> decide
    have e1 := hfar j hj _ _ _ _ _ _ Y.cause (hts _ q488) (by rw [Y.causeName]; exact hnm _ (Or.inl rfl))
    have e2 := hfar j hj _ _ _ _ _ _ Y.stack (hts _ q490) (by rw [Y.stackName]; exact hnm _ (Or.inr (Or.inl rfl)))
    have e3 := hfar j hj _ _ _ _ _ _ Y.supp (hts _ q492) (by rw [Y.suppName]; exact hnm _ (Or.inr (Or.inr rfl)))
    rw [← hce]
    simp [preparedCellV, Cell.setSlot, Array.getElem?_setIfInBounds, Ne.symm e1, Ne.symm e2, Ne.symm e3]
  have hcecls : ce.cls = cellm.cls := by rw [← hce]; rfl
  have hcevm : ce.vm = cellm.vm := by rw [← hce]; rfl
  have hcemon : ce.monitor = cellm.monitor := by rw [← hce]; rfl
  have hcesz : ce.slots.size = cellm.slots.size := by rw [← hce]; simp [preparedCellV, Cell.setSlot]
  have hH2 : HP (fK y) w (H.setIfInBounds (kL (fK y) b) ce) := by
    have h9 := hH.set hI hb hn (e := .inr (5, fs')) (H1 := H.setIfInBounds (kL (fK y) b) ce) htok (by simp) oq ⟨_, rfl, ce, oa, by rw [hcecls]; exact q2, by rw [hcevm]; exact q3, fun j hj => by rw [hkeep j hj]; exact q4 j hj⟩ ⟨ce, oa, by rw [hcemon]; exact m2, by rw [hcemon]; exact m3, fun kC hkC => by rw [hcesz]; exact m4 kC (by rw [← hcecls]; exact hkC)⟩
    rw [wst_self hb] at h9
    exact h9
  have h6 := k2 _ (locs ++ [⟨kL (fK y) b, Tc.fCause.slot⟩, ⟨kL (fK y) b, Tc.fStack.slot⟩, ⟨kL (fK y) b, Tc.fSupp.slot⟩, ⟨kL (fK y) b, Tc.fStack.slot⟩]) ls ⟨p1, p2, p3, p4, hH2, ⟨by simp; exact hS.1, fun q g1 g2 => by
      rw [oq q (fun e => g2 (by rw [e]; exact hAb))]
      exact hS.2.1 q g1 g2, fun q hq => by
      rcases List.mem_append.mp hq with h | h
      · exact hS.2.2 q h
      · simp only [List.mem_cons, List.not_mem_nil, or_false] at h
        rcases h with rfl | rfl | rfl | rfl <;> exact hAb⟩⟩ hl
  obtain ⟨t, a1, b1⟩ := h6 _ hheap X₂
  refine ⟨t, st1 _ (fun acts => ?_), b1⟩
  rw [doInvoke_state]
  exact st2 t a1
end VEI
