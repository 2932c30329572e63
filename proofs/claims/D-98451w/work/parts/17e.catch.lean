/-! ===== a method with handlers ===== -/
section VHC
variable {β ρ : Type} {y : Fx β} {own : String} {cc : ByteArray} {nL F L : Nat} {w : Wd} {lc : List (Nat × Value)} {pc : Nat}
theorem V_invVXc (hk : OkF y own cc nL F L) {x : ExceptionTableEntry} {suf : List ExceptionTableEntry} (htab : (fc y).exceptionTable.toList = x :: suf) (hcov : covers x pc = true) (h0 : x.catchType ≠ 0) (hql : Cond.classLink own x.catchType "HookSwings$Wrong" ∈ lw_all)
    {av rest st : List Value} {idx n F9 L9 m9 ci : Nat} {rr : Option Nat} {C : vw_C} {yc : MethodName} {b9 : ByteArray} {r9 : Option FieldType} {f : Nat → Option ((ρ ⊕ Nat) × Wd)} {rv : ρ → Option Value} {k : ρ → Wd → Option β} {h9 : Nat → Wd → Option β} (hc : vwAll[ci]? = some C) (hyC : yc.cls = C.1) (hC : ∀ b r, f b = some r → CtX (fl y) (fK y) F9 L9 yc (ws_ yc b9 m9 r9) (.ref b :: av) w rv r)
    (hG : GoodIn lw_all (wsV own idx C.1 yc (ws_ yc b9 m9 r9))) (hdn : okDesc yc n) (hn : av.length = n) (hroom : F9 + 1 ≤ F ∧ 8 + (m9 + 11) + L9 ≤ L) (hst : st = av.reverse ++ va_rf rr :: rest) (hcat : (rest.map fun v => v.category).sum ≤ 8) (hd : decode cc pc = .ok (.invokevirtual idx, 3)) (kk : ∀ v w', V y w' lc ((rv v).toList ++ rest) (pc + 3) (k v w')) (kh : ∀ q w', V y w' lc [va_rf (some q)] x.handlerPc (h9 q w')) : V y w lc st pc ((recv w rr ci).bind fun b => (calx w (f b)).bind fun r => bc r k h9) := by
  refine V_bind fun b hb => V_bind fun r hr => ?_
  obtain ⟨rfl, hbc⟩ := recv_spec hb
  obtain ⟨h1, h2, h3⟩ := calx_spec hr
  refine V_callGX (rv9 := rv) (rest := rest) (r9 := r) hk h2 (fun H locs ls cells slots hH hE hU hls hf => ⟨(Value.ref (kL (fK y) b) :: cvs (fK y) av).toArray, ?_⟩) (fun v hv => ?_) (fun q hq r' hr' => ?_)
  · refine vq_runV ⟨hk.1, hk.2.1, hk.2.2.1, hk.2.2.2.2.1, hk.2.2.2.2.2.1⟩ (hC b r h1) (cwV n hk.2.2.2.2.2.1 hG rfl rfl rfl ⟨hyC, hdn⟩ ⟨by rw [hk.2.2.2.2.2.2.2.2.1]; exact hroom.1, by rw [hk.2.2.2.2.2.2.2.2.2.1]; exact hroom.2⟩) (b := kL (fK y) b) (As := cvs (fK y) av) ⟨PcP_blind _ _ _, recv_cell hk hH hc hbc, fun U hU1 hU2 => ⟨rfl, hU U hU1 hU2⟩⟩ rfl (by rw [List.length_map]; exact hn) hls (by rw [hst]; exact cvs_rev _ _ _) ?_ hd hf
    exact lv_room (by rw [cvs_cat]; exact hcat)
  · have e : bc r k h9 = k v r.2 := by unfold bc; rw [hv]
    rw [e]
    exact kk v r.2
  · have e : bc r k h9 = h9 q r.2 := by unfold bc; rw [hq]
    rw [e] at hr'
    obtain ⟨k1, k2⟩ := kh q r.2 r' hr'
    refine ⟨k1, fun H locs ls ce hp hl hce hcv hcl => ?_⟩
    refine vq_catch hk.2.2.2.2.1 [] x suf htab (fun z hz => by cases hz) hcov h0 (hk.2.2.2.2.2.1 _ hql) (va_Nw.use rfl (cast_at hk q481)) hce hcv hcl ?_
    exact k2 H locs ls hp hl
end VHC
theorem Met_ofWH {l : Launch} {y : MethodName} {ws ws' : List Cond} {rm : Room} {Pc : Array Value → State → Prop} {Qc : Array Value → State → Outcome → State → Prop} {mc ms : Nat} {free : Addr → Prop} {cc : ByteArray} {maxL : Nat} {ret : Option FieldType} {hh : List (Nat × Nat × Nat × Nat)}
    (hy : plainName y.cls = true) (hw : ws = Cond.codeWith y cc maxL ret hh :: ws')
    (body : ∀ p e s m args below meth c s₁, BodyLoose p l y (headSpec ws rm) cc maxL ret e s m args below meth c s₁ → c.maxLocals = maxL → c.exceptionTable.toList = tableOf hh → Pc args s →
      W p l e (headSpec ws rm).room s m args below meth c s.heap [] 0 0 (MQ below Qc args s mc ms free) (entryFrame m args maxL)) : Met l y ws rm Pc Qc mc ms free := by
  refine MetFree.of_bodyS (code := cc) (maxLocals := maxL) (ret := ret) hy ?_ ?_
  · intro args s m h hn
    obtain ⟨m9, meth, c, hn9, h1, h2, h3, h4, -, h5, h6, -⟩ := Cond.codeWith_spec (atoms_spec (ws := ws) h _ (by rw [hw]; exact List.mem_cons_self))
    cases hn.symm.trans hn9
    exact ⟨meth, c, h1, h2, h3, h4, h5, h6⟩
  · intro p e s m args below meth c s₁ B hml hP _
    have hh0 : s₁.heap = s.heap := by rw [B.state]; rfl
    obtain ⟨t, a1, o, b1, b2, b3⟩ := body p e s m args below meth c s₁ B hml (vq_table (x := y) B (atoms_spec (ws := ws) B.pre _ (by rw [hw]; exact List.mem_cons_self))) hP s₁ hh0 (Stand.of_body B)
    exact ⟨t, o, a1, b1, b2, b3⟩
/-- a contract of a method with handlers that only returns -/
theorem CtW_of {ρ : Type} {comp : Option (ρ × Wd)} (rv : ρ → Option Value) (l : Launch) (K : Kx) (hI : Ini K) (F L : Nat) {yy : MethodName} {cc : ByteArray} {nL : Nat} {ret : Option FieldType} {hh : List (Nat × Nat × Nat × Nat)} (av : List Value) (w : Wd) (hy : plainName yy.cls = true) {lc0 : List (Nat × Value)} (hlc : lv_args 0 av = lc0) (hn : (lg_sl (cvs K av)).length ≤ nL)
    (body : ∀ y : Fx (ρ × Wd), OkF y yy.cls cc nL F L → RetM y rv ret → fl y = l → fK y = K → (fmeth y).name = yy.name → (fc y).exceptionTable.toList = tableOf hh → V y w lc0 [] 0 comp) : ∀ r, comp = some r → Ct l K F L yy (wsW_ yy cc nL ret hh) av w (rv r.1) r.2 := by
  intro r hr
  refine Met_ofWH (cc := cc) (maxL := nL) (ret := ret) (hh := hh) hy rfl ?_
  intro p e s m args below meth c s₁ B hml htab hP
  have hts := atoms_spec (ws := wsW_ yy cc nL ret hh) B.pre
  have hok : OkF (β := ρ × Wd) (K, (p, l, e, rmP F L w r.2, s, m, args, below, meth, c), nL, (fun r9 => MQ below (QcP K (rv r9.1) r9.2) args s (wnx r.2 - wnx w) (wsl r.2 - wsl w) (Afr K)), Prod.snd, w) yy.cls cc nL F L :=
    ⟨B.exec, B.bytes, hml, rfl, findClass_of_methodNamed B.named, fun w h => hts w (List.mem_cons_of_mem _ h), hP.2.1, hI, rfl, rfl, B.notSynchronized⟩
  obtain ⟨h1, h2⟩ := body _ hok ⟨rfl, rfl, B.returns⟩ rfl rfl (name_of_methodNamed B.named B.method).1 htab r hr
  obtain ⟨rfl, hE, hH⟩ := hP
  rw [lg_entry_eq]
  have hl := lv_entry (cvs K av) (n := nL) hn
  rw [lv_args_cv, hlc] at hl
  obtain ⟨h1a, h1b⟩ := h1
  have h3 := h2 s.heap [] _ ⟨Nat.sub_add_cancel h1a, Nat.sub_add_cancel h1b, Nat.le_refl _, Nat.le_refl _, hH, va_S.rf⟩ hl
  have e1 : wnx w - wnx (fw0 (β := ρ × Wd) (K, (p, l, e, rmP F L w r.2, s, m, (cvs K av).toArray, below, meth, c), nL, (fun r9 => MQ below (QcP K (rv r9.1) r9.2) (cvs K av).toArray s (wnx r.2 - wnx w) (wsl r.2 - wsl w) (Afr K)), Prod.snd, w)) = 0 := Nat.sub_self _
  have e2 : wsl w - wsl (fw0 (β := ρ × Wd) (K, (p, l, e, rmP F L w r.2, s, m, (cvs K av).toArray, below, meth, c), nL, (fun r9 => MQ below (QcP K (rv r9.1) r9.2) (cvs K av).toArray s (wnx r.2 - wnx w) (wsl r.2 - wsl w) (Afr K)), Prod.snd, w)) = 0 := Nat.sub_self _
  unfold WV at h3
  rw [e1, e2] at h3
  exact h3
