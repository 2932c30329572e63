/-! ===== contracts ===== -/
def QcP (K : Kx) (v : Option Value) (w' : Wd) : Array Value → State → Outcome → State → Prop := fun _ st o t => o = .returned (v.map (cv (kL K))) ∧ HP K w' t.heap ∧ va_F (Afr K) st t
def PcP (K : Kx) (av : List Value) (w : Wd) : Array Value → State → Prop := va_Pc (cvs K av) (fun U => EnvK K U ∧ HP K w U.heap)
theorem PcP_blind (K : Kx) (av : List Value) (w : Wd) : FrameBlind (PcP K av w) := fun a U g mk h => ⟨h.1, h.2.1, h.2.2⟩
abbrev rmP (F L : Nat) (w w' : Wd) : Room := { frames := F, cells := wnx w' - wnx w, slots := wsl w' - wsl w, locals := L }
/-- a method's contract: from the world w with these arguments it returns v and leaves the world w' -/
def Ct (l : Launch) (K : Kx) (F L : Nat) (y : MethodName) (ws : List Cond) (av : List Value) (w : Wd) (v : Option Value) (w' : Wd) : Prop :=
  Met l y ws (rmP F L w w') (PcP K av w) (QcP K v w') (wnx w' - wnx w) (wsl w' - wsl w) (Afr K)
/-- a method's end: its answer and its world -/
def RetM {ρ : Type} (y : Fx (ρ × Wd)) (rv : ρ → Option Value) (ret : Option FieldType) : Prop :=
  fwo y = Prod.snd ∧ (fG y = fun r => MQ (fbelow y) (QcP (fK y) (rv r.1) r.2) (fargs y) (fs y) (fR y).cells (fR y).slots (Afr (fK y))) ∧ (fmeth y).sig.returnType = ret
abbrev rvI (x : Int32) : Option Value := some (.int x)
abbrev rvJ (x : Int64) : Option Value := some (.long x)
abbrev rvR (x : Option Nat) : Option Value := some (va_rf x)
abbrev rvV (_ : Unit) : Option Value := none
theorem lv_args_cv (K : Kx) : ∀ (av : List Value) (i : Nat), lv_args i (cvs K av) = lcv K (lv_args i av)
  | [], _ => rfl
  | v :: av, i => by
    show (i, cv (kL K) v) :: lv_args (if (cv (kL K) v).category = 2 then i + 2 else i + 1) (cvs K av) = (i, cv (kL K) v) :: lcv K (lv_args (if v.category = 2 then i + 2 else i + 1) av)
    rw [cv_cat, lv_args_cv K av]
theorem Ct_of {ρ : Type} {comp : Option (ρ × Wd)} (rv : ρ → Option Value) (l : Launch) (K : Kx) (hI : Ini K) (F L : Nat) {yy : MethodName} {cc : ByteArray} {nL : Nat} {ret : Option FieldType} (av : List Value) (w : Wd) (hy : plainName yy.cls = true) {lc0 : List (Nat × Value)} (hlc : lv_args 0 av = lc0) (hn : (lg_sl (cvs K av)).length ≤ nL)
    (body : ∀ y : Fx (ρ × Wd), OkF y yy.cls cc nL F L → RetM y rv ret → fl y = l → fK y = K → (fmeth y).name = yy.name → V y w lc0 [] 0 comp) : ∀ r, comp = some r → Ct l K F L yy (ws_ yy cc nL ret) av w (rv r.1) r.2 := by
  intro r hr
  refine Met.ofW (cc := cc) (maxL := nL) (ret := ret) hy rfl ?_
  intro p e s m args below meth c s₁ B hml hP
  have hts := atoms_spec (ws := ws_ yy cc nL ret) B.pre
  have hok : OkF (β := ρ × Wd) (K, (p, l, e, rmP F L w r.2, s, m, args, below, meth, c), nL, (fun r9 => MQ below (QcP K (rv r9.1) r9.2) args s (wnx r.2 - wnx w) (wsl r.2 - wsl w) (Afr K)), Prod.snd, w) yy.cls cc nL F L :=
    ⟨B.exec, B.bytes, hml, rfl, findClass_of_methodNamed B.named, fun w h => hts w (List.mem_cons_of_mem _ h), hP.2.1, hI, rfl, rfl, B.notSynchronized⟩
  obtain ⟨h1, h2⟩ := body _ hok ⟨rfl, rfl, B.returns⟩ rfl rfl (name_of_methodNamed B.named B.method).1 r hr
  obtain ⟨rfl, hE, hH⟩ := hP
  rw [lg_entry_eq]
  have hl := lv_entry (cvs K av) (n := nL) hn
  rw [lv_args_cv, hlc] at hl
  obtain ⟨h1a, h1b⟩ := h1
  have h3 := h2 s.heap [] _ ⟨Nat.sub_add_cancel h1a, Nat.sub_add_cancel h1b, Nat.le_refl _, Nat.le_refl _, hH, va_S.rf⟩ hl
  have e1 : wnx w - wnx (fw0 (β := ρ × Wd) (K, (p, l, e, rmP F L w r.2, s, m, (cvs K av).toArray, below, meth, c), nL, (fun r9 => MQ below (QcP K (rv r9.1) r9.2) (cvs K av).toArray s (wnx r.2 - wnx w) (wsl r.2 - wsl w) (Afr K)), Prod.snd, w)) = 0 := Nat.sub_self _
  have e2 : wsl w - wsl (fw0 (β := ρ × Wd) (K, (p, l, e, rmP F L w r.2, s, m, (cvs K av).toArray, below, meth, c), nL, (fun r9 => MQ below (QcP K (rv r9.1) r9.2) (cvs K av).toArray s (wnx r.2 - wnx w) (wsl r.2 - wsl w) (Afr K)), Prod.snd, w)) = 0 := Nat.sub_self _
  unfold WV at h3
  rw [e1, e2] at h3
  exact h3
section VRet
variable {ρ : Type} {y : Fx (ρ × Wd)} {own : String} {cc : ByteArray} {nL F L : Nat} {w : Wd} {lc : List (Nat × Value)} {pc : Nat} {rv : ρ → Option Value} {ret : Option FieldType}
/-- the frame of the return rows -/
theorem V_retG (hk : OkF y own cc nL F L) (hR : RetM y rv ret) {v : ρ} {st : List Value} (hgo : ∀ (H : Heap) (locs : List Loc) (ls : Array Slot), (∀ t : State, t.heap = H → (fs y).WarmedH t.vm → QcP (fK y) (rv v) w (fargs y) (fs y) (.returned ((rv v).map (cv (kL (fK y))))) t) → (∀ q ∈ locs, Afr (fK y) q.base) →
    W (fp y) (fl y) (fe y) (fR y) (fs y) (fm y) (fargs y) (fbelow y) (fmeth y) (fc y) H locs (fR y).cells (fR y).slots (MQ (fbelow y) (QcP (fK y) (rv v) w) (fargs y) (fs y) (fR y).cells (fR y).slots (Afr (fK y))) (F0 (fm y) pc ls (cvs (fK y) st))) : V y w lc st pc (some (v, w)) := by
  intro r hr
  cases hr
  have hwo : fwo y (v, w) = w := by rw [hR.1]
  refine ⟨⟨by rw [hwo]; exact Nat.le_refl _, by rw [hwo]; exact Nat.le_refl _⟩, fun H locs ls hp hl => ?_⟩
  obtain ⟨p1, p2, p3, p4, hH, hS⟩ := hp
  rw [hwo] at p1 p2
  have e1 : wnx w - wnx (fw0 y) = (fR y).cells := by omega
  have e2 : wsl w - wsl (fw0 y) = (fR y).slots := by omega
  unfold WV
  rw [e1, e2, hR.2.1]
  exact hgo H locs ls (fun t ht _ => ⟨rfl, by rw [ht]; exact hH, hS.F ht⟩) hS.2.2
theorem V_ireturn (hk : OkF y own cc nL F L) (hR : RetM y rv (some .int)) {v : ρ} {x : Int32} (hv : rv v = some (.int x)) (hd : decode cc pc = .ok (.ireturn, 1)) : V y w lc [.int x] pc (some (v, w)) :=
  V_retG hk hR fun H locs ls h1 h2 => W.iret hk.1 hk.2.1 hR.2.2 (fun t a b => by have := h1 t a b; rw [hv] at this ⊢; exact this) h2 hd hk.2.2.2.2.2.2.2.2.2.2
/-- an int that is one of a narrower type -/
def nok (ty : FieldType) (x : Int32) : Option Unit := if narrow ty (.int x) = .int x then some () else none
theorem V_zreturn (hk : OkF y own cc nL F L) {ty : FieldType} (hR : RetM y rv (some ty)) {v : ρ} {x : Int32} (hv : rv v = some (.int x)) (hd : decode cc pc = .ok (.ireturn, 1)) : V y w lc [.int x] pc ((nok ty x).bind fun _ => some (v, w)) := by
  refine V_bind fun u hu => ?_
  unfold nok at hu
  split at hu
  · rename_i hn
    exact V_retG hk hR fun H locs ls h1 h2 => W.zret hk.1 hk.2.1 hR.2.2 hn (fun t a b => by have := h1 t a b; rw [hv] at this ⊢; exact this) h2 hd hk.2.2.2.2.2.2.2.2.2.2
  · cases hu
theorem V_lreturn (hk : OkF y own cc nL F L) (hR : RetM y rv (some .long)) {v : ρ} {x : Int64} (hv : rv v = some (.long x)) (hd : decode cc pc = .ok (.lreturn, 1)) : V y w lc [.long x] pc (some (v, w)) :=
  V_retG hk hR fun H locs ls h1 h2 => W.lret hk.1 hk.2.1 hR.2.2 (fun t a b => by have := h1 t a b; rw [hv] at this ⊢; exact this) h2 hd hk.2.2.2.2.2.2.2.2.2.2
theorem V_return (hk : OkF y own cc nL F L) (hR : RetM y rv none) {v : ρ} (hv : rv v = none) (hd : decode cc pc = .ok (.return_, 1)) : V y w lc [] pc (some (v, w)) :=
  V_retG hk hR fun H locs ls h1 h2 => W.vret hk.1 hk.2.1 hR.2.2 (fun t a b => by have := h1 t a b; rw [hv] at this ⊢; exact this) h2 hd hk.2.2.2.2.2.2.2.2.2.2
theorem V_areturn (hk : OkF y own cc nL F L) {rt : FieldType} (hrt : (∃ n, rt = .object n) ∨ ∃ t, rt = .array t) (hR : RetM y rv (some rt)) {v : ρ} {x : Option Nat} (hv : rv v = some (va_rf x)) (hd : decode cc pc = .ok (.areturn, 1)) : V y w lc [va_rf x] pc (some (v, w)) :=
  V_retG hk hR fun H locs ls h1 h2 => W.aret hk.1 hk.2.1 hR.2.2 hrt (by cases x with | none => exact Or.inl rfl | some a => exact Or.inr ⟨_, rfl⟩) (fun t a b => by have := h1 t a b; rw [hv] at this ⊢; exact this) h2 hd hk.2.2.2.2.2.2.2.2.2.2
end VRet
/-- a call: the world doesn't shrink -/
def cal {ρ : Type} (w : Wd) (f : Option (ρ × Wd)) : Option (ρ × Wd) := f.bind fun r => if wnx w ≤ wnx r.2 ∧ wsl w ≤ wsl r.2 then some r else none
theorem cal_spec {ρ : Type} {w : Wd} {f : Option (ρ × Wd)} {r : ρ × Wd} (h : cal w f = some r) : f = some r ∧ wnx w ≤ wnx r.2 ∧ wsl w ≤ wsl r.2 := by
  unfold cal at h
  obtain ⟨r', h1, h2⟩ := Option.bind_eq_some_iff.mp h
  split at h2
  · rename_i hc
    cases h2
    exact ⟨h1, hc.1, hc.2⟩
  · cases h2
/-- the receiver, an object of the class -/
def recv (w : Wd) (r : Option Nat) (ci : Nat) : Option Nat := r.bind fun b => (ob w (some b) ci).bind fun _ => some b
theorem recv_spec {w : Wd} {r : Option Nat} {ci b : Nat} (h : recv w r ci = some b) : r = some b ∧ ∃ fs', w.1 b = some (.inr (ci, fs')) := by
  unfold recv at h
  obtain ⟨b', h1, h2⟩ := Option.bind_eq_some_iff.mp h
  obtain ⟨fs', h3, h4⟩ := Option.bind_eq_some_iff.mp h2
  cases h4
  obtain ⟨a, h5, h6⟩ := ob_spec h3
  cases h5
  exact ⟨h1, fs', h6⟩
section VC
variable {β ρ : Type} {y : Fx β} {own : String} {cc : ByteArray} {nL F L : Nat} {w : Wd} {lc : List (Nat × Value)} {pc : Nat} {comp : Option β}
theorem V_callG (hk : OkF y own cc nL F L) {w9 : Wd} {v9 : Option Value} {st rest : List Value} (hw : wnx w ≤ wnx w9 ∧ wsl w ≤ wsl w9)
    (hrun : ∀ (H : Heap) (locs : List Loc) (ls : Array Slot) (cells slots : Nat), HP (fK y) w H → EnvK (fK y) (fs y) → (∀ U : State, U.heap = H → (fs y).WarmedH U.vm → EnvK (fK y) U ∧ HP (fK y) w U.heap) → ls.size = nL → cells + (wnx w9 - wnx w) ≤ (fR y).cells ∧ slots + (wsl w9 - wsl w) ≤ (fR y).slots →
      ∃ a, va_Run (fp y) (fl y) (fe y) (fR y) (fs y) (fm y) (fargs y) (fbelow y) (fmeth y) (fc y) H locs cells slots (wnx w9 - wnx w) (wsl w9 - wsl w) (F0 (fm y) pc ls (cvs (fK y) st)) (cvs (fK y) rest) (QcP (fK y) v9 w9 a) (Afr (fK y)))
    (kk : V y w9 lc (v9.toList ++ rest) (pc + 3) comp) : V y w lc st pc comp := by
  intro r hr
  obtain ⟨h1, h2⟩ := kk r hr
  refine ⟨⟨Nat.le_trans hw.1 h1.1, Nat.le_trans hw.2 h1.2⟩, fun H locs ls hp hl => ?_⟩
  obtain ⟨p1, p2, p3, p4, hH, hS⟩ := hp
  have hE := hk.2.2.2.2.2.2.1
  obtain ⟨a, hrun⟩ := hrun H locs ls (wnx w - wnx (fw0 y)) (wsl w - wsl (fw0 y)) hH hE (fun U hU hW => ⟨⟨State.WarmedH.trans hE.1 hW, by rw [hU]; exact Nat.le_trans hE.2.1 hS.1, fun q hq => by rw [hU, hS.2.1 q (Nat.lt_of_lt_of_le hq hE.2.1) (fun z => by have z' : (kS (fK y)).heap.size ≤ q := z; omega)]; exact hE.2.2 q hq⟩, by rw [hU]; exact hH⟩) (by rw [hl.1]; exact hk.2.2.2.1) ⟨by have := h1.1; have := hw.1; omega, by have := h1.2; have := hw.2; omega⟩
  intro T hT X
  obtain ⟨v, st₀, t, T', Lc, h0, X', hL, e1, e2, ⟨hv, hH', hF⟩, step⟩ := hrun T hT X
  cases hv
  obtain ⟨hF1, hF2⟩ := hF
  rw [h0] at hF1 hF2
  have hS' : va_S (Afr (fK y)) (fs y).heap T'.heap (locs ++ Lc) := ⟨Nat.le_trans hS.1 (by rw [e1]; exact hF1), fun q h1 h2 => by rw [e1, hF2 q (Nat.lt_of_lt_of_le h1 hS.1) h2]; exact hS.2.1 q h1 h2, fun q hq => by
    rcases List.mem_append.mp hq with h | h
    · exact hS.2.2 q h
    · exact hL q h⟩
  have h3 := h2 T'.heap (locs ++ Lc) ls ⟨p1, p2, Nat.le_trans p3 hw.1, Nat.le_trans p4 hw.2, by rw [e1]; exact hH', hS'⟩ hl
  have e3 : wnx w9 - wnx (fw0 y) = wnx w - wnx (fw0 y) + (wnx w9 - wnx w) := by have := hw.1; omega
  have e4 : wsl w9 - wsl (fw0 y) = wsl w - wsl (fw0 y) + (wsl w9 - wsl w) := by have := hw.2; omega
  unfold WV at h3
  rw [e3, e4] at h3
  obtain ⟨t2, a1, b1⟩ := h3 T' rfl X'
  refine ⟨t2, step t2 ?_, b1⟩
  have e5 : cvs (fK y) (v9.toList ++ rest) = (v9.map (cv (kL (fK y)))).toList ++ cvs (fK y) rest := by cases v9 <;> rfl
  rw [e5] at a1
  exact a1
theorem cvs_rev (K : Kx) (a : List Value) (r : List Value) : cvs K (a.reverse ++ r) = (cvs K a).reverse ++ cvs K r := by simp [cvs]
theorem cvs_cat (K : Kx) (a : List Value) : ((cvs K a).map fun v => v.category) = a.map fun v => v.category := by simp [cvs, cv_cat]
abbrev okDesc (yc : MethodName) (n : Nat) : Prop := yc.cls ≠ "java/lang/invoke/MethodHandle" ∧ yc.cls ≠ "java/lang/invoke/VarHandle" ∧ (parseMethodDescriptor yc.desc).map (fun d => d.parameters.length) = some n
theorem V_invS (hk : OkF y own cc nL F L) {av rest st : List Value} {idx n F9 L9 m9 : Nat} {yc : MethodName} {b9 : ByteArray} {r9 : Option FieldType} {f : Option (ρ × Wd)} {rv : ρ → Option Value} {k : ρ × Wd → Option β} (hC : ∀ r, f = some r → Ct (fl y) (fK y) F9 L9 yc (ws_ yc b9 m9 r9) av w (rv r.1) r.2)
    (hG : GoodIn lw_all (va_wsS own idx yc (ws_ yc b9 m9 r9))) (hdn : okDesc yc n) (hn : av.length = n) (hroom : F9 + 1 ≤ F ∧ 8 + (m9 + 11) + L9 ≤ L) (hst : st = av.reverse ++ rest) (hcat : (rest.map fun v => v.category).sum ≤ 8) (hd : decode cc pc = .ok (.invokestatic idx, 3)) (kk : ∀ r, V y r.2 lc ((rv r.1).toList ++ rest) (pc + 3) (k r)) : V y w lc st pc ((cal w f).bind k) := by
  refine V_bind fun r hr => ?_
  obtain ⟨h1, h2⟩ := cal_spec hr
  refine V_callG hk h2 (fun H locs ls cells slots hH hE hU hls hf => ⟨(cvs (fK y) av).toArray, ?_⟩) (kk r)
  refine va_runS ⟨hk.1, hk.2.1, hk.2.2.1, hk.2.2.2.2.1, hk.2.2.2.2.2.1⟩ (hC r h1) (va_cwS n hk.2.2.2.2.2.1 hG rfl rfl rfl hdn ⟨by rw [hk.2.2.2.2.2.2.2.2.1]; exact hroom.1, by rw [hk.2.2.2.2.2.2.2.2.2.1]; exact hroom.2⟩) (As := cvs (fK y) av) ⟨PcP_blind _ _ _, fun U hU1 hU2 => ⟨rfl, hU U hU1 hU2⟩⟩ rfl (by rw [List.length_map]; exact hn) hls (by rw [hst]; exact cvs_rev _ _ _) ?_ hd hf
  exact lv_room (by rw [cvs_cat]; exact hcat)
theorem recv_cell (hk : OkF y own cc nL F L) {H : Heap} (hH : HP (fK y) w H) {b ci : Nat} {C : vw_C} (hc : vwAll[ci]? = some C) (h : ∃ fs', w.1 b = some (.inr (ci, fs'))) : ∃ cellB : Cell, H[kL (fK y) b]? = some cellB ∧ cellB.vm.isStatics = false ∧ (fs y).vm.findClass C.1 = some cellB.cls := by
  obtain ⟨fs', h⟩ := h
  obtain ⟨cell, d1, d2, d3, C', e1, e2, e3⟩ := hH.wk hk.2.2.2.2.2.2.2.1 h
  have hCC : C' = C := Option.some.inj (e1.symm.trans hc)
  subst hCC
  exact ⟨cell, d1, d3, by rw [(EnvK.alike hk.2.2.2.2.2.2.1).findClass]; exact e2⟩
theorem V_invV (hk : OkF y own cc nL F L) {av rest st : List Value} {idx n F9 L9 m9 ci : Nat} {rr : Option Nat} {C : vw_C} {yc : MethodName} {b9 : ByteArray} {r9 : Option FieldType} {f : Nat → Option (ρ × Wd)} {rv : ρ → Option Value} {k : ρ × Wd → Option β} (hc : vwAll[ci]? = some C) (hyC : yc.cls = C.1) (hC : ∀ b r, f b = some r → Ct (fl y) (fK y) F9 L9 yc (ws_ yc b9 m9 r9) (.ref b :: av) w (rv r.1) r.2)
    (hG : GoodIn lw_all (wsV own idx C.1 yc (ws_ yc b9 m9 r9))) (hdn : okDesc yc n) (hn : av.length = n) (hroom : F9 + 1 ≤ F ∧ 8 + (m9 + 11) + L9 ≤ L) (hst : st = av.reverse ++ va_rf rr :: rest) (hcat : (rest.map fun v => v.category).sum ≤ 8) (hd : decode cc pc = .ok (.invokevirtual idx, 3)) (kk : ∀ r, V y r.2 lc ((rv r.1).toList ++ rest) (pc + 3) (k r)) : V y w lc st pc ((recv w rr ci).bind fun b => (cal w (f b)).bind k) := by
  refine V_bind fun b hb => V_bind fun r hr => ?_
  obtain ⟨rfl, hbc⟩ := recv_spec hb
  obtain ⟨h1, h2⟩ := cal_spec hr
  refine V_callG hk h2 (fun H locs ls cells slots hH hE hU hls hf => ⟨(Value.ref (kL (fK y) b) :: cvs (fK y) av).toArray, ?_⟩) (kk r)
  refine va_runV ⟨hk.1, hk.2.1, hk.2.2.1, hk.2.2.2.2.1, hk.2.2.2.2.2.1⟩ (hC b r h1) (cwV n hk.2.2.2.2.2.1 hG rfl rfl rfl ⟨hyC, hdn⟩ ⟨by rw [hk.2.2.2.2.2.2.2.2.1]; exact hroom.1, by rw [hk.2.2.2.2.2.2.2.2.2.1]; exact hroom.2⟩) (b := kL (fK y) b) (As := cvs (fK y) av) ⟨PcP_blind _ _ _, recv_cell hk hH hc hbc, fun U hU1 hU2 => ⟨rfl, hU U hU1 hU2⟩⟩ rfl (by rw [List.length_map]; exact hn) hls (by rw [hst]; exact cvs_rev _ _ _) ?_ hd hf
  exact lv_room (by rw [cvs_cat]; exact hcat)
theorem V_invI (hk : OkF y own cc nL F L) {av rest st : List Value} {idx n F9 L9 m9 : Nat} {rr : Option Nat} {yc : MethodName} {b9 : ByteArray} {f : Nat → Option (ρ × Wd)} {rv : ρ → Option Value} {k : ρ × Wd → Option β} (hC : ∀ b r, f b = some r → Ct (fl y) (fK y) F9 L9 yc (ws_ yc b9 m9 none) (.ref b :: av) w (rv r.1) r.2)
    (hG : GoodIn lw_all (ws_ yc b9 m9 none)) (hq1 : Cond.initialized yc.cls ∈ lw_all) (hq2 : Cond.methodLink own idx yc ∈ lw_all) (hq3 : Cond.instanceMethod yc ∈ lw_all) (hy1 : yc.name = "<init>") (hdn : okDesc yc n) (hn : av.length = n) (hroom : F9 + 1 ≤ F ∧ 8 + (m9 + 11) + L9 ≤ L) (hst : st = av.reverse ++ va_rf rr :: rest) (hcat : (rest.map fun v => v.category).sum ≤ 8) (hd : decode cc pc = .ok (.invokespecial idx, 3)) (kk : ∀ r, V y r.2 lc ((rv r.1).toList ++ rest) (pc + 3) (k r)) : V y w lc st pc (rr.bind fun b => (cal w (f b)).bind k) := by
  refine V_bind fun b hb => V_bind fun r hr => ?_
  subst hb
  obtain ⟨h1, h2⟩ := cal_spec hr
  have hts := hk.2.2.2.2.2.1
  refine V_callG hk h2 (fun H locs ls cells slots hH hE hU hls hf => ⟨(Value.ref (kL (fK y) b) :: cvs (fK y) av).toArray, ?_⟩) (kk r)
  refine va_runI ⟨hk.1, hk.2.1, hk.2.2.1, hk.2.2.2.2.1, hk.2.2.2.2.2.1⟩ (hC b r h1) (cwI n hts hG rfl rfl rfl (hts _ hq1) (hts _ hq2) (hts _ hq3) hy1 hdn ⟨by rw [hk.2.2.2.2.2.2.2.2.1]; exact hroom.1, by rw [hk.2.2.2.2.2.2.2.2.2.1]; exact hroom.2⟩) (b := kL (fK y) b) (As := cvs (fK y) av) ⟨PcP_blind _ _ _, fun U hU1 hU2 => ⟨rfl, hU U hU1 hU2⟩⟩ rfl (by rw [List.length_map]; exact hn) hls (by rw [hst]; exact cvs_rev _ _ _) ?_ hd hf
  exact lv_room (by rw [cvs_cat]; exact hcat)
theorem nestM (hk : OkF y own cc nL F L) {own' host : String} {idx : Nat} {yc : MethodName} (h : Cond.methodLinkNest own' idx yc host ∈ lw_tbl) : va_Nw (.methodLinkNest own' idx yc host) (fs y) := by
  obtain ⟨A0, h0⟩ := hk.2.2.2.2.2.2.2.1.2.2.2.1
  exact (va_Nw.of rfl (h0 _ h)).warmM hk.2.2.2.2.2.2.1.1
theorem V_invSN (hk : OkF y own cc nL F L) {av rest st : List Value} {idx n F9 L9 m9 : Nat} {host : String} {yc : MethodName} {b9 : ByteArray} {r9 : Option FieldType} {f : Option (ρ × Wd)} {rv : ρ → Option Value} {k : ρ × Wd → Option β} (hC : ∀ r, f = some r → Ct (fl y) (fK y) F9 L9 yc (ws_ yc b9 m9 r9) av w (rv r.1) r.2)
    (hG : GoodIn lw_all (ws_ yc b9 m9 r9)) (hl9 : Cond.methodLinkNest own idx yc host ∈ lw_tbl) (hq1 : Cond.initialized yc.cls ∈ lw_all) (hq2 : Cond.static yc ∈ lw_all) (hdn : okDesc yc n) (hn : av.length = n) (hroom : F9 + 1 ≤ F ∧ 8 + (m9 + 11) + L9 ≤ L) (hst : st = av.reverse ++ rest) (hcat : (rest.map fun v => v.category).sum ≤ 8) (hd : decode cc pc = .ok (.invokestatic idx, 3)) (kk : ∀ r, V y r.2 lc ((rv r.1).toList ++ rest) (pc + 3) (k r)) : V y w lc st pc ((cal w f).bind k) := by
  refine V_bind fun r hr => ?_
  obtain ⟨h1, h2⟩ := cal_spec hr
  have hts := hk.2.2.2.2.2.1
  refine V_callG hk h2 (fun H locs ls cells slots hH hE hU hls hf => ⟨(cvs (fK y) av).toArray, ?_⟩) (kk r)
  refine va_runSN ⟨hk.1, hk.2.1, hk.2.2.1, hk.2.2.2.2.1, hk.2.2.2.2.2.1⟩ (hC r h1) ⟨va_cnB n hts hG rfl rfl rfl (nestM hk hl9) (hts _ hq1) hdn ⟨by rw [hk.2.2.2.2.2.2.2.2.1]; exact hroom.1, by rw [hk.2.2.2.2.2.2.2.2.2.1]; exact hroom.2⟩, hts _ hq2, trivial⟩ (As := cvs (fK y) av) ⟨PcP_blind _ _ _, fun U hU1 hU2 => ⟨rfl, hU U hU1 hU2⟩⟩ rfl (by rw [List.length_map]; exact hn) hls (by rw [hst]; exact cvs_rev _ _ _) ?_ hd hf
  exact lv_room (by rw [cvs_cat]; exact hcat)
theorem V_invIN (hk : OkF y own cc nL F L) {av rest st : List Value} {idx n F9 L9 m9 : Nat} {host : String} {rr : Option Nat} {yc : MethodName} {b9 : ByteArray} {f : Nat → Option (ρ × Wd)} {rv : ρ → Option Value} {k : ρ × Wd → Option β} (hC : ∀ b r, f b = some r → Ct (fl y) (fK y) F9 L9 yc (ws_ yc b9 m9 none) (.ref b :: av) w (rv r.1) r.2)
    (hG : GoodIn lw_all (ws_ yc b9 m9 none)) (hl9 : Cond.methodLinkNest own idx yc host ∈ lw_tbl) (hq1 : Cond.initialized yc.cls ∈ lw_all) (hq3 : Cond.instanceMethod yc ∈ lw_all) (hy1 : yc.name = "<init>") (hdn : okDesc yc n) (hn : av.length = n) (hroom : F9 + 1 ≤ F ∧ 8 + (m9 + 11) + L9 ≤ L) (hst : st = av.reverse ++ va_rf rr :: rest) (hcat : (rest.map fun v => v.category).sum ≤ 8) (hd : decode cc pc = .ok (.invokespecial idx, 3)) (kk : ∀ r, V y r.2 lc ((rv r.1).toList ++ rest) (pc + 3) (k r)) : V y w lc st pc (rr.bind fun b => (cal w (f b)).bind k) := by
  refine V_bind fun b hb => V_bind fun r hr => ?_
  subst hb
  obtain ⟨h1, h2⟩ := cal_spec hr
  have hts := hk.2.2.2.2.2.1
  refine V_callG hk h2 (fun H locs ls cells slots hH hE hU hls hf => ⟨(Value.ref (kL (fK y) b) :: cvs (fK y) av).toArray, ?_⟩) (kk r)
  refine va_runIN ⟨hk.1, hk.2.1, hk.2.2.1, hk.2.2.2.2.1, hk.2.2.2.2.2.1⟩ (hC b r h1) ⟨va_cnB n hts hG rfl rfl rfl (nestM hk hl9) (hts _ hq1) hdn ⟨by rw [hk.2.2.2.2.2.2.2.2.1]; exact hroom.1, by rw [hk.2.2.2.2.2.2.2.2.2.1]; exact hroom.2⟩, hy1, hts _ hq3⟩ (b := kL (fK y) b) (As := cvs (fK y) av) ⟨PcP_blind _ _ _, fun U hU1 hU2 => ⟨rfl, hU U hU1 hU2⟩⟩ rfl (by rw [List.length_map]; exact hn) hls (by rw [hst]; exact cvs_rev _ _ _) ?_ hd hf
  exact lv_room (by rw [cvs_cat]; exact hcat)
end VC
section VO
variable {β : Type} {y : Fx β} {own : String} {cc : ByteArray} {nL F L : Nat} {w : Wd} {lc : List (Nat × Value)} {st : List Value} {pc : Nat}
theorem V_objInit (hk : OkF y own cc nL F L) {rr : Option Nat} {i : Nat} {k : Nat → Option β} (hq : Cond.methodLink own i objectInit ∈ lw_all) (hq2 : Cond.instanceMethod objectInit ∈ lw_all) (hq3 : Cond.code objectInit ⟨#[0xb1]⟩ 1 none ∈ lw_all) (hF : 1 ≤ F ∧ 20 ≤ L) (hcat : (st.map fun v => v.category).sum ≤ 8) (hd : decode cc pc = .ok (.invokespecial i, 3)) (kk : ∀ b, V y w lc st (pc + 3) (k b)) : V y w lc (va_rf rr :: st) pc (rr.bind k) := by
  refine V_bind fun b hb => ?_
  subst hb
  have hts := hk.2.2.2.2.2.1
  intro r hr
  obtain ⟨h1, h2⟩ := kk b r hr
  refine ⟨h1, fun H locs ls hp hl => ?_⟩
  refine W.objInit hk.1 hk.2.1 hk.2.2.2.2.1 (hts _ hq) (hts _ hq2) (hts _ hq3) rfl (by show ls.size = _; rw [hl.1, hk.2.2.2.1, hk.2.2.1]) rfl hd (by rw [hk.2.2.2.2.2.2.2.2.1]; exact hF.1) ?_ (h2 H locs ls hp hl)
  have e1 := lv_room (m := fm y) (pc := pc) (ls := ls) (rest := cvs (fK y) (va_rf (some b) :: st)) (st := cvs (fK y) st) (by rw [cvs_cat]; exact hcat)
  rw [hk.2.2.2.2.2.2.2.2.2.1]
  exact Nat.le_trans (Nat.add_le_add_right e1 12) hF.2
end VO
