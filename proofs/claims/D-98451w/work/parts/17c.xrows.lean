/-! ===== throwing: contracts, rows ===== -/
def QcX {ρ : Type} (K : Kx) (rv : ρ → Option Value) (r : (ρ ⊕ Nat) × Wd) : Array Value → State → Outcome → State → Prop := match r.1 with
  | .inl v => QcP K (rv v) r.2
  | .inr _ => fun _ _ _ _ => False
def XcX {ρ : Type} (K : Kx) (r : (ρ ⊕ Nat) × Wd) : String → Addr → State → State → Prop := match r.1 with
  | .inl _ => fun _ _ _ _ => False
  | .inr k => fun E q st t => E = "HookSwings$Wrong" ∧ q = kL K k ∧ HP K r.2 t.heap ∧ va_F (Afr K) st t
/-- a contract of a method that returns or throws -/
def CtX {ρ : Type} (l : Launch) (K : Kx) (F L : Nat) (y : MethodName) (ws : List Cond) (av : List Value) (w : Wd) (rv : ρ → Option Value) (r : (ρ ⊕ Nat) × Wd) : Prop :=
  vq_Met l y ws (rmP F L w r.2) (PcP K av w) (QcX K rv r) (XcX K r) (wnx r.2 - wnx w) (wsl r.2 - wsl w) (Afr K)
def RetX {ρ : Type} (y : Fx ((ρ ⊕ Nat) × Wd)) (rv : ρ → Option Value) (ret : Option FieldType) : Prop :=
  fwo y = Prod.snd ∧ (fG y = fun r => vq_MQ (fbelow y) (QcX (fK y) rv r) (XcX (fK y) r) (fargs y) (fs y) (fR y).cells (fR y).slots (Afr (fK y))) ∧ (fmeth y).sig.returnType = ret ∧ (∀ x ∈ (fc y).exceptionTable.toList, False)
theorem CtX_of {ρ : Type} {comp : Option ((ρ ⊕ Nat) × Wd)} (rv : ρ → Option Value) (l : Launch) (K : Kx) (hI : Ini K) (F L : Nat) {yy : MethodName} {cc : ByteArray} {nL : Nat} {ret : Option FieldType} (av : List Value) (w : Wd) (hy : plainName yy.cls = true) {lc0 : List (Nat × Value)} (hlc : lv_args 0 av = lc0) (hn : (lg_sl (cvs K av)).length ≤ nL)
    (body : ∀ y : Fx ((ρ ⊕ Nat) × Wd), OkF y yy.cls cc nL F L → RetX y rv ret → fl y = l → fK y = K → (fmeth y).name = yy.name → V y w lc0 [] 0 comp) : ∀ r, comp = some r → CtX l K F L yy (ws_ yy cc nL ret) av w rv r := by
  intro r hr
  refine vq_ofW (cc := cc) (maxL := nL) (ret := ret) hy rfl ?_
  intro p e s m args below meth c s₁ B hml htab hP
  have hts := atoms_spec (ws := ws_ yy cc nL ret) B.pre
  have hok : OkF (β := (ρ ⊕ Nat) × Wd) (K, (p, l, e, rmP F L w r.2, s, m, args, below, meth, c), nL, (fun r9 => vq_MQ below (QcX K rv r9) (XcX K r9) args s (wnx r.2 - wnx w) (wsl r.2 - wsl w) (Afr K)), Prod.snd, w) yy.cls cc nL F L :=
    ⟨B.exec, B.bytes, hml, rfl, findClass_of_methodNamed B.named, fun w h => hts w (List.mem_cons_of_mem _ h), hP.2.1, hI, rfl, rfl, B.notSynchronized⟩
  obtain ⟨h1, h2⟩ := body _ hok ⟨rfl, rfl, B.returns, htab⟩ rfl rfl (name_of_methodNamed B.named B.method).1 r hr
  obtain ⟨rfl, hE, hH⟩ := hP
  rw [lg_entry_eq]
  have hl := lv_entry (cvs K av) (n := nL) hn
  rw [lv_args_cv, hlc] at hl
  obtain ⟨h1a, h1b⟩ := h1
  have h3 := h2 s.heap [] _ ⟨Nat.sub_add_cancel h1a, Nat.sub_add_cancel h1b, Nat.le_refl _, Nat.le_refl _, hH, va_S.rf⟩ hl
  have e1 : wnx w - wnx (fw0 (β := (ρ ⊕ Nat) × Wd) (K, (p, l, e, rmP F L w r.2, s, m, (cvs K av).toArray, below, meth, c), nL, (fun r9 => vq_MQ below (QcX K rv r9) (XcX K r9) (cvs K av).toArray s (wnx r.2 - wnx w) (wsl r.2 - wsl w) (Afr K)), Prod.snd, w)) = 0 := Nat.sub_self _
  have e2 : wsl w - wsl (fw0 (β := (ρ ⊕ Nat) × Wd) (K, (p, l, e, rmP F L w r.2, s, m, (cvs K av).toArray, below, meth, c), nL, (fun r9 => vq_MQ below (QcX K rv r9) (XcX K r9) (cvs K av).toArray s (wnx r.2 - wnx w) (wsl r.2 - wsl w) (Afr K)), Prod.snd, w)) = 0 := Nat.sub_self _
  unfold WV at h3
  rw [e1, e2] at h3
  exact h3
section VXRet
variable {ρ : Type} {y : Fx ((ρ ⊕ Nat) × Wd)} {own : String} {cc : ByteArray} {nL F L : Nat} {w : Wd} {lc : List (Nat × Value)} {st : List Value} {pc : Nat} {rv : ρ → Option Value} {ret : Option FieldType}
theorem V_retGX (hk : OkF y own cc nL F L) (hR : RetX y rv ret) {v : ρ} {st : List Value} (hgo : ∀ (H : Heap) (locs : List Loc) (ls : Array Slot), (∀ t : State, t.heap = H → (fs y).WarmedH t.vm → QcP (fK y) (rv v) w (fargs y) (fs y) (.returned ((rv v).map (cv (kL (fK y))))) t) → (∀ q ∈ locs, Afr (fK y) q.base) →
    W (fp y) (fl y) (fe y) (fR y) (fs y) (fm y) (fargs y) (fbelow y) (fmeth y) (fc y) H locs (fR y).cells (fR y).slots (MQ (fbelow y) (QcP (fK y) (rv v) w) (fargs y) (fs y) (fR y).cells (fR y).slots (Afr (fK y))) (F0 (fm y) pc ls (cvs (fK y) st))) : V y w lc st pc (some (.inl v, w)) := by
  intro r hr
  cases hr
  have hwo : fwo y (.inl v, w) = w := by rw [hR.1]
  refine ⟨⟨by rw [hwo]; exact Nat.le_refl _, by rw [hwo]; exact Nat.le_refl _⟩, fun H locs ls hp hl => ?_⟩
  obtain ⟨p1, p2, p3, p4, hH, hS⟩ := hp
  rw [hwo] at p1 p2
  have e1 : wnx w - wnx (fw0 y) = (fR y).cells := by omega
  have e2 : wsl w - wsl (fw0 y) = (fR y).slots := by omega
  unfold WV
  rw [e1, e2, hR.2.1]
  exact vq_ret (hgo H locs ls (fun t ht _ => ⟨rfl, by rw [ht]; exact hH, hS.F ht⟩) hS.2.2)
theorem V_ireturnX (hk : OkF y own cc nL F L) (hR : RetX y rv (some .int)) {v : ρ} {x : Int32} (hv : rv v = some (.int x)) (hd : decode cc pc = .ok (.ireturn, 1)) : V y w lc [.int x] pc (some (.inl v, w)) :=
  V_retGX hk hR fun H locs ls h1 h2 => W.iret hk.1 hk.2.1 hR.2.2.1 (fun t a b => by have := h1 t a b; rw [hv] at this ⊢; exact this) h2 hd hk.2.2.2.2.2.2.2.2.2.2
theorem V_returnX (hk : OkF y own cc nL F L) (hR : RetX y rv none) {v : ρ} (hv : rv v = none) (hd : decode cc pc = .ok (.return_, 1)) : V y w lc [] pc (some (.inl v, w)) :=
  V_retGX hk hR fun H locs ls h1 h2 => W.vret hk.1 hk.2.1 hR.2.2.1 (fun t a b => by have := h1 t a b; rw [hv] at this ⊢; exact this) h2 hd hk.2.2.2.2.2.2.2.2.2.2
theorem V_areturnX (hk : OkF y own cc nL F L) {rt : FieldType} (hrt : (∃ n, rt = .object n) ∨ ∃ t, rt = .array t) (hR : RetX y rv (some rt)) {v : ρ} {x : Option Nat} (hv : rv v = some (va_rf x)) (hd : decode cc pc = .ok (.areturn, 1)) : V y w lc [va_rf x] pc (some (.inl v, w)) :=
  V_retGX hk hR fun H locs ls h1 h2 => W.aret hk.1 hk.2.1 hR.2.2.1 hrt (by cases x with | none => exact Or.inl rfl | some a => exact Or.inr ⟨_, rfl⟩) (fun t a b => by have := h1 t a b; rw [hv] at this ⊢; exact this) h2 hd hk.2.2.2.2.2.2.2.2.2.2
/-- what is thrown leaves the method -/
theorem V_outX (hk : OkF y own cc nL F L) (hR : RetX y rv ret) {k : Nat} {r : (ρ ⊕ Nat) × Wd} (hr : r = (.inr k, w)) {H : Heap} {locs : List Loc} {ls : Array Slot} {rest : List Value} {ce : Cell} (hp : Pre9 y r w H locs) (hcell : H[kL (fK y) k]? = some ce) (hvm : ce.vm = .none) (hcl : (fs y).vm.findClass "HookSwings$Wrong" = some ce.cls) :
    vq_W (fp y) (fl y) (fe y) (fR y) (fs y) (fm y) (fargs y) (fbelow y) (fmeth y) (fc y) H locs (wnx w - wnx (fw0 y)) (wsl w - wsl (fw0 y)) (fG y r) (F0 (fm y) pc ls rest) (kL (fK y) k) := by
  subst hr
  obtain ⟨p1, p2, p3, p4, hH, hS⟩ := hp
  have hwo : fwo y (.inr k, w) = w := by rw [hR.1]
  rw [hwo] at p1 p2
  rw [hR.2.1]
  refine vq_out (fun x hx => (hR.2.2.2 x hx).elim) hk.2.2.2.2.2.2.2.2.2.2 hcell hvm hcl (fun t ht _ => ⟨rfl, rfl, by rw [ht]; exact hH, hS.F ht⟩) hS.2.2 (by omega) (by omega)
/-- a thrown object, a Wrong made by the run -/
def thr {ρ : Type} (w : Wd) (rr : Option Nat) : Option ((ρ ⊕ Nat) × Wd) := (ob w rr 5).bind fun _ => rr.bind fun k => if nOld ≤ k then some (.inr k, w) else none
theorem V_athrow (hk : OkF y own cc nL F L) (hR : RetX y rv ret) {rr : Option Nat} (hd : decode cc pc = .ok (.athrow, 1)) : V y w lc (va_rf rr :: st) pc (thr w rr) := by
  intro r hr
  obtain ⟨fs', h1, h2⟩ := Option.bind_eq_some_iff.mp hr
  obtain ⟨k, rfl, h3⟩ := Option.bind_eq_some_iff.mp h2
  obtain ⟨_, h4, h5⟩ := ob_spec h1
  cases h4
  split at h3
  · rename_i hn
    cases h3
    have hwo : fwo y (.inr k, w) = w := by rw [hR.1]
    refine ⟨⟨by rw [hwo]; exact Nat.le_refl _, by rw [hwo]; exact Nat.le_refl _⟩, fun H locs ls hp hl => ?_⟩
    obtain ⟨-, ⟨r9, g1, cell, q1, q2, q3, q4⟩, -⟩ := (hp.2.2.2.2.1.2.2 k _ h5).2.2 hn
    have hK := hK_at hk.2.2.2.2.2.2.2.1 hk.2.2.2.2.2.2.1
    have hcl : (fs y).vm.findClass "HookSwings$Wrong" = some cell.cls := by rw [q2]; exact (hK.1 5 _ rfl).2.1
    exact vq_athrow hk.1 hk.2.1 hd (V_outX hk hR rfl hp q1 q3 hcl)
  · cases h3
end VXRet
/-- a call that may throw: the world doesn't shrink, what is thrown is a Wrong made by the run -/
def calx {ρ : Type} (w : Wd) (f : Option ((ρ ⊕ Nat) × Wd)) : Option ((ρ ⊕ Nat) × Wd) := f.bind fun r => if wnx w ≤ wnx r.2 ∧ wsl w ≤ wsl r.2 then (match r.1 with
  | .inl _ => some r
  | .inr k => (ob r.2 (some k) 5).bind fun _ => if nOld ≤ k then some r else none) else none
theorem calx_spec {ρ : Type} {w : Wd} {f : Option ((ρ ⊕ Nat) × Wd)} {r : (ρ ⊕ Nat) × Wd} (h : calx w f = some r) : f = some r ∧ (wnx w ≤ wnx r.2 ∧ wsl w ≤ wsl r.2) ∧ ∀ k, r.1 = .inr k → nOld ≤ k ∧ ∃ fs', r.2.1 k = some (.inr (5, fs')) := by
  unfold calx at h
  obtain ⟨r', h1, h2⟩ := Option.bind_eq_some_iff.mp h
  split at h2
  · rename_i hc
    obtain ⟨a, w'⟩ := r'
    cases a with
    | inl v => cases h2; exact ⟨h1, hc, fun k hk => by cases hk⟩
    | inr k =>
      dsimp only at h2
      obtain ⟨fs', h3, h4⟩ := Option.bind_eq_some_iff.mp h2
      split at h4
      · rename_i hn
        cases h4
        obtain ⟨_, e1, e2⟩ := ob_spec h3
        cases e1
        exact ⟨h1, hc, fun k' hk' => by cases hk'; exact ⟨hn, fs', e2⟩⟩
      · cases h4
  · cases h2
/-- behind a call that may throw, in a method that hands on what is thrown -/
def bx {ρ ρ' : Type} (r : (ρ ⊕ Nat) × Wd) (k : ρ → Wd → Option ((ρ' ⊕ Nat) × Wd)) : Option ((ρ' ⊕ Nat) × Wd) := match r.1 with
  | .inl v => k v r.2
  | .inr q => some (.inr q, r.2)
/-- .. in a method that catches it -/
def bc {ρ γ : Type} (r : (ρ ⊕ Nat) × Wd) (k : ρ → Wd → Option γ) (h : Nat → Wd → Option γ) : Option γ := match r.1 with
  | .inl v => k v r.2
  | .inr q => h q r.2
section VXC
variable {ρ : Type} {own : String} {cc : ByteArray} {nL F L : Nat} {w : Wd} {lc : List (Nat × Value)} {pc : Nat}
/-- the frame of a call that may throw -/
theorem V_callGX {β : Type} {y : Fx β} {comp : Option β} (hk : OkF y own cc nL F L) {r9 : (ρ ⊕ Nat) × Wd} {rv9 : ρ → Option Value} {st rest : List Value} (hw : wnx w ≤ wnx r9.2 ∧ wsl w ≤ wsl r9.2)
    (hrun : ∀ (H : Heap) (locs : List Loc) (ls : Array Slot) (cells slots : Nat), HP (fK y) w H → EnvK (fK y) (fs y) → (∀ U : State, U.heap = H → (fs y).WarmedH U.vm → EnvK (fK y) U ∧ HP (fK y) w U.heap) → ls.size = nL → cells + (wnx r9.2 - wnx w) ≤ (fR y).cells ∧ slots + (wsl r9.2 - wsl w) ≤ (fR y).slots →
      ∃ a, vq_Run (fp y) (fl y) (fe y) (fR y) (fs y) (fm y) (fargs y) (fbelow y) (fmeth y) (fc y) H locs cells slots (wnx r9.2 - wnx w) (wsl r9.2 - wsl w) (F0 (fm y) pc ls (cvs (fK y) st)) (cvs (fK y) rest) (QcX (fK y) rv9 r9 a) (XcX (fK y) r9) (Afr (fK y)))
    (kn : ∀ v, r9.1 = .inl v → V y r9.2 lc ((rv9 v).toList ++ rest) (pc + 3) comp)
    (kx : ∀ q, r9.1 = .inr q → ∀ r, comp = some r → (wnx r9.2 ≤ wnx (fwo y r) ∧ wsl r9.2 ≤ wsl (fwo y r)) ∧ ∀ (H : Heap) (locs : List Loc) (ls : Array Slot) (ce : Cell), Pre9 y r r9.2 H locs → lv_has ls (fnL y) (lcv (fK y) lc) → H[kL (fK y) q]? = some ce → ce.vm = .none → (fs y).vm.findClass "HookSwings$Wrong" = some ce.cls → vq_W (fp y) (fl y) (fe y) (fR y) (fs y) (fm y) (fargs y) (fbelow y) (fmeth y) (fc y) H locs (wnx r9.2 - wnx (fw0 y)) (wsl r9.2 - wsl (fw0 y)) (fG y r) (F0 (fm y) pc ls (cvs (fK y) rest)) (kL (fK y) q)) : V y w lc st pc comp := by
  intro r hr
  have hmono : wnx r9.2 ≤ wnx (fwo y r) ∧ wsl r9.2 ≤ wsl (fwo y r) := by
    rcases h9 : r9.1 with v | q
    · exact (kn v h9 r hr).1
    · exact (kx q h9 r hr).1
  refine ⟨⟨Nat.le_trans hw.1 hmono.1, Nat.le_trans hw.2 hmono.2⟩, fun H locs ls hp hl => ?_⟩
  obtain ⟨p1, p2, p3, p4, hH, hS⟩ := hp
  have hE := hk.2.2.2.2.2.2.1
  obtain ⟨a, hrun⟩ := hrun H locs ls (wnx w - wnx (fw0 y)) (wsl w - wsl (fw0 y)) hH hE (fun U hU hW => ⟨⟨State.WarmedH.trans hE.1 hW, by rw [hU]; exact Nat.le_trans hE.2.1 hS.1, fun q hq => by rw [hU, hS.2.1 q (Nat.lt_of_lt_of_le hq hE.2.1) (fun z => by have z' : (kS (fK y)).heap.size ≤ q := z; omega)]; exact hE.2.2 q hq⟩, by rw [hU]; exact hH⟩) (by rw [hl.1]; exact hk.2.2.2.1) ⟨by have := hmono.1; have := hw.1; omega, by have := hmono.2; have := hw.2; omega⟩
  have e3 : wnx r9.2 - wnx (fw0 y) = wnx w - wnx (fw0 y) + (wnx r9.2 - wnx w) := by have := hw.1; omega
  have e4 : wsl r9.2 - wsl (fw0 y) = wsl w - wsl (fw0 y) + (wsl r9.2 - wsl w) := by have := hw.2; omega
  have hSS : ∀ (st₀ t T' : State) (Lc : List Loc), st₀.heap = H → T'.heap = t.heap → va_F (Afr (fK y)) st₀ t → (∀ q ∈ Lc, Afr (fK y) q.base) → va_S (Afr (fK y)) (fs y).heap T'.heap (locs ++ Lc) := by
    intro st₀ t T' Lc h0 e1 hF hL
    obtain ⟨hF1, hF2⟩ := hF
    rw [h0] at hF1 hF2
    exact ⟨Nat.le_trans hS.1 (by rw [e1]; exact hF1), fun q h1 h2 => by rw [e1, hF2 q (Nat.lt_of_lt_of_le h1 hS.1) h2]; exact hS.2.1 q h1 h2, fun q hq => by
      rcases List.mem_append.mp hq with h | h
      · exact hS.2.2 q h
      · exact hL q h⟩
  intro T hT X
  rcases hrun T hT X with ⟨v, st₀, t, T', Lc, h0, X', hL, e1, e2, hQ, step⟩ | ⟨q, st₀, t, T', Lc, E, ce, h0, X', hL, e1, e2, hX, hce, hcv, hcl, step⟩
  · obtain ⟨a9, w9⟩ := r9
    cases a9 with
    | inr q => exact hQ.elim
    | inl v9 =>
      obtain ⟨hv, hH', hF⟩ := hQ
      cases hv
      have h3 := (kn v9 rfl r hr).2 T'.heap (locs ++ Lc) ls ⟨p1, p2, Nat.le_trans p3 hw.1, Nat.le_trans p4 hw.2, by rw [e1]; exact hH', hSS st₀ t T' Lc h0 e1 hF hL⟩ hl
      unfold WV at h3
      rw [e3, e4] at h3
      obtain ⟨t2, a1, b1⟩ := h3 T' rfl X'
      refine ⟨t2, step t2 ?_, b1⟩
      have e5 : cvs (fK y) ((rv9 v9).toList ++ rest) = ((rv9 v9).map (cv (kL (fK y)))).toList ++ cvs (fK y) rest := by cases rv9 v9 <;> rfl
      rw [e5] at a1
      exact a1
  · obtain ⟨a9, w9⟩ := r9
    cases a9 with
    | inl v9 => exact hX.elim
    | inr k =>
      obtain ⟨rfl, rfl, hH', hF⟩ := hX
      have h3 := (kx k rfl r hr).2 T'.heap (locs ++ Lc) ls ce ⟨p1, p2, Nat.le_trans p3 hw.1, Nat.le_trans p4 hw.2, by rw [e1]; exact hH', hSS st₀ t T' Lc h0 e1 hF hL⟩ hl (by rw [e1]; exact hce) hcv hcl
      rw [e3, e4] at h3
      obtain ⟨t2, a1, b1⟩ := h3 T' rfl X'
      exact ⟨t2, step.trans a1, b1⟩
theorem V_invVX {ρ' : Type} {y : Fx ((ρ' ⊕ Nat) × Wd)} {rv' : ρ' → Option Value} {ret' : Option FieldType} (hk : OkF y own cc nL F L) (hR : RetX y rv' ret') {av rest st : List Value} {idx n F9 L9 m9 ci : Nat} {rr : Option Nat} {C : vw_C} {yc : MethodName} {b9 : ByteArray} {r9 : Option FieldType} {f : Nat → Option ((ρ ⊕ Nat) × Wd)} {rv : ρ → Option Value} {k : ρ → Wd → Option ((ρ' ⊕ Nat) × Wd)} (hc : vwAll[ci]? = some C) (hyC : yc.cls = C.1) (hC : ∀ b r, f b = some r → CtX (fl y) (fK y) F9 L9 yc (ws_ yc b9 m9 r9) (.ref b :: av) w rv r)
    (hG : GoodIn lw_all (wsV own idx C.1 yc (ws_ yc b9 m9 r9))) (hdn : okDesc yc n) (hn : av.length = n) (hroom : F9 + 1 ≤ F ∧ 8 + (m9 + 11) + L9 ≤ L) (hst : st = av.reverse ++ va_rf rr :: rest) (hcat : (rest.map fun v => v.category).sum ≤ 8) (hd : decode cc pc = .ok (.invokevirtual idx, 3)) (kk : ∀ v w', V y w' lc ((rv v).toList ++ rest) (pc + 3) (k v w')) : V y w lc st pc ((recv w rr ci).bind fun b => (calx w (f b)).bind fun r => bx r k) := by
  refine V_bind fun b hb => V_bind fun r hr => ?_
  obtain ⟨rfl, hbc⟩ := recv_spec hb
  obtain ⟨h1, h2, h3⟩ := calx_spec hr
  refine V_callGX (rv9 := rv) (rest := rest) (r9 := r) hk h2 (fun H locs ls cells slots hH hE hU hls hf => ⟨(Value.ref (kL (fK y) b) :: cvs (fK y) av).toArray, ?_⟩) (fun v hv => ?_) (fun q hq r' hr' => ?_)
  · refine vq_runV ⟨hk.1, hk.2.1, hk.2.2.1, hk.2.2.2.2.1, hk.2.2.2.2.2.1⟩ (hC b r h1) (cwV n hk.2.2.2.2.2.1 hG rfl rfl rfl ⟨hyC, hdn⟩ ⟨by rw [hk.2.2.2.2.2.2.2.2.1]; exact hroom.1, by rw [hk.2.2.2.2.2.2.2.2.2.1]; exact hroom.2⟩) (b := kL (fK y) b) (As := cvs (fK y) av) ⟨PcP_blind _ _ _, recv_cell hk hH hc hbc, fun U hU1 hU2 => ⟨rfl, hU U hU1 hU2⟩⟩ rfl (by rw [List.length_map]; exact hn) hls (by rw [hst]; exact cvs_rev _ _ _) ?_ hd hf
    exact lv_room (by rw [cvs_cat]; exact hcat)
  · have e : bx r k = k v r.2 := by unfold bx; rw [hv]
    rw [e]
    exact kk v r.2
  · have e : bx r k = some (.inr q, r.2) := by unfold bx; rw [hq]
    rw [e] at hr'
    cases hr'
    have hwo : fwo y (.inr q, r.2) = r.2 := by rw [hR.1]
    exact ⟨⟨by rw [hwo]; exact Nat.le_refl _, by rw [hwo]; exact Nat.le_refl _⟩, fun H locs ls ce hp hl hce hcv hcl => V_outX hk hR rfl hp hce hcv hcl⟩
end VXC
