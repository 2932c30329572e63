/-! ===== array copies, classes, references compared, new arrays by type, calls by interface ===== -/
noncomputable def acpI (w : Wd) (src : Option Nat) (sp : Int32) (dst : Option Nat) (dp n : Int32) : Option Wd := (arr w src).bind fun x => (arr w dst).bind fun z => src.bind fun a0 => dst.bind fun a => if (x.1 = .int ∧ z.1 = .int) ∧ (nOld ≤ a0 ∧ nOld ≤ a) ∧ (¬ sp < 0 ∧ ¬ dp < 0 ∧ ¬ n < 0) ∧ (sp.toNatClampNeg + n.toNatClampNeg ≤ x.2.1 ∧ dp.toNatClampNeg + n.toNatClampNeg ≤ z.2.1) then (asI x.2.2).bind fun f => (asI z.2.2).map fun g => wst w a (.inl (.int, z.2.1, .inl (va_cpy f g sp.toNatClampNeg dp.toNatClampNeg n.toNatClampNeg))) else none
def okE (w : Wd) (l : List Nat) (r : Option Nat) : Bool := match r with
  | none => true
  | some y => match cls w y with
    | some c => l.contains c
    | none => false
noncomputable def acpR (w : Wd) (l : List Nat) (e : String) (src : Option Nat) (sp : Int32) (dst : Option Nat) (dp n : Int32) : Option Wd := (arr w src).bind fun x => (arr w dst).bind fun z => src.bind fun a0 => dst.bind fun a => if (x.1 = .object e ∧ z.1 = .object e) ∧ (nOld ≤ a0 ∧ nOld ≤ a) ∧ (¬ sp < 0 ∧ ¬ dp < 0 ∧ ¬ n < 0) ∧ (sp.toNatClampNeg + n.toNatClampNeg ≤ x.2.1 ∧ dp.toNatClampNeg + n.toNatClampNeg ≤ z.2.1) then (asR x.2.2).bind fun f => (asR z.2.2).bind fun g => if ((List.range n.toNatClampNeg).all fun i => okE w l (f (sp.toNatClampNeg + i))) = true then some (wst w a (.inl (.object e, z.2.1, .inr (.inr (.inr (.inr (va_cpy f g sp.toNatClampNeg dp.toNatClampNeg n.toNatClampNeg))))))) else none else none
theorem clampI {z : Int32} (hz : ¬ z < 0) : z.toInt = (z.toNatClampNeg : Int) := by
  have hz0 : (0 : Int) ≤ z.toInt := by
    have := Int32.not_lt.mp hz
    simpa using Int32.le_iff_toInt_le.mp this
  show z.toInt = ((z.toInt.toNat : Nat) : Int)
  omega
theorem va_cpy_map {α γ : Type} (h : α → γ) (f g : Nat → α) (sp dp n j : Nat) : h (va_cpy f g sp dp n j) = va_cpy (fun k => h (f k)) (fun k => h (g k)) sp dp n j := by
  unfold va_cpy
  split <;> rfl
section VY
variable {β : Type} {y : Fx β} {own : String} {cc : ByteArray} {nL F L : Nat} {w : Wd} {lc : List (Nat × Value)} {st : List Value} {pc : Nat} {comp : Option β}
/-- the words of System.arraycopy -/
def AcpW (y : Fx β) (own : String) (i : Nat) : Prop := (Cond.methodLink own i arraycopyName).before (fargs y) (fs y) = true ∧ (Cond.native arraycopyName).before (fargs y) (fs y) = true ∧ (Cond.static arraycopyName).before (fargs y) (fs y) = true ∧ (Cond.initialized "java/lang/System").before (fargs y) (fs y) = true
theorem acpW (hk : OkF y own cc nL F L) {i : Nat} (h1 : Cond.methodLink own i arraycopyName ∈ lw_all) (h2 : Cond.native arraycopyName ∈ lw_all) (h3 : Cond.static arraycopyName ∈ lw_all) (h4 : Cond.initialized "java/lang/System" ∈ lw_all) : AcpW y own i := ⟨hk.2.2.2.2.2.1 _ h1, hk.2.2.2.2.2.1 _ h2, hk.2.2.2.2.2.1 _ h3, hk.2.2.2.2.2.1 _ h4⟩
theorem V_acpG (hk : OkF y own cc nL F L) {i a0 a : Nat} {ty : FieldType} {n0 n1 : Nat} {f g g' : (Nat → Int32) ⊕ (Nat → Int64) ⊕ (Nat → UInt32) ⊕ (Nat → UInt64) ⊕ (Nat → Option Nat)} {sp dp n : Int32} (hw : AcpW y own i) (hx0 : w.1 a0 = some (.inl (ty, n0, f))) (hx1 : w.1 a = some (.inl (ty, n1, g))) (hn0 : nOld ≤ a0) (hn1 : nOld ≤ a)
    (h1 : ¬ sp < 0) (h2 : ¬ dp < 0) (h3 : ¬ n < 0) (h4 : sp.toNatClampNeg + n.toNatClampNeg ≤ n0) (h5 : dp.toNatClampNeg + n.toNatClampNeg ≤ n1) (hg' : ∀ j, vAr (kL (fK y)) (n1, g') j = va_cpy (vAr (kL (fK y)) (n0, f)) (vAr (kL (fK y)) (n1, g)) sp.toNatClampNeg dp.toNatClampNeg n.toNatClampNeg j)
    (hel : ∀ (T : State) (vm₁ : Vm), HP (fK y) w T.heap → (fs y).vm.Alike vm₁ → ∀ (cm1 : ClassId) (k1 : Class), (fs y).vm.classes[kA (fK y) ty]? = some k1 → k1.kind = .array cm1 ty → ∀ j, j < n.toNatClampNeg → fits ty (vAr (kL (fK y)) (n0, f) (sp.toNatClampNeg + j)) = true ∧ (T.setVm vm₁).takes cm1 (vAr (kL (fK y)) (n0, f) (sp.toNatClampNeg + j)))
    (hF : 1 ≤ F ∧ 60 ≤ L) (hcat : (st.map fun v => v.category).sum ≤ 8) (hd : decode cc pc = .ok (.invokestatic i, 3)) (kk : V y (wst w a (.inl (ty, n1, g'))) lc st (pc + 3) comp) : V y w lc (.int n :: .int dp :: va_rf (some a) :: .int sp :: va_rf (some a0) :: st) pc comp := by
  have hI := hk.2.2.2.2.2.2.2.1
  have hE := hk.2.2.2.2.2.2.1
  intro r hr
  obtain ⟨k1, k2⟩ := kk r hr
  refine ⟨k1, fun H locs ls hp hls => ?_⟩
  obtain ⟨p1, p2, p3, p4, hH, hS⟩ := hp
  obtain ⟨htok, hat0, -⟩ := (hH.2.2 a0 _ hx0).2.2 hn0
  obtain ⟨-, hat1, -⟩ := (hH.2.2 a _ hx1).2.2 hn1
  have hc0 := va_at_arr hat0
  have hc1 := va_at_arr hat1
  dsimp only at hc0 hc1
  obtain ⟨i9, hi9⟩ := List.getElem?_of_mem (show ty ∈ tysL from htok)
  have hkt : (ktys (fK y))[i9]? = some (kA (fK y) ty, ty) := by simp [ktys, hi9]
  obtain ⟨-, kk1, hkk1, cm1, hkk2⟩ := ((hK_at hI hE).2 i9 _ hkt).1 0 (fun _ => .null)
  have hkk1' : (fs y).vm.classes[kA (fK y) ty]? = some kk1 := hkk1
  intro T hT X
  have hTH : HP (fK y) w T.heap := by rw [hT]; exact hH
  obtain ⟨vm', X', step⟩ := X.arraycopy hk.1 hk.2.2.2.2.1 hw.1 hw.2.1 hw.2.2.1 hw.2.2.2 (src := kL (fK y) a0) (dst := kL (fK y) a) (cs := arrV (kA (fK y) ty) n0 (vAr (kL (fK y)) (n0, f))) (cd := arrV (kA (fK y) ty) n1 (vAr (kL (fK y)) (n1, g))) (srcPos := sp) (destPos := dp) (n := n) (by rw [hT]; exact hc0) (by rw [hT]; exact hc1)
    (fun _ h => by cases h) (fun _ h => by cases h) (fun h => by cases h) (fun h => by cases h) hkk1' hkk1' hkk2 hkk2 (by cases refKind ty <;> simp) h1 h2 h3
    (by rw [clampI h1, clampI h3, arrV_size]; omega) (by rw [clampI h2, clampI h3, arrV_size]; omega)
    (fun vm₁ hal j hj => by
      have e : (arrV (kA (fK y) ty) n0 (vAr (kL (fK y)) (n0, f))).slots.getD (sp.toNatClampNeg + j) .null = vAr (kL (fK y)) (n0, f) (sp.toNatClampNeg + j) := by
        rw [Array.getD_eq_getD_getElem?, arrV_read _ _ (by omega)]
        rfl
      rw [e]
      exact hel T vm₁ hTH hal cm1 kk1 hkk1' hkk2 j hj)
    (g := F0 (fm y) pc ls (cvs (fK y) (.int n :: .int dp :: va_rf (some a) :: .int sp :: va_rf (some a0) :: st))) rfl (by show ls.size = _; rw [hls.1, hk.2.2.2.1, hk.2.2.1]) (rest := cvs (fK y) st) rfl (by rw [hk.2.1]; exact hd) (by rw [hk.2.2.2.2.2.2.2.2.1]; exact hF.1) (by rw [hk.2.2.2.2.2.2.2.2.2.1, cvs_cat]; have : nativeFrameWords "java/lang/System" "arraycopy" 5 + 11 ≤ 40 := (by decide); have := hF.2; show 2 * 0 + _ + _ ≤ _; omega)
  have e1 : copied (arrV (kA (fK y) ty) n0 (vAr (kL (fK y)) (n0, f))) (arrV (kA (fK y) ty) n1 (vAr (kL (fK y)) (n1, g))) sp dp n = arrV (kA (fK y) ty) n1 (vAr (kL (fK y)) (n1, g')) := by
    refine Eq.trans (va_copied (fun z : Value => z) (kA (fK y) ty) (kA (fK y) ty) (vAr (kL (fK y)) (n0, f)) (vAr (kL (fK y)) (n1, g)) h4) ?_
    exact congrArg _ (funext fun j => (hg' j).symm)
  rw [e1] at X' step
  have hl : kL (fK y) a < H.size := (Array.getElem?_eq_some_iff.mp hc1).1
  have hheap : ((T.setVm vm').setCell (kL (fK y) a) (arrV (kA (fK y) ty) n1 (vAr (kL (fK y)) (n1, g')))).heap = H.setIfInBounds (kL (fK y) a) (arrV (kA (fK y) ty) n1 (vAr (kL (fK y)) (n1, g'))) := by rw [← hT]; rfl
  have oq : ∀ q : Nat, q ≠ kL (fK y) a → (H.setIfInBounds (kL (fK y) a) (arrV (kA (fK y) ty) n1 (vAr (kL (fK y)) (n1, g'))))[q]? = H[q]? := fun q hq => by simp [Array.getElem?_setIfInBounds, Ne.symm hq]
  have hA := Afr_lab hI hn1
  have h6 := k2 _ (locs ++ List.map (fun q => ({ base := kL (fK y) a, slot := dp.toNatClampNeg + q.2 } : Loc)) ((arrV (kA (fK y) ty) n0 (vAr (kL (fK y)) (n0, f))).stretch sp.toNatClampNeg n.toNatClampNeg).zipIdx) ls ⟨p1, p2, p3, p4, hH.set hI hx1 hn1 htok (by simp) oq (va_at_arr' (by simp [Array.getElem?_setIfInBounds, hl])) ⟨_, (by simp [Array.getElem?_setIfInBounds, hl] : (H.setIfInBounds (kL (fK y) a) (arrV (kA (fK y) ty) n1 (vAr (kL (fK y)) (n1, g'))))[kL (fK y) a]? = some (arrV (kA (fK y) ty) n1 (vAr (kL (fK y)) (n1, g')))), rfl, rfl, trivial⟩, ⟨by simp; exact hS.1, fun q g1 g2 => by
      rw [oq q (fun e => g2 (by rw [e]; exact hA))]
      exact hS.2.1 q g1 g2, fun q hq => by
      rcases List.mem_append.mp hq with h | h
      · exact hS.2.2 q h
      · obtain ⟨z, -, hz⟩ := List.mem_map.mp h
        rw [← hz]
        exact hA⟩⟩ hls
  obtain ⟨t, a1, b1⟩ := h6 _ hheap X'
  exact ⟨t, step t a1, b1⟩
theorem V_acpI (hk : OkF y own cc nL F L) {i : Nat} {src dst : Option Nat} {sp dp n : Int32} {kc : Wd → Option β} (hw : AcpW y own i) (hF : 1 ≤ F ∧ 60 ≤ L) (hcat : (st.map fun v => v.category).sum ≤ 8) (hd : decode cc pc = .ok (.invokestatic i, 3)) (kk : ∀ w', V y w' lc st (pc + 3) (kc w')) : V y w lc (.int n :: .int dp :: va_rf dst :: .int sp :: va_rf src :: st) pc ((acpI w src sp dst dp n).bind kc) := by
  refine V_bind fun w' hw' => ?_
  obtain ⟨x, a1, a2⟩ := Option.bind_eq_some_iff.mp hw'
  obtain ⟨z, a3, a4⟩ := Option.bind_eq_some_iff.mp a2
  obtain ⟨q0, rfl, a5⟩ := Option.bind_eq_some_iff.mp a4
  obtain ⟨q1, rfl, a6⟩ := Option.bind_eq_some_iff.mp a5
  obtain ⟨_, b1, b2⟩ := arr_spec a1
  cases b1
  obtain ⟨_, b3, b4⟩ := arr_spec a3
  cases b3
  split at a6
  · rename_i hc
    obtain ⟨⟨hx, hz⟩, ⟨hn0, hn1⟩, ⟨h1, h2, h3⟩, h4, h5⟩ := hc
    obtain ⟨f, c1, c2⟩ := Option.bind_eq_some_iff.mp a6
    obtain ⟨g, c3, c4⟩ := Option.map_eq_some_iff.mp c2
    obtain ⟨ty, n0, fx⟩ := x
    obtain ⟨ty', n1, gx⟩ := z
    have d1 := asI_spec c1
    have d2 := asI_spec c3
    dsimp only at d1 d2 hx hz c4 h4 h5
    subst d1 d2 hx hz c4
    refine V_acpG hk hw b2 b4 hn0 hn1 h1 h2 h3 h4 h5 (g' := .inl (va_cpy f g sp.toNatClampNeg dp.toNatClampNeg n.toNatClampNeg)) (fun j => va_cpy_map (fun z => Value.int z) f g _ _ _ j) (fun T vm₁ hH hal cm1 k1 e1 e2 j hj => ⟨rfl, trivial⟩) hF hcat hd (kk _)
  · cases a6
theorem V_acpR (hk : OkF y own cc nL F L) {l : List Nat} {e : String} {i : Nat} {src dst : Option Nat} {sp dp n : Int32} {kc : Wd → Option β} (hl : ∀ c ∈ l, cstl c e) (hw : AcpW y own i) (hF : 1 ≤ F ∧ 60 ≤ L) (hcat : (st.map fun v => v.category).sum ≤ 8) (hd : decode cc pc = .ok (.invokestatic i, 3)) (kk : ∀ w', V y w' lc st (pc + 3) (kc w')) : V y w lc (.int n :: .int dp :: va_rf dst :: .int sp :: va_rf src :: st) pc ((acpR w l e src sp dst dp n).bind kc) := by
  have hI := hk.2.2.2.2.2.2.2.1
  have hE := hk.2.2.2.2.2.2.1
  refine V_bind fun w' hw' => ?_
  obtain ⟨x, a1, a2⟩ := Option.bind_eq_some_iff.mp hw'
  obtain ⟨z, a3, a4⟩ := Option.bind_eq_some_iff.mp a2
  obtain ⟨q0, rfl, a5⟩ := Option.bind_eq_some_iff.mp a4
  obtain ⟨q1, rfl, a6⟩ := Option.bind_eq_some_iff.mp a5
  obtain ⟨_, b1, b2⟩ := arr_spec a1
  cases b1
  obtain ⟨_, b3, b4⟩ := arr_spec a3
  cases b3
  split at a6
  · rename_i hc
    obtain ⟨⟨hx, hz⟩, ⟨hn0, hn1⟩, ⟨h1, h2, h3⟩, h4, h5⟩ := hc
    obtain ⟨f, c1, c2⟩ := Option.bind_eq_some_iff.mp a6
    obtain ⟨g, c3, c4⟩ := Option.bind_eq_some_iff.mp c2
    split at c4
    · rename_i hall
      obtain ⟨ty, n0, fx⟩ := x
      obtain ⟨ty', n1, gx⟩ := z
      have d1 := asR_spec c1
      have d2 := asR_spec c3
      have c5 := Option.some.inj c4
      dsimp only at d1 d2 hx hz c5 h4 h5
      subst d1 d2 hx hz c5
      refine V_acpG hk hw b2 b4 hn0 hn1 h1 h2 h3 h4 h5 (g' := .inr (.inr (.inr (.inr (va_cpy f g sp.toNatClampNeg dp.toNatClampNeg n.toNatClampNeg))))) (fun j => va_cpy_map (fun z : Option Nat => va_rf (z.map (kL (fK y)))) f g _ _ _ j) (fun T vm₁ hH hal cm1 k1 e1 e2 j hj => ?_) hF hcat hd (kk _)
      have h7 := List.all_eq_true.mp hall j (List.mem_range.mpr hj)
      show fits _ (va_rf ((f (sp.toNatClampNeg + j)).map (kL (fK y)))) = true ∧ (T.setVm vm₁).takes cm1 (va_rf ((f (sp.toNatClampNeg + j)).map (kL (fK y))))
      generalize f (sp.toNatClampNeg + j) = r at h7
      cases r with
      | none => exact ⟨rfl, trivial⟩
      | some q =>
        refine ⟨rfl, ?_⟩
        simp only [okE] at h7
        split at h7
        · rename_i c hcq
          obtain ⟨fsb, hfsb⟩ := cls_spec hcq
          obtain ⟨C, hC, hwc⟩ := hl c (by simpa using h7)
          obtain ⟨cellb, u1, u2, u3, C', v1, v2, v3⟩ := hH.wk hI hfsb
          have hCC : C' = C := Option.some.inj (v1.symm.trans (vwAll_of hC))
          subst hCC
          obtain ⟨c0, t0, f1, f2, f3⟩ := asg_at hk hC hwc
          obtain ⟨kv, g1, -⟩ := Vm.findClass_spec f1
          obtain ⟨kt, g2, -⟩ := Vm.findClass_spec f2
          obtain ⟨kv', g1', -⟩ := hal.2.2 _ _ g1
          obtain ⟨kt', g2', -⟩ := hal.2.2 _ _ g2
          have e2' : (fs y).vm.findClass C'.1 = some cellb.cls := by rw [(EnvK.alike hE).findClass]; exact v2
          have hcc : cellb.cls = c0 := Option.some.inj (e2'.symm.trans f1)
          obtain ⟨htok, -, -⟩ := (hH.2.2 _ _ b4).2.2 hn1
          obtain ⟨j9, hj9⟩ := List.getElem?_of_mem (show FieldType.object e ∈ tysL from htok)
          have hkt : (ktys (fK y))[j9]? = some (kA (fK y) (.object e), .object e) := by simp [ktys, hj9]
          obtain ⟨kA9, comp, r1, r2, r3, r4⟩ := ((hK_at hI hE).2 j9 _ hkt).2
          cases e1.symm.trans r1
          cases e2.symm.trans r2
          have hcomp : cm1 = t0 := Option.some.inj (r3.symm.trans f2)
          refine ⟨cellb, u1, (fun q h => by rw [h] at u3; cases u3), ⟨kv', by rw [hcc]; exact g1'⟩, ⟨kt', by rw [hcomp]; exact g2'⟩, ?_⟩
          show vm₁.assignable _ _ = true
          rw [hal.assignable, hcc, hcomp]
          exact f3
        · cases h7
    · cases c4
  · cases a6
/-- two references that can be told apart by their labels -/
def acok (x z : Option Nat) : Option Unit := if x = z ∨ x = none ∨ z = none ∨ (nOld ≤ x.getD 0 ∧ (z.getD 0 < 396 ∨ nOld ≤ z.getD 0)) ∨ (nOld ≤ z.getD 0 ∧ (x.getD 0 < 396 ∨ nOld ≤ x.getD 0)) then some () else none
theorem ac_iff {K : Kx} (hI : Ini K) {x z : Option Nat} (h : acok x z = some ()) : x.map (kL K) = z.map (kL K) ↔ x = z := by
  unfold acok at h
  split at h
  · rename_i hc
    constructor
    · intro q
      cases x <;> cases z <;> simp at q ⊢
      rename_i a b
      simp at hc
      rcases hc with hc | hc | hc
      · exact hc
      · exact (kL_inj hI hc.2 hc.1 q.symm).symm
      · exact kL_inj hI hc.2 hc.1 q
    · rintro rfl; rfl
  · cases h
theorem V_acmp_eq (hk : OkF y own cc nL F L) {x z : Option Nat} {off : Int} {tgt : Nat} {a b : Option β} (hd : decode cc pc = .ok (.if_acmp .eq off, 3)) (ht : (pc : Int) + off = (tgt : Int)) (ka : V y w lc st tgt a) (kb : V y w lc st (pc + 3) b) : V y w lc (va_rf z :: va_rf x :: st) pc ((acok x z).bind fun _ => if x = z then a else b) := by
  refine V_bind fun u hu => ?_
  have hi := ac_iff hk.2.2.2.2.2.2.2.1 hu
  refine V_same2 (fun r H locs ls hl ka kb => ?_) ka kb
  have e : cvs (fK y) (va_rf z :: va_rf x :: st) = va_rf (z.map (kL (fK y))) :: va_rf (x.map (kL (fK y))) :: cvs (fK y) st := by show cv _ _ :: cv _ _ :: _ = _; rw [cv_rf, cv_rf]
  unfold WV
  rw [e]
  exact lv_acmp_eq hk.1 hk.2.1 hd ht (fun q => ka (hi.mp q)) (fun q => kb (fun c => q (hi.mpr c)))
theorem V_acmp_ne (hk : OkF y own cc nL F L) {x z : Option Nat} {off : Int} {tgt : Nat} {a b : Option β} (hd : decode cc pc = .ok (.if_acmp .ne off, 3)) (ht : (pc : Int) + off = (tgt : Int)) (ka : V y w lc st tgt a) (kb : V y w lc st (pc + 3) b) : V y w lc (va_rf z :: va_rf x :: st) pc ((acok x z).bind fun _ => if ¬ x = z then a else b) := by
  refine V_bind fun u hu => ?_
  have hi := ac_iff hk.2.2.2.2.2.2.2.1 hu
  refine V_same2 (fun r H locs ls hl ka kb => ?_) ka kb
  have e : cvs (fK y) (va_rf z :: va_rf x :: st) = va_rf (z.map (kL (fK y))) :: va_rf (x.map (kL (fK y))) :: cvs (fK y) st := by show cv _ _ :: cv _ _ :: _ = _; rw [cv_rf, cv_rf]
  unfold WV
  rw [e]
  exact lv_acmp_ne hk.1 hk.2.1 hd ht (fun q => ka (fun c => q (hi.mpr c))) (fun q => kb (fun c => c (hi.mp q)))
/-- Object[].class, out of the class's own file or of an array -/
theorem V_ldcM (hk : OkF y "java/util/Arrays" cc nL F L) (hq : Cond.classLink "java/util/Arrays" 110 "[Ljava/lang/Object;" ∈ lw_all) (hd : decode cc pc = .ok (.ldc 110, 2)) (kk : V y w lc (va_rf (some 399) :: st) (pc + 2) comp) : V y w lc st pc comp := by
  have hI := hk.2.2.2.2.2.2.2.1
  have hE := hk.2.2.2.2.2.2.1
  exact V_same (fun r H locs ls hl k => va_ldcM hk.1 hk.2.1 hk.2.2.2.2.1 (hk.2.2.2.2.2.1 _ hq) (hI.2.2.2.2.2.2.2.1.moved hE.alike) hd (k ls hl)) kk
/-- the class of an array of Objects -/
def gcls (w : Wd) (r : Option Nat) : Option Unit := (arr w r).bind fun x => r.bind fun a => if x.1 = .object "java/lang/Object" ∧ nOld ≤ a then some () else none
theorem V_getC (hk : OkF y own cc nL F L) {i : Nat} {r : Option Nat} {kc : Unit → Option β} (hq1 : Cond.methodLink own i ⟨"java/lang/Object", "getClass", "()Ljava/lang/Class;"⟩ ∈ lw_all) (hq2 : Cond.declares ⟨"java/lang/Object", "getClass", "()Ljava/lang/Class;"⟩ ∈ lw_tbl) (hq3 : Cond.selects "[Ljava/lang/Object;" ⟨"java/lang/Object", "getClass", "()Ljava/lang/Class;"⟩ ⟨"java/lang/Object", "getClass", "()Ljava/lang/Class;"⟩ ∈ lw_all) (hq4 : Cond.instanceMethod ⟨"java/lang/Object", "getClass", "()Ljava/lang/Class;"⟩ ∈ lw_all) (hq5 : Cond.native ⟨"java/lang/Object", "getClass", "()Ljava/lang/Class;"⟩ ∈ lw_all)
    (hF : 1 ≤ F ∧ 60 ≤ L) (hcat : (st.map fun v => v.category).sum ≤ 8) (hd : decode cc pc = .ok (.invokevirtual i, 3)) (kk : V y w lc (va_rf (some 399) :: st) (pc + 3) (kc ())) : V y w lc (va_rf r :: st) pc ((gcls w r).bind kc) := by
  refine V_bind fun u hu => ?_
  obtain ⟨x, a1, a2⟩ := Option.bind_eq_some_iff.mp hu
  obtain ⟨a, rfl, a3⟩ := Option.bind_eq_some_iff.mp a2
  obtain ⟨_, b1, b2⟩ := arr_spec a1
  cases b1
  split at a3
  · rename_i hc
    obtain ⟨ty, n0, fx⟩ := x
    obtain ⟨hty, hn⟩ := hc
    dsimp only at hty
    subst hty
    have hI := hk.2.2.2.2.2.2.2.1
    have hE := hk.2.2.2.2.2.2.1
    have hts := hk.2.2.2.2.2.1
    obtain ⟨A0, h0⟩ := hI.2.2.2.1
    have hdc : va_Dc (fs y) := va_Dc.moved hE.alike (va_Dc.of (h0 _ hq2))
    intro r hr
    obtain ⟨h1, h2⟩ := kk r hr
    refine ⟨h1, fun H locs ls hp hl => ?_⟩
    obtain ⟨htok, hat, -⟩ := (hp.2.2.2.2.1.2.2 a _ b2).2.2 hn
    have hcell := va_at_arr hat
    have hkt : (ktys (fK y))[7]? = some (kA (fK y) (.object "java/lang/Object"), .object "java/lang/Object") := rfl
    obtain ⟨kA9, comp9, r1, r2, r3, r4⟩ := ((hK_at hI hE).2 7 _ hkt).2
    exact va_getC hk.1 hk.2.1 (by rw [hl.1, hk.2.2.2.1, hk.2.2.1]) hk.2.2.2.2.1 (hts _ hq1) hdc.use (hts _ hq3) (hts _ hq4) (hts _ hq5) (hI.2.2.2.2.2.2.2.1.moved hE.alike) ⟨_, hcell, rfl, r4⟩ (by rw [hk.2.2.2.2.2.2.2.2.1]; exact hF.1) (by rw [hk.2.2.2.2.2.2.2.2.2.1, cvs_cat]; have := hF.2; omega) hd (h2 H locs ls hp hl)
  · cases a3
end VY
