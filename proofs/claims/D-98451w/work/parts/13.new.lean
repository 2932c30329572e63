/-! ===== new cells ===== -/
/-- a length that can be made -/
def nchk (n : Int32) : Option Nat := if n < 0 ∨ 1000000 < n.toNatClampNeg then none else some n.toNatClampNeg
theorem nchk_spec {n : Int32} {N : Nat} (h : nchk n = some N) : ¬ n < 0 ∧ n.toNatClampNeg = N ∧ N ≤ 1000000 := by
  unfold nchk at h
  split at h
  · cases h
  · rename_i hc
    cases h
    exact ⟨fun q => hc (Or.inl q), rfl, Nat.le_of_not_lt fun q => hc (Or.inr q)⟩
/-- two dimensions of ints -/
def wnew2 (w : Wd) (N M : Nat) : Wd := (fun j => if j = w.2.1 then some (.inl (.array .int, N, .inr (.inr (.inr (.inr (fun i => some (w.2.1 + 1 + i))))))) else if w.2.1 < j ∧ j ≤ w.2.1 + N then some (.inl (.int, M, .inl (fun _ => 0))) else w.1 j, w.2.1 + 1 + N, w.2.2 + N + N * M)
section VN
variable {β : Type} {y : Fx β} {own : String} {cc : ByteArray} {nL F L : Nat} {w : Wd} {lc : List (Nat × Value)} {st : List Value} {pc : Nat} {comp : Option β}
theorem V_new (hk : OkF y own cc nL F L) {ci i N S : Nat} {C : String} {T : u_T} {fs' : List Value} (ty0 : Nat → FieldType) (hty : ∀ k, k < N → parseFieldDescriptor (T k).2.2.1 = some (ty0 k)) (hc : vwCl[ci]? = some (C, T, N)) (hq1 : Cond.classLink own i C ∈ lw_all) (hq2 : Cond.instantiable C S ∈ lw_all) (hq3 : Cond.initialized C ∈ lw_all)
    (hfs : ∀ (al : Nat → Nat) j, j < N → defaultValue (ty0 j) = vp_V (fs'.map (cv al)) j) (hd : decode cc pc = .ok (.new i, 3)) (kk : V y (wnew w (.inr (ci, fs')) S) lc (va_rf (some (wnx w)) :: st) (pc + 3) comp) : V y w lc st pc comp := by
  have hI := hk.2.2.2.2.2.2.2.1
  have hE := hk.2.2.2.2.2.2.1
  have hts := hk.2.2.2.2.2.1
  have hK := hK_at hI hE
  have hKn := hK.1 ci _ hc
  intro r hr
  obtain ⟨⟨h1, h1'⟩, h2⟩ := kk r hr
  have h1a : wnx w + 1 ≤ wnx (fwo y r) := h1
  have h1b : wsl w + S ≤ wsl (fwo y r) := h1'
  refine ⟨⟨by omega, by omega⟩, fun H locs ls hp hls => ?_⟩
  obtain ⟨p1, p2, p3, p4, hH, hS⟩ := hp
  refine W.newcK (n := S) hk.1 hk.2.1 hk.2.2.2.2.1 (hts _ hq1) (hts _ hq2) (hts _ hq3) rfl hd (by omega) (by omega) hKn.2.1 rfl fun H1 kC hkC e1 z1 o1 => ?_
  have hH1 : HP (fK y) (wnew w (.inr (ci, fs')) S) H1 := hH.new hI S (show ci < 18 from (List.getElem?_eq_some_iff.mp hc).1) z1 o1 ⟨_, hc, (u_born ty0 hts (lays_all ci _ hc) hKn hkC e1 hty).to (hfs _)⟩ ⟨_, e1, rfl, rfl, fun k0 hk0 => by
      obtain ⟨k', q1, q2⟩ := hE.alike.2.2 _ _ hk0
      have q3 : kC = k' := Option.some.inj (hkC.symm.trans q1)
      show (kC.instanceTypes.map defaultValue).size = _
      rw [q3, q2]
      simp⟩
  have hS1 : va_S (Afr (fK y)) (fs y).heap H1 locs := ⟨Nat.le_trans hS.1 (by omega), fun x h1 h2 => (o1 x (Nat.lt_of_lt_of_le h1 hS.1)).trans (hS.2.1 x h1 h2), hS.2.2⟩
  have h3 := h2 H1 locs ls ⟨p1, p2, Nat.le_succ_of_le p3, Nat.le_trans p4 (Nat.le_add_right _ _), hH1, hS1⟩ hls
  have e1 : wnx (wnew w (.inr (ci, fs')) S) - wnx (fw0 y) = wnx w - wnx (fw0 y) + 1 := Nat.succ_sub p3
  have e2 : wsl (wnew w (.inr (ci, fs')) S) - wsl (fw0 y) = wsl w - wsl (fw0 y) + S := Nat.sub_add_comm p4
  have e3 : kL (fK y) (wnx w) = H.size := wnx_addr hI hH
  have h4 : cvs (fK y) (va_rf (some (wnx w)) :: st) = .ref H.size :: cvs (fK y) st := by rw [← e3]; rfl
  unfold WV at h3
  rw [e1, e2, h4] at h3
  exact h3
theorem V_newA (hk : OkF y own cc nL F L) {g : (Nat → Int32) ⊕ (Nat → Int64) ⊕ (Nat → UInt32) ⊕ (Nat → UInt64) ⊕ (Nat → Option Nat)} {n : Int32} {at9 : ArrayType} {ty : FieldType} {kc : Nat → Option β} (hty : newarray.typeOf at9 = ty) (ht : ty ∈ tysL) (hcb : componentBytes ty ≤ 8) (hname : ∀ (U : State) (cA : ClassId), va_RA U cA ty → U.vm.findClass ("[" ++ ty.toString) = some cA) (hq : Cond.arrayClass ty ∈ lw_all) (hg : ∀ al N, (fun _ => defaultValue ty) = vAr al (N, g)) (hd : decode cc pc = .ok (.newarray at9, 2))
    (kk : ∀ N, V y (wnew w (.inl (ty, N, g)) N) lc (va_rf (some (wnx w)) :: st) (pc + 2) (kc N)) : V y w lc (.int n :: st) pc ((nchk n).bind kc) := by
  subst hty
  refine V_bind fun N hN => ?_
  obtain ⟨n1, n2, n3⟩ := nchk_spec hN
  have hI := hk.2.2.2.2.2.2.2.1
  have hE := hk.2.2.2.2.2.2.1
  have hts := hk.2.2.2.2.2.1
  intro r hr
  obtain ⟨⟨h1, h1'⟩, h2⟩ := kk N r hr
  have h1a : wnx w + 1 ≤ wnx (fwo y r) := h1
  have h1b : wsl w + N ≤ wsl (fwo y r) := h1'
  refine ⟨⟨by omega, by omega⟩, fun H locs ls hp hls => ?_⟩
  obtain ⟨p1, p2, p3, p4, hH, hS⟩ := hp
  refine va_newaK hk.1 hk.2.1 (hts _ hq) rfl hd rfl n1 n2 (Nat.le_trans (Nat.mul_le_mul n3 hcb) (by decide)) (by omega) (by omega) rfl fun H1 cA e1 z1 o1 hAr hNm => ?_
  obtain ⟨j, hj⟩ := List.getElem?_of_mem ht
  have hk2 : (ktys (fK y))[j]? = some (kA (fK y) (newarray.typeOf at9), newarray.typeOf at9) := by simp [ktys, hj]
  have hcA : cA = kA (fK y) (newarray.typeOf at9) := Option.some.inj (hNm.symm.trans (hname _ _ ((hK_at hI hE).2 j _ hk2).2))
  subst hcA
  have hH1 : HP (fK y) (wnew w (.inl (newarray.typeOf at9, N, g)) N) H1 := hH.new hI N ht z1 o1 (va_at_arr' (by rw [e1, hg (kL (fK y)) N])) ⟨_, e1, rfl, rfl, trivial⟩
  have hS1 : va_S (Afr (fK y)) (fs y).heap H1 locs := ⟨Nat.le_trans hS.1 (by omega), fun x h1 h2 => (o1 x (Nat.lt_of_lt_of_le h1 hS.1)).trans (hS.2.1 x h1 h2), hS.2.2⟩
  have h3 := h2 H1 locs ls ⟨p1, p2, Nat.le_succ_of_le p3, Nat.le_trans p4 (Nat.le_add_right _ _), hH1, hS1⟩ hls
  have e1 : wnx (wnew w (.inl (newarray.typeOf at9, N, g)) N) - wnx (fw0 y) = wnx w - wnx (fw0 y) + 1 := Nat.succ_sub p3
  have e2 : wsl (wnew w (.inl (newarray.typeOf at9, N, g)) N) - wsl (fw0 y) = wsl w - wsl (fw0 y) + N := Nat.sub_add_comm p4
  have e3 : kL (fK y) (wnx w) = H.size := wnx_addr hI hH
  have h4 : cvs (fK y) (va_rf (some (wnx w)) :: st) = .ref H.size :: cvs (fK y) st := by rw [← e3]; rfl
  unfold WV at h3
  rw [e1, e2, h4] at h3
  exact h3
theorem V_anewA (hk : OkF y own cc nL F L) {n : Int32} {C : String} {i : Nat} {kc : Nat → Option β} (ht : FieldType.object C ∈ tysL) (hq1 : Cond.classLink own i C ∈ lw_all) (hq2 : Cond.arrayOver (.object C) ∈ lw_tbl) (hd : decode cc pc = .ok (.anewarray i, 3))
    (kk : ∀ N, V y (wnew w (.inl (.object C, N, .inr (.inr (.inr (.inr (fun _ => none)))))) N) lc (va_rf (some (wnx w)) :: st) (pc + 3) (kc N)) : V y w lc (.int n :: st) pc ((nchk n).bind kc) := by
  refine V_bind fun N hN => ?_
  obtain ⟨n1, n2, n3⟩ := nchk_spec hN
  have hI := hk.2.2.2.2.2.2.2.1
  have hE := hk.2.2.2.2.2.2.1
  have hts := hk.2.2.2.2.2.1
  have hover : va_AO C (fs y) := by
    obtain ⟨A0, h0⟩ := hI.2.2.2.1
    exact va_AO.moved hE.alike (show va_AO C (kS (fK y)) from h0 _ hq2)
  intro r hr
  obtain ⟨⟨h1, h1'⟩, h2⟩ := kk N r hr
  have h1a : wnx w + 1 ≤ wnx (fwo y r) := h1
  have h1b : wsl w + N ≤ wsl (fwo y r) := h1'
  refine ⟨⟨by omega, by omega⟩, fun H locs ls hp hls => ?_⟩
  obtain ⟨p1, p2, p3, p4, hH, hS⟩ := hp
  refine W.anew hk.1 hk.2.1 hk.2.2.2.2.1 (hts _ hq1) hover rfl hd rfl n1 (by rw [n2]; omega) (by omega) (by omega) fun cA kA9 comp f1 f2 f3 f4 => ?_
  obtain ⟨j, hj⟩ := List.getElem?_of_mem ht
  have hk2 : (ktys (fK y))[j]? = some (kA (fK y) (.object C), .object C) := by simp [ktys, hj]
  obtain ⟨kA8, comp8, b1, b2, b3, b4⟩ := ((hK_at hI hE).2 j _ hk2).2
  have hcA : cA = kA (fK y) (.object C) := Option.some.inj (f1.symm.trans b4)
  subst hcA
  rw [n2, arrV_new]
  have hH1 : HP (fK y) (wnew w (.inl (.object C, N, .inr (.inr (.inr (.inr (fun _ => none)))))) N) (H.push (arrV (kA (fK y) (.object C)) N (fun _ => .null))) := by
    refine hH.new hI N ht (by simp) (fun q hq => ?_) (va_at_arr' ?_) ⟨_, Array.getElem?_push_size, rfl, rfl, trivial⟩
    · rw [Array.getElem?_push, if_neg (Nat.ne_of_lt hq)]
    · rw [Array.getElem?_push_size]; rfl
  have hS1 : va_S (Afr (fK y)) (fs y).heap (H.push (arrV (kA (fK y) (.object C)) N (fun _ => .null))) locs := ⟨Nat.le_trans hS.1 (by simp), fun x h1 h2 => by
    rw [Array.getElem?_push, if_neg (Nat.ne_of_lt (Nat.lt_of_lt_of_le h1 hS.1))]; exact hS.2.1 x h1 h2, hS.2.2⟩
  have h3 := h2 _ locs ls ⟨p1, p2, Nat.le_succ_of_le p3, Nat.le_trans p4 (Nat.le_add_right _ _), hH1, hS1⟩ hls
  have e1 : wnx (wnew w (.inl (.object C, N, .inr (.inr (.inr (.inr (fun _ => none)))))) N) - wnx (fw0 y) = wnx w - wnx (fw0 y) + 1 := Nat.succ_sub p3
  have e2 : wsl (wnew w (.inl (.object C, N, .inr (.inr (.inr (.inr (fun _ => none)))))) N) - wsl (fw0 y) = wsl w - wsl (fw0 y) + N := Nat.sub_add_comm p4
  have e3 : kL (fK y) (wnx w) = H.size := wnx_addr hI hH
  have h4 : cvs (fK y) (va_rf (some (wnx w)) :: st) = .ref H.size :: cvs (fK y) st := by rw [← e3]; rfl
  unfold WV at h3
  rw [e1, e2, h4] at h3
  exact h3
end VN
