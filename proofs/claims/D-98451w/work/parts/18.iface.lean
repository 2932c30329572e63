/-! ===== calls by interface, new arrays ===== -/
section VF
variable {β ρ : Type} {y : Fx β} {own : String} {cc : ByteArray} {nL F L : Nat} {w : Wd} {lc : List (Nat × Value)} {st : List Value} {pc : Nat} {comp : Option β}
theorem V_callG5 (hk : OkF y own cc nL F L) {w9 : Wd} {v9 : Option Value} {st rest : List Value} (hw : wnx w ≤ wnx w9 ∧ wsl w ≤ wsl w9)
    (hrun : ∀ (H : Heap) (locs : List Loc) (ls : Array Slot) (cells slots : Nat), HP (fK y) w H → EnvK (fK y) (fs y) → (∀ U : State, U.heap = H → (fs y).WarmedH U.vm → EnvK (fK y) U ∧ HP (fK y) w U.heap) → ls.size = nL → cells + (wnx w9 - wnx w) ≤ (fR y).cells ∧ slots + (wsl w9 - wsl w) ≤ (fR y).slots →
      ∃ a, va_Run5 (fp y) (fl y) (fe y) (fR y) (fs y) (fm y) (fargs y) (fbelow y) (fmeth y) (fc y) H locs cells slots (wnx w9 - wnx w) (wsl w9 - wsl w) (F0 (fm y) pc ls (cvs (fK y) st)) (cvs (fK y) rest) (QcP (fK y) v9 w9 a) (Afr (fK y)))
    (kk : V y w9 lc (v9.toList ++ rest) (pc + 5) comp) : V y w lc st pc comp := by
  intro r hr
  obtain ⟨h1, h2⟩ := kk r hr
  refine ⟨⟨Nat.le_trans hw.1 h1.1, Nat.le_trans hw.2 h1.2⟩, fun H locs ls hp hl => ?_⟩
  obtain ⟨p1, p2, p3, p4, hH, hS⟩ := hp
  have hE := hk.2.2.2.2.2.2.1
  obtain ⟨a, hrun⟩ := hrun H locs ls (wnx w - wnx (fw0 y)) (wsl w - wsl (fw0 y)) hH hE (fun U hU hW => ⟨⟨State.WarmedH.trans hE.1 hW, by rw [hU]; exact Nat.le_trans hE.2.1 hS.1, fun q hq => by rw [hU, hS.2.1 q (Nat.lt_of_lt_of_le hq hE.2.1) (fun z => by have z' : (kS (fK y)).heap.size ≤ q := z; omega)]; exact hE.2.2 q hq⟩, by rw [hU]; exact hH⟩) (by rw [hl.1]; exact hk.2.2.2.1) ⟨by have := h1.1; have := hw.1; omega, by have := h1.2; have := hw.2; omega⟩
  intro T hT X
  obtain ⟨v, st₀, t, T', Lc, h0, X', hL, e1, e2, ⟨hv, hH', hF⟩, step⟩ := hrun T hT X
  cases hv
  obtain ⟨hF1, hF2⟩ := hF
  rw [h0] at hF1 hF2
  have hS' : va_S (Afr (fK y)) (fs y).heap T'.heap (locs ++ Lc) := ⟨Nat.le_trans hS.1 (by rw [e1]; exact hF1), fun q h1 h2 => by rw [e1, hF2 q (Nat.lt_of_lt_of_le h1 hS.1) h2]; exact hS.2.1 q h1 h2, fun q hq => by
    rcases List.mem_append.mp hq with h | h
    · exact hS.2.2 q h
    · exact hL q h⟩
  have h3 := h2 T'.heap (locs ++ Lc) ls ⟨p1, p2, Nat.le_trans p3 hw.1, Nat.le_trans p4 hw.2, by rw [e1]; exact hH', hS'⟩ hl
  have e3 : wnx w9 - wnx (fw0 y) = wnx w - wnx (fw0 y) + (wnx w9 - wnx w) := by have := hw.1; omega
  have e4 : wsl w9 - wsl (fw0 y) = wsl w - wsl (fw0 y) + (wsl w9 - wsl w) := by have := hw.2; omega
  unfold WV at h3
  rw [e3, e4] at h3
  obtain ⟨t2, a1, b1⟩ := h3 T' rfl X'
  refine ⟨t2, step t2 ?_, b1⟩
  have e5 : cvs (fK y) (v9.toList ++ rest) = (v9.map (cv (kL (fK y)))).toList ++ cvs (fK y) rest := by cases v9 <;> rfl
  rw [e5] at a1
  exact a1
theorem V_invF (hk : OkF y own cc nL F L) {av rest st : List Value} {idx cnt n F9 L9 m9 ci N9 : Nat} {a : Nat} {C : String} {T : u_T} {x yc : MethodName} {b9 : ByteArray} {r9 : Option FieldType} {f : Option (ρ × Wd)} {rv : ρ → Option Value} {k : ρ × Wd → Option β} (hc : vwCl[ci]? = some (C, T, N9)) (ha : cls w a = some ci) (hC : ∀ r, f = some r → Ct (fl y) (fK y) F9 L9 yc (ws_ yc b9 m9 r9) (.ref a :: av) w (rv r.1) r.2)
    (hq1 : Cond.methodLink own idx x ∈ lw_all) (hq2 : Cond.selects C x yc ∈ lw_all) (hq3 : Cond.instanceMethod yc ∈ lw_all) (hq4 : Cond.initialized yc.cls ∈ lw_all) (hq5 : Cond.code yc b9 m9 r9 ∈ lw_all) (hf1 : Cond.declares x ∈ lw_tbl) (hf2 : Cond.interfaceMethod x.cls x.cls x.name x.desc ∈ lw_tbl) (hf3 : Cond.publicMethod yc ∈ lw_tbl) (hf4 : Cond.unhidden C x.name x.desc ∈ lw_tbl) (hf5 : Cond.castable C x.cls ∈ lw_tbl)
    (hdn : okDesc x n) (hn : av.length = n) (hroom : F9 + 1 ≤ F ∧ 8 + (m9 + 11) + L9 ≤ L) (hst : st = av.reverse ++ va_rf (some a) :: rest) (hcat : (rest.map fun v => v.category).sum ≤ 8) (hd : decode cc pc = .ok (.invokeinterface idx cnt, 5)) (kk : ∀ r, V y r.2 lc ((rv r.1).toList ++ rest) (pc + 5) (k r)) : V y w lc st pc ((cal w f).bind k) := by
  refine V_bind fun r hr => ?_
  obtain ⟨h1, h2⟩ := cal_spec hr
  have hI := hk.2.2.2.2.2.2.2.1
  have hE := hk.2.2.2.2.2.2.1
  have hts := hk.2.2.2.2.2.1
  obtain ⟨A0, h0⟩ := hI.2.2.2.1
  have hFw : va_Fw C x yc (fs y) := va_Fw.moved ⟨hdn.1, hdn.2.1⟩ hE.alike (va_Fw.of (h0 _ hf1) (h0 _ hf2) (h0 _ hf3) (h0 _ hf4) (h0 _ hf5))
  have hat := ((hK_at hI hE).1 ci _ hc).2
  have hG : GoodIn lw_all (va_wsF own idx C x yc (ws_ yc b9 m9 r9)) := by
    refine lw_app ?_ (lw_meth hq5)
    intro w hw
    simp only [List.mem_cons, List.not_mem_nil, or_false] at hw
    rcases hw with e | e | e | e
    · rw [e]; exact hq1
    · rw [e]; exact hq2
    · rw [e]; exact hq3
    · rw [e]; exact hq4
  refine V_callG5 hk h2 (fun H locs ls cells slots hH hE hU hls hf => ⟨(Value.ref (kL (fK y) a) :: cvs (fK y) av).toArray, ?_⟩) (kk r)
  refine va_runF hat ⟨hk.1, hk.2.1, hk.2.2.1, hk.2.2.2.2.1, hk.2.2.2.2.2.1⟩ (hC r h1) (va_cwF n hts hG rfl rfl rfl hFw hdn ⟨by rw [hk.2.2.2.2.2.2.2.2.1]; exact hroom.1, by rw [hk.2.2.2.2.2.2.2.2.2.1]; exact hroom.2⟩) (b := kL (fK y) a) (As := cvs (fK y) av) ⟨PcP_blind _ _ _, recv_cell hk hH (vwAll_of hc) (cls_spec ha), fun U hU1 hU2 => ⟨rfl, hU U hU1 hU2⟩⟩ rfl (by rw [List.length_map]; exact hn) hls (by rw [hst]; exact cvs_rev _ _ _) ?_ hd hf
  exact lv_room (by rw [cvs_cat]; exact hcat)
theorem V_nmW {k : Wd → Option β} (kk : ∀ w', V y w' lc st pc (k w')) : V y w lc st pc ((some w).bind k) := kk w
theorem V_na_int (hk : OkF y own cc nL F L) {n : Int32} {kc : Nat → Option β} (hd : decode cc pc = .ok (.newarray .int, 2)) (kk : ∀ N, V y (wnew w (.inl (.int, N, .inl (fun _ => 0))) N) lc (va_rf (some (wnx w)) :: st) (pc + 2) (kc N)) : V y w lc (.int n :: st) pc ((nchk n).bind kc) := V_newA (g := .inl (fun _ => 0)) (at9 := .int) (ty := .int) hk rfl (by decide) (by decide) (fun _ _ h => h) q211 (fun _ _ => rfl) hd kk
theorem V_na_byte (hk : OkF y own cc nL F L) {n : Int32} {kc : Nat → Option β} (hd : decode cc pc = .ok (.newarray .byte, 2)) (kk : ∀ N, V y (wnew w (.inl (.byte, N, .inl (fun _ => 0))) N) lc (va_rf (some (wnx w)) :: st) (pc + 2) (kc N)) : V y w lc (.int n :: st) pc ((nchk n).bind kc) := V_newA (g := .inl (fun _ => 0)) (at9 := .byte) (ty := .byte) hk rfl (by decide) (by decide) (fun _ _ h => h) q293 (fun _ _ => rfl) hd kk
theorem V_na_long (hk : OkF y own cc nL F L) {n : Int32} {kc : Nat → Option β} (hd : decode cc pc = .ok (.newarray .long, 2)) (kk : ∀ N, V y (wnew w (.inl (.long, N, .inr (.inl (fun _ => 0)))) N) lc (va_rf (some (wnx w)) :: st) (pc + 2) (kc N)) : V y w lc (.int n :: st) pc ((nchk n).bind kc) := V_newA (g := .inr (.inl (fun _ => 0))) (at9 := .long) (ty := .long) hk rfl (by decide) (by decide) (fun _ _ h => h) q1461 (fun _ _ => rfl) hd kk
theorem V_na_boolean (hk : OkF y own cc nL F L) {n : Int32} {kc : Nat → Option β} (hd : decode cc pc = .ok (.newarray .boolean, 2)) (kk : ∀ N, V y (wnew w (.inl (.boolean, N, .inl (fun _ => 0))) N) lc (va_rf (some (wnx w)) :: st) (pc + 2) (kc N)) : V y w lc (.int n :: st) pc ((nchk n).bind kc) := V_newA (g := .inl (fun _ => 0)) (at9 := .boolean) (ty := .boolean) hk rfl (by decide) (by decide) (fun _ _ h => h) q1462 (fun _ _ => rfl) hd kk
theorem V_getsU (hk : OkF y own cc nL F L) {C n d ref : String} {i lab : Nat} (hz : (C, n, d, lab) ∈ unkL) (hq : Cond.fieldLink own i ref n d ∈ lw_all) (hsame : ∀ x, (fs y).fieldFound? C n d = some x → (fs y).fieldFound? ref n d = some x) (hd : decode cc pc = .ok (.getstatic i, 3)) (kk : ∀ v, V y w lc (va_rf v :: st) (pc + 3) comp) : V y w lc st pc comp := by
  have hI := hk.2.2.2.2.2.2.2.1
  have hE := hk.2.2.2.2.2.2.1
  intro r hr
  refine ⟨(kk none r hr).1, fun H locs ls hp hl => ?_⟩
  rcases hI.2.2.2.2.2.2.2.2.2 _ hz with hZ | hZ
  · have hZ2 := (hZ.moved hE.alike).kept (H1 := (fs y).heap) (fun a ha _ => hE.2.2 a ha)
    exact va_gets hk.1 hk.2.1 hZ2 hp.2.2.2.2.2 hk.2.2.2.2.1 (hk.2.2.2.2.2.1 _ hq) hsame hd ((kk none r hr).2 H locs ls hp hl)
  · have hZ2 := (hZ.moved hE.alike).kept (H1 := (fs y).heap) (fun a ha _ => hE.2.2 a ha)
    exact va_gets hk.1 hk.2.1 hZ2 hp.2.2.2.2.2 hk.2.2.2.2.1 (hk.2.2.2.2.2.1 _ hq) hsame hd ((kk (some lab) r hr).2 H locs ls hp hl)
end VF
