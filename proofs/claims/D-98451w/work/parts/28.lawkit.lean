/-! ===== the law's own frame ===== -/
/-- the law's end: true, within its room -/
def fin9 (w : Wd) : Option (Unit × Wd) := if wnx w ≤ 1200528 ∧ wsl w ≤ 5501098 then some ((), w) else none
/-- what is known of the law's frame -/
def RetL (y : Fx (Unit × Wd)) : Prop := ∃ b : Nat, (∀ r, wnx (fwo y r) = 1200528 ∧ wsl (fwo y r) = 5501098) ∧ wnx (fw0 y) = 400 ∧ wsl (fw0 y) = 0 ∧ (∀ r, fG y r = lw_Z (fbelow y) #[Value.ref b] (fs y)) ∧ fargs y = #[Value.ref b] ∧ fR y = room_1 ∧ (fmeth y).sig.returnType = ret ∧ fs y = kS (fK y)
section VLaw
variable {y : Fx (Unit × Wd)} {own : String} {nL F L : Nat} {w : Wd} {lc : List (Nat × Value)} {pc : Nat}
theorem V_lawret (hk : OkF y own code nL F L) (hR : RetL y) (hd : decode code pc = .ok (.ireturn, 1)) : V y w lc [.int 1] pc (fin9 w) := by
  intro r hr
  obtain ⟨b, g1, g2, g3, g4, g5, g6, g7, g8⟩ := hR
  unfold fin9 at hr
  split at hr
  · rename_i hc
    refine ⟨⟨by rw [(g1 r).1]; exact hc.1, by rw [(g1 r).2]; exact hc.2⟩, fun H locs ls hp hl => ?_⟩
    obtain ⟨p1, p2, p3, p4, hH, hS⟩ := hp
    unfold WV
    rw [g4 r, g5, g6, g2, g3]
    have h0 := lw_ret (p := fp y) (l := fl y) (e := fe y) (s := fs y) (m := fm y) (below := fbelow y) (meth := fmeth y) (c := fc y) (b := b) (H := H) (ls := ls) (pc := pc) hk.1 hk.2.1 g7 hk.2.2.2.2.2.2.2.2.2.2 hd
    have h1 := va_forget (locs := locs) (fun q hq => by have := hS.2.2 q hq; unfold Afr at this; rw [← g8] at this; exact this) h0
    exact fun T hT X => h1 T hT (stand_widen X (by have := hc.1; omega) (by have := hc.2; omega))
  · cases hr
end VLaw
section VCW
variable {β ρ : Type} {y : Fx β} {own : String} {cc : ByteArray} {nL F L : Nat} {w : Wd} {lc : List (Nat × Value)} {pc : Nat}
theorem V_invVW (hk : OkF y own cc nL F L) {av rest st : List Value} {idx n F9 L9 m9 ci : Nat} {rr : Option Nat} {C : vw_C} {yc : MethodName} {b9 : ByteArray} {r9 : Option FieldType} {hh : List (Nat × Nat × Nat × Nat)} {f : Nat → Option (ρ × Wd)} {rv : ρ → Option Value} {k : ρ × Wd → Option β} (hc : vwAll[ci]? = some C) (hyC : yc.cls = C.1) (hC : ∀ b r, f b = some r → Ct (fl y) (fK y) F9 L9 yc (wsW_ yc b9 m9 r9 hh) (.ref b :: av) w (rv r.1) r.2)
    (hG : GoodIn lw_all (wsV own idx C.1 yc (wsW_ yc b9 m9 r9 hh))) (hdn : okDesc yc n) (hn : av.length = n) (hroom : F9 + 1 ≤ F ∧ 8 + (m9 + 11) + L9 ≤ L) (hst : st = av.reverse ++ va_rf rr :: rest) (hcat : (rest.map fun v => v.category).sum ≤ 8) (hd : decode cc pc = .ok (.invokevirtual idx, 3)) (kk : ∀ r, V y r.2 lc ((rv r.1).toList ++ rest) (pc + 3) (k r)) : V y w lc st pc ((recv w rr ci).bind fun b => (cal w (f b)).bind k) := by
  refine V_bind fun b hb => V_bind fun r hr => ?_
  obtain ⟨rfl, hbc⟩ := recv_spec hb
  obtain ⟨h1, h2⟩ := cal_spec hr
  refine V_callG hk h2 (fun H locs ls cells slots hH hE hU hls hf => ⟨(Value.ref (kL (fK y) b) :: cvs (fK y) av).toArray, ?_⟩) (kk r)
  refine vq_runVW ⟨hk.1, hk.2.1, hk.2.2.1, hk.2.2.2.2.1, hk.2.2.2.2.2.1⟩ (hC b r h1) (vq_cwVW n hk.2.2.2.2.2.1 hG rfl rfl rfl ⟨hyC, hdn⟩ ⟨by rw [hk.2.2.2.2.2.2.2.2.1]; exact hroom.1, by rw [hk.2.2.2.2.2.2.2.2.2.1]; exact hroom.2⟩) (b := kL (fK y) b) (As := cvs (fK y) av) ⟨PcP_blind _ _ _, recv_cell hk hH hc hbc, fun U hU1 hU2 => ⟨rfl, hU U hU1 hU2⟩⟩ rfl (by rw [List.length_map]; exact hn) hls (by rw [hst]; exact cvs_rev _ _ _) ?_ hd hf
  exact lv_room (by rw [cvs_cat]; exact hcat)
end VCW
