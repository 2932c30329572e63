noncomputable def mX3_ask_p92 (s_X3_ask : Nat → Wd → Option ((Option Nat ⊕ Nat) × Wd)) (s_X3_sum : Nat → Wd → Option ((Option Nat ⊕ Nat) × Wd)) (w : Wd) (l0 : Option Nat) (l1 : Option Nat) (l2 : Int32) : Option ((Option Nat ⊕ Nat) × Wd) :=
(recv w l0 3).bind fun b2 => (cal w (mX3_next b2 w)).bind fun r1 =>
(some (wnew r1.2 (.inr (10, df9_X10)) 3)).bind fun (w3 : Wd) =>
(recv w3 l0 3).bind fun b5 => (calx w3 (s_X3_sum b5 w3)).bind fun r4 => bx r4 fun v6 w7 =>
(((some (wnx r1.2)))).bind fun b9 => (cal w7 (mX10_init b9 l2 l1 v6 w7)).bind fun r8 =>
some (.inl ((some (wnx r1.2))), r8.2)
noncomputable def mX3_ask (s_X3_ask : Nat → Wd → Option ((Option Nat ⊕ Nat) × Wd)) (s_X3_sum : Nat → Wd → Option ((Option Nat ⊕ Nat) × Wd)) (this : Nat) (w : Wd) : Option ((Option Nat ⊕ Nat) × Wd) :=
(gI w ((some this)) 3 4).bind fun v1 =>
if ¬ v1 = 226 then (
(recv w ((some this)) 3).bind fun b3 => (calx w (s_X3_sum b3 w)).bind fun r2 => bx r2 fun v4 w5 =>
(gI w5 ((some this)) 3 4).bind fun v6 =>
if v6 = 60 then (
mX3_ask_p92 s_X3_ask s_X3_sum w5 ((some this)) v4 v6)
else (
if v6 = 62 then (
mX3_ask_p92 s_X3_ask s_X3_sum w5 ((some this)) v4 v6)
else (
if v6 = 61 then (
mX3_ask_p92 s_X3_ask s_X3_sum w5 ((some this)) v4 v6)
else (
if v6 = 35 then (
mX3_ask_p92 s_X3_ask s_X3_sum w5 ((some this)) v4 v6)
else (
if v6 = 303 then (
mX3_ask_p92 s_X3_ask s_X3_sum w5 ((some this)) v4 v6)
else (
if v6 = 304 then (
mX3_ask_p92 s_X3_ask s_X3_sum w5 ((some this)) v4 v6)
else (
(recv w5 ((some this)) 3).bind fun b8 => (cal w5 (mX3_wrong b8 1 w5)).bind fun r7 =>
thr r7.2 r7.1)))))))
else (
(recv w ((some this)) 3).bind fun b10 => (calx w (mX3_opens b10 w)).bind fun r9 => bx r9 fun v11 w12 =>
(some (wnew w12 (.inr (9, df9_X9)) 1)).bind fun (w13 : Wd) =>
(recv w13 ((some this)) 3).bind fun b15 => (calx w13 (s_X3_ask b15 w13)).bind fun r14 => bx r14 fun v16 w17 =>
(((some (wnx w12)))).bind fun b19 => (cal w17 (mX9_init b19 v16 w17)).bind fun r18 =>
(gI r18.2 ((some this)) 3 6).bind fun v20 =>
(pf r18.2 ((some this)) 3 6 (.int (v20 - 1))).bind fun w21 =>
some (.inl ((some (wnx w12))), w21))
theorem eX3_ask_p92 {y : Fx ((Option Nat ⊕ Nat) × Wd)} {F L F9 L9 : Nat} (hk : OkF y RX3 cX3_ask 3 F L) (hR : RetX y rvR (some (.object "HookSwings$Asked"))) (hst : (fl y).stackTraces = false) (hF1 : F9 + 1 ≤ F ∧ 60 + L9 ≤ L) (hF2 : 9 ≤ F ∧ 209 ≤ L) {s_X3_ask : Nat → Wd → Option ((Option Nat ⊕ Nat) × Wd)} (hs_X3_ask : ∀ (b : Nat) (w : Wd) r, s_X3_ask b w = some r → CtX (fl y) (fK y) F9 L9 yX3_ask (ws_ yX3_ask cX3_ask 3 (some (.object "HookSwings$Asked"))) [.ref b] w rvR r) {s_X3_sum : Nat → Wd → Option ((Option Nat ⊕ Nat) × Wd)} (hs_X3_sum : ∀ (b : Nat) (w : Wd) r, s_X3_sum b w = some r → CtX (fl y) (fK y) F9 L9 yX3_sum (ws_ yX3_sum cX3_sum 3 (some (.object "HookSwings$Sum"))) [.ref b] w rvR r) (w : Wd) (l0 : Option Nat) (l1 : Option Nat) (l2 : Int32) : V y w [(0, va_rf l0), (1, va_rf l1), (2, .int l2)] [] 92 (mX3_ask_p92 s_X3_ask s_X3_sum w l0 l1 l2) := by
  unfold mX3_ask_p92
  refine V_aload_n (pc := 92) hk dX3_ask_92 0 rfl ?_
  refine n_X3_74 (pc := 93) hk (fun b r h => ctX3_next (fl y) (fK y) hk.2.2.2.2.2.2.2.1 b w r h) ⟨by omega, by omega⟩ (Nat.le_of_ble_eq_true rfl) dX3_ask_93 (fun r1 => ?_)
  refine o_X3_159 (pc := 96) hk dX3_ask_96 ?_
  refine V_nmW (fun w3 => ?_)
  refine V_dup (pc := 99) hk dX3_ask_99 (rf_cat _) ?_
  refine V_iload_n (pc := 100) hk dX3_ask_100 2 rfl ?_
  refine V_aload_n (pc := 101) hk dX3_ask_101 1 rfl ?_
  refine V_aload_n (pc := 102) hk dX3_ask_102 0 rfl ?_
  refine n_X3_93 (pc := 103) hk hR (fun b r h => hs_X3_sum b w3 r h) ⟨by omega, by omega⟩ (by simp [rf_cat, cat_int, cat_long, cat_ref]) dX3_ask_103 (fun v6 w7 => ?_)
  refine n_X3_161 (pc := 106) hk (fun b r h => ctX10_init (fl y) (fK y) hk.2.2.2.2.2.2.2.1 b l2 l1 v6 w7 r h) ⟨by omega, by omega⟩ (by simp [rf_cat, cat_int, cat_long, cat_ref]) dX3_ask_106 (fun r8 => ?_)
  exact V_areturnX (pc := 109) hk (Or.inl ⟨_, rfl⟩) hR rfl dX3_ask_109
theorem eX3_ask {y : Fx ((Option Nat ⊕ Nat) × Wd)} {F L F9 L9 : Nat} (hk : OkF y RX3 cX3_ask 3 F L) (hR : RetX y rvR (some (.object "HookSwings$Asked"))) (hst : (fl y).stackTraces = false) (hF1 : F9 + 1 ≤ F ∧ 60 + L9 ≤ L) (hF2 : 9 ≤ F ∧ 209 ≤ L) {s_X3_ask : Nat → Wd → Option ((Option Nat ⊕ Nat) × Wd)} (hs_X3_ask : ∀ (b : Nat) (w : Wd) r, s_X3_ask b w = some r → CtX (fl y) (fK y) F9 L9 yX3_ask (ws_ yX3_ask cX3_ask 3 (some (.object "HookSwings$Asked"))) [.ref b] w rvR r) {s_X3_sum : Nat → Wd → Option ((Option Nat ⊕ Nat) × Wd)} (hs_X3_sum : ∀ (b : Nat) (w : Wd) r, s_X3_sum b w = some r → CtX (fl y) (fK y) F9 L9 yX3_sum (ws_ yX3_sum cX3_sum 3 (some (.object "HookSwings$Sum"))) [.ref b] w rvR r) (this : Nat) (w : Wd) : V y w [(0, va_rf (some this))] [] 0 (mX3_ask s_X3_ask s_X3_sum this w) := by
  unfold mX3_ask
  refine V_aload_n (pc := 0) hk dX3_ask_0 0 rfl ?_
  refine g_X3_25 (pc := 1) hk dX3_ask_1 (fun v1 => ?_)
  refine V_sipush (pc := 4) (v := 226) hk dX3_ask_4 rfl ?_
  refine V_icmp_ne (pc := 7) (tgt := 38) hk dX3_ask_7 rfl ?_ ?_
  · refine V_aload_n (pc := 38) hk dX3_ask_38 0 rfl ?_
    refine n_X3_93 (pc := 39) hk hR (fun b r h => hs_X3_sum b w r h) ⟨by omega, by omega⟩ (Nat.le_of_ble_eq_true rfl) dX3_ask_39 (fun v4 w5 => ?_)
    refine V_astore_n (pc := 42) (lc' := [(1, va_rf v4), (0, va_rf ((some this)))]) (i := 1) hk dX3_ask_42 rfl (Nat.le_of_ble_eq_true rfl) (by simp [rf_cat, cat_int, cat_long, cat_ref]) ?_
    refine V_aload_n (pc := 43) hk dX3_ask_43 1 rfl ?_
    refine g_X3_25 (pc := 44) hk dX3_ask_44 (fun v6 => ?_)
    refine V_istore_n (pc := 47) (lc' := [(2, .int v6), (1, va_rf v4), (0, va_rf ((some this)))]) (i := 2) hk dX3_ask_47 rfl (Nat.le_of_ble_eq_true rfl) (by simp [rf_cat, cat_int, cat_long, cat_ref]) ?_
    refine V_iload_n (pc := 48) hk dX3_ask_48 0 rfl ?_
    refine V_bipush (pc := 49) (v := 60) hk dX3_ask_49 rfl ?_
    refine V_icmp_eq (pc := 51) (tgt := 92) hk dX3_ask_51 rfl ?_ ?_
    · refine V_pick (lc' := [(0, va_rf ((some this))), (1, va_rf v4), (2, .int v6)]) [2, 1, 0] rfl ?_
      exact eX3_ask_p92 hk hR hst hF1 hF2 hs_X3_ask hs_X3_sum w5 ((some this)) v4 v6
    · refine V_iload_n (pc := 54) hk dX3_ask_54 0 rfl ?_
      refine V_bipush (pc := 55) (v := 62) hk dX3_ask_55 rfl ?_
      refine V_icmp_eq (pc := 57) (tgt := 92) hk dX3_ask_57 rfl ?_ ?_
      · refine V_pick (lc' := [(0, va_rf ((some this))), (1, va_rf v4), (2, .int v6)]) [2, 1, 0] rfl ?_
        exact eX3_ask_p92 hk hR hst hF1 hF2 hs_X3_ask hs_X3_sum w5 ((some this)) v4 v6
      · refine V_iload_n (pc := 60) hk dX3_ask_60 0 rfl ?_
        refine V_bipush (pc := 61) (v := 61) hk dX3_ask_61 rfl ?_
        refine V_icmp_eq (pc := 63) (tgt := 92) hk dX3_ask_63 rfl ?_ ?_
        · refine V_pick (lc' := [(0, va_rf ((some this))), (1, va_rf v4), (2, .int v6)]) [2, 1, 0] rfl ?_
          exact eX3_ask_p92 hk hR hst hF1 hF2 hs_X3_ask hs_X3_sum w5 ((some this)) v4 v6
        · refine V_iload_n (pc := 66) hk dX3_ask_66 0 rfl ?_
          refine V_bipush (pc := 67) (v := 35) hk dX3_ask_67 rfl ?_
          refine V_icmp_eq (pc := 69) (tgt := 92) hk dX3_ask_69 rfl ?_ ?_
          · refine V_pick (lc' := [(0, va_rf ((some this))), (1, va_rf v4), (2, .int v6)]) [2, 1, 0] rfl ?_
            exact eX3_ask_p92 hk hR hst hF1 hF2 hs_X3_ask hs_X3_sum w5 ((some this)) v4 v6
          · refine V_iload_n (pc := 72) hk dX3_ask_72 0 rfl ?_
            refine V_sipush (pc := 73) (v := 303) hk dX3_ask_73 rfl ?_
            refine V_icmp_eq (pc := 76) (tgt := 92) hk dX3_ask_76 rfl ?_ ?_
            · refine V_pick (lc' := [(0, va_rf ((some this))), (1, va_rf v4), (2, .int v6)]) [2, 1, 0] rfl ?_
              exact eX3_ask_p92 hk hR hst hF1 hF2 hs_X3_ask hs_X3_sum w5 ((some this)) v4 v6
            · refine V_iload_n (pc := 79) hk dX3_ask_79 0 rfl ?_
              refine V_sipush (pc := 80) (v := 304) hk dX3_ask_80 rfl ?_
              refine V_icmp_eq (pc := 83) (tgt := 92) hk dX3_ask_83 rfl ?_ ?_
              · refine V_pick (lc' := [(0, va_rf ((some this))), (1, va_rf v4), (2, .int v6)]) [2, 1, 0] rfl ?_
                exact eX3_ask_p92 hk hR hst hF1 hF2 hs_X3_ask hs_X3_sum w5 ((some this)) v4 v6
              · refine V_aload_n (pc := 86) hk dX3_ask_86 2 rfl ?_
                refine V_iconst (pc := 87) (v := 1) hk dX3_ask_87 rfl ?_
                refine n_X3_70 (pc := 88) hk (fun b r h => ctX3_wrong (fl y) (fK y) hk.2.2.2.2.2.2.2.1 hst b 1 w5 r h) ⟨by omega, by omega⟩ (Nat.le_of_ble_eq_true rfl) dX3_ask_88 (fun r7 => ?_)
                exact V_athrow (pc := 91) hk hR dX3_ask_91
  · refine V_aload_n (pc := 10) hk dX3_ask_10 0 rfl ?_
    refine n_X3_151 (pc := 11) hk hR (fun b r h => ctX3_opens (fl y) (fK y) hk.2.2.2.2.2.2.2.1 hst b w r h) ⟨by omega, by omega⟩ (Nat.le_of_ble_eq_true rfl) dX3_ask_11 (fun v11 w12 => ?_)
    refine o_X3_154 (pc := 14) hk dX3_ask_14 ?_
    refine V_nmW (fun w13 => ?_)
    refine V_dup (pc := 17) hk dX3_ask_17 (rf_cat _) ?_
    refine V_aload_n (pc := 18) hk dX3_ask_18 0 rfl ?_
    refine n_X3_148 (pc := 19) hk hR (fun b r h => hs_X3_ask b w13 r h) ⟨by omega, by omega⟩ (by simp [rf_cat, cat_int, cat_long, cat_ref]) dX3_ask_19 (fun v16 w17 => ?_)
    refine n_X3_156 (pc := 22) hk (fun b r h => ctX9_init (fl y) (fK y) hk.2.2.2.2.2.2.2.1 b v16 w17 r h) ⟨by omega, by omega⟩ (by simp [rf_cat, cat_int, cat_long, cat_ref]) dX3_ask_22 (fun r18 => ?_)
    refine V_astore_n (pc := 25) (lc' := [(1, va_rf ((some (wnx w12)))), (0, va_rf ((some this)))]) (i := 1) hk dX3_ask_25 rfl (Nat.le_of_ble_eq_true rfl) (by simp [rf_cat, cat_int, cat_long, cat_ref]) ?_
    refine V_aload_n (pc := 26) hk dX3_ask_26 1 rfl ?_
    refine V_dup (pc := 27) hk dX3_ask_27 (rf_cat _) ?_
    refine g_X3_77 (pc := 28) hk dX3_ask_28 (fun v20 => ?_)
    refine V_iconst (pc := 31) (v := 1) hk dX3_ask_31 rfl ?_
    refine V_isub (pc := 32) hk dX3_ask_32 ?_
    refine p_X3_77 (pc := 33) hk dX3_ask_33 (fun w21 => ?_)
    refine V_aload_n (pc := 36) hk dX3_ask_36 0 rfl ?_
    exact V_areturnX (pc := 37) hk (Or.inl ⟨_, rfl⟩) hR rfl dX3_ask_37
noncomputable def mX3_both_b17 (s_X3_ask : Nat → Wd → Option ((Option Nat ⊕ Nat) × Wd)) (k17 : Wd → (Option Nat) → (Option Nat) → Option ((Option Nat ⊕ Nat) × Wd)) (w : Wd) (l0 : Option Nat) (l1 : Option Nat) : Option ((Option Nat ⊕ Nat) × Wd) :=
(gI w l0 3 4).bind fun v1 =>
if ¬ v1 = 225 then (
(recv w l1 16).bind fun b3 => (cal w (mJ2_size b3 w)).bind fun r2 =>
if ¬ r2.1 = 1 then (
(some (wnew r2.2 (.inr (11, df9_X11)) 2)).bind fun (w4 : Wd) =>
(((some (wnx r2.2)))).bind fun b6 => (cal w4 (mX11_init b6 1 l1 w4)).bind fun r5 =>
some (.inl ((some (wnx r2.2))), r5.2))
else (
(recv r2.2 l1 16).bind fun b8 => (cal r2.2 (mJ2_get b8 0 r2.2)).bind fun r7 =>
(ccast r7.2 clAsk r7.1).bind fun _ =>
some (.inl r7.1, r7.2)))
else (
(recv w l0 3).bind fun b11 => (cal w (mX3_next b11 w)).bind fun r10 =>
(recv r10.2 l0 3).bind fun b13 => (calx r10.2 (s_X3_ask b13 r10.2)).bind fun r12 => bx r12 fun v14 w15 =>
(recv w15 l1 16).bind fun b17 => (cal w15 (mJ2_add b17 v14 w15)).bind fun r16 =>
k17 r16.2 l0 l1)
noncomputable def mX3_both_l17 (s_X3_ask : Nat → Wd → Option ((Option Nat ⊕ Nat) × Wd)) : Nat → Wd → (Option Nat) → (Option Nat) → Option ((Option Nat ⊕ Nat) × Wd)
  | 0, _, _, _ => none
  | n + 1, w, l0, l1 => mX3_both_b17 s_X3_ask (mX3_both_l17 s_X3_ask n) w l0 l1
noncomputable def mX3_both (s_X3_ask : Nat → Wd → Option ((Option Nat ⊕ Nat) × Wd)) (this : Nat) (w : Wd) : Option ((Option Nat ⊕ Nat) × Wd) :=
(some (wnew w (.inr (16, df9_J2)) 3)).bind fun (w1 : Wd) =>
(((some (wnx w)))).bind fun b3 => (cal w1 (mJ2_init b3 w1)).bind fun r2 =>
(recv r2.2 ((some this)) 3).bind fun b5 => (calx r2.2 (s_X3_ask b5 r2.2)).bind fun r4 => bx r4 fun v6 w7 =>
(recv w7 ((some (wnx w))) 16).bind fun b9 => (cal w7 (mJ2_add b9 v6 w7)).bind fun r8 =>
mX3_both_l17 s_X3_ask FU r8.2 ((some this)) ((some (wnx w)))
theorem eX3_both_b17 {y : Fx ((Option Nat ⊕ Nat) × Wd)} {F L F9 L9 : Nat} (hk : OkF y RX3 cX3_both 2 F L) (hR : RetX y rvR (some (.object "HookSwings$Asked"))) (hst : (fl y).stackTraces = false) (hF1 : F9 + 1 ≤ F ∧ 60 + L9 ≤ L) (hF2 : 10 ≤ F ∧ 231 ≤ L) {s_X3_ask : Nat → Wd → Option ((Option Nat ⊕ Nat) × Wd)} (hs_X3_ask : ∀ (b : Nat) (w : Wd) r, s_X3_ask b w = some r → CtX (fl y) (fK y) F9 L9 yX3_ask (ws_ yX3_ask cX3_ask 3 (some (.object "HookSwings$Asked"))) [.ref b] w rvR r) {k17 : Wd → (Option Nat) → (Option Nat) → Option ((Option Nat ⊕ Nat) × Wd)} (h17 : ∀ (w : Wd) (l0 : Option Nat) (l1 : Option Nat), V y w [(0, va_rf l0), (1, va_rf l1)] [] 17 (k17 w l0 l1)) (w : Wd) (l0 : Option Nat) (l1 : Option Nat) : V y w [(0, va_rf l0), (1, va_rf l1)] [] 17 (mX3_both_b17 s_X3_ask k17 w l0 l1) := by
  unfold mX3_both_b17
  refine V_aload_n (pc := 17) hk dX3_both_17 0 rfl ?_
  refine g_X3_25 (pc := 18) hk dX3_both_18 (fun v1 => ?_)
  refine V_sipush (pc := 21) (v := 225) hk dX3_both_21 rfl ?_
  refine V_icmp_ne (pc := 24) (tgt := 43) hk dX3_both_24 rfl ?_ ?_
  · refine V_aload_n (pc := 43) hk dX3_both_43 1 rfl ?_
    refine n_X3_135 (pc := 44) hk (fun b r h => ctJ2_size (fl y) (fK y) hk.2.2.2.2.2.2.2.1 b w r h) ⟨by omega, by omega⟩ (Nat.le_of_ble_eq_true rfl) dX3_both_44 (fun r2 => ?_)
    refine V_iconst (pc := 47) (v := 1) hk dX3_both_47 rfl ?_
    refine V_icmp_ne (pc := 48) (tgt := 62) hk dX3_both_48 rfl ?_ ?_
    · refine o_X3_143 (pc := 62) hk dX3_both_62 ?_
      refine V_nmW (fun w4 => ?_)
      refine V_dup (pc := 65) hk dX3_both_65 (rf_cat _) ?_
      refine V_iconst (pc := 66) (v := 1) hk dX3_both_66 rfl ?_
      refine V_aload_n (pc := 67) hk dX3_both_67 1 rfl ?_
      refine n_X3_145 (pc := 68) hk (fun b r h => ctX11_init (fl y) (fK y) hk.2.2.2.2.2.2.2.1 b 1 l1 w4 r h) ⟨by omega, by omega⟩ (by simp [rf_cat, cat_int, cat_long, cat_ref]) dX3_both_68 (fun r5 => ?_)
      exact V_areturnX (pc := 71) hk (Or.inl ⟨_, rfl⟩) hR rfl dX3_both_71
    · refine V_aload_n (pc := 51) hk dX3_both_51 1 rfl ?_
      refine V_iconst (pc := 52) (v := 0) hk dX3_both_52 rfl ?_
      refine n_X3_137 (pc := 53) hk (fun b r h => ctJ2_get (fl y) (fK y) hk.2.2.2.2.2.2.2.1 b 0 r2.2 r h) ⟨by omega, by omega⟩ (Nat.le_of_ble_eq_true rfl) dX3_both_53 (fun r7 => ?_)
      refine V_cast (pc := 56) hk cst_Ask q721 dX3_both_56 ?_
      refine V_goto (pc := 59) (tgt := 71) hk dX3_both_59 rfl ?_
      exact V_areturnX (pc := 71) hk (Or.inl ⟨_, rfl⟩) hR rfl dX3_both_71
  · refine V_aload_n (pc := 27) hk dX3_both_27 0 rfl ?_
    refine n_X3_74 (pc := 28) hk (fun b r h => ctX3_next (fl y) (fK y) hk.2.2.2.2.2.2.2.1 b w r h) ⟨by omega, by omega⟩ (Nat.le_of_ble_eq_true rfl) dX3_both_28 (fun r10 => ?_)
    refine V_aload_n (pc := 31) hk dX3_both_31 1 rfl ?_
    refine V_aload_n (pc := 32) hk dX3_both_32 0 rfl ?_
    refine n_X3_148 (pc := 33) hk hR (fun b r h => hs_X3_ask b r10.2 r h) ⟨by omega, by omega⟩ (by simp [rf_cat, cat_int, cat_long, cat_ref]) dX3_both_33 (fun v14 w15 => ?_)
    refine n_X3_105 (pc := 36) hk (fun b r h => ctJ2_add (fl y) (fK y) hk.2.2.2.2.2.2.2.1 b v14 w15 r h) ⟨by omega, by omega⟩ (Nat.le_of_ble_eq_true rfl) dX3_both_36 (fun r16 => ?_)
    refine V_pop (pc := 39) hk dX3_both_39 rfl ?_
    refine V_goto (pc := 40) (tgt := 17) hk dX3_both_40 rfl ?_
    exact h17 r16.2 l0 l1
theorem eX3_both_l17 {y : Fx ((Option Nat ⊕ Nat) × Wd)} {F L F9 L9 : Nat} (hk : OkF y RX3 cX3_both 2 F L) (hR : RetX y rvR (some (.object "HookSwings$Asked"))) (hst : (fl y).stackTraces = false) (hF1 : F9 + 1 ≤ F ∧ 60 + L9 ≤ L) (hF2 : 10 ≤ F ∧ 231 ≤ L) {s_X3_ask : Nat → Wd → Option ((Option Nat ⊕ Nat) × Wd)} (hs_X3_ask : ∀ (b : Nat) (w : Wd) r, s_X3_ask b w = some r → CtX (fl y) (fK y) F9 L9 yX3_ask (ws_ yX3_ask cX3_ask 3 (some (.object "HookSwings$Asked"))) [.ref b] w rvR r) : ∀ (n : Nat) (w : Wd) (l0 : Option Nat) (l1 : Option Nat), V y w [(0, va_rf l0), (1, va_rf l1)] [] 17 (mX3_both_l17 s_X3_ask n w l0 l1) := by
  intro n
  induction n with
  | zero => intro w l0 l1; exact V_none
  | succ n ih => intro w l0 l1; exact eX3_both_b17 hk hR hst hF1 hF2 hs_X3_ask ih w l0 l1
theorem eX3_both {y : Fx ((Option Nat ⊕ Nat) × Wd)} {F L F9 L9 : Nat} (hk : OkF y RX3 cX3_both 2 F L) (hR : RetX y rvR (some (.object "HookSwings$Asked"))) (hst : (fl y).stackTraces = false) (hF1 : F9 + 1 ≤ F ∧ 60 + L9 ≤ L) (hF2 : 10 ≤ F ∧ 231 ≤ L) {s_X3_ask : Nat → Wd → Option ((Option Nat ⊕ Nat) × Wd)} (hs_X3_ask : ∀ (b : Nat) (w : Wd) r, s_X3_ask b w = some r → CtX (fl y) (fK y) F9 L9 yX3_ask (ws_ yX3_ask cX3_ask 3 (some (.object "HookSwings$Asked"))) [.ref b] w rvR r) (this : Nat) (w : Wd) : V y w [(0, va_rf (some this))] [] 0 (mX3_both s_X3_ask this w) := by
  unfold mX3_both
  refine o_X3_106 (pc := 0) hk dX3_both_0 ?_
  refine V_nmW (fun w1 => ?_)
  refine V_dup (pc := 3) hk dX3_both_3 (rf_cat _) ?_
  refine n_X3_130 (pc := 4) hk (fun b r h => ctJ2_init (fl y) (fK y) hk.2.2.2.2.2.2.2.1 b w1 r h) ⟨by omega, by omega⟩ (by simp [rf_cat, cat_int, cat_long, cat_ref]) dX3_both_4 (fun r2 => ?_)
  refine V_astore_n (pc := 7) (lc' := [(1, va_rf ((some (wnx w)))), (0, va_rf ((some this)))]) (i := 1) hk dX3_both_7 rfl (Nat.le_of_ble_eq_true rfl) (by simp [rf_cat, cat_int, cat_long, cat_ref]) ?_
  refine V_aload_n (pc := 8) hk dX3_both_8 0 rfl ?_
  refine V_aload_n (pc := 9) hk dX3_both_9 1 rfl ?_
  refine n_X3_148 (pc := 10) hk hR (fun b r h => hs_X3_ask b r2.2 r h) ⟨by omega, by omega⟩ (by simp [rf_cat, cat_int, cat_long, cat_ref]) dX3_both_10 (fun v6 w7 => ?_)
  refine n_X3_105 (pc := 13) hk (fun b r h => ctJ2_add (fl y) (fK y) hk.2.2.2.2.2.2.2.1 b v6 w7 r h) ⟨by omega, by omega⟩ (Nat.le_of_ble_eq_true rfl) dX3_both_13 (fun r8 => ?_)
  refine V_pop (pc := 16) hk dX3_both_16 rfl ?_
  refine V_pick (lc' := [(0, va_rf ((some this))), (1, va_rf ((some (wnx w))))]) [1, 0] rfl ?_
  exact eX3_both_l17 hk hR hst hF1 hF2 hs_X3_ask FU r8.2 ((some this)) ((some (wnx w)))
noncomputable def mX3_either_b17 (s_X3_both : Nat → Wd → Option ((Option Nat ⊕ Nat) × Wd)) (k17 : Wd → (Option Nat) → (Option Nat) → Option ((Option Nat ⊕ Nat) × Wd)) (w : Wd) (l0 : Option Nat) (l1 : Option Nat) : Option ((Option Nat ⊕ Nat) × Wd) :=
(gI w l0 3 4).bind fun v1 =>
if ¬ v1 = 224 then (
(recv w l1 16).bind fun b3 => (cal w (mJ2_size b3 w)).bind fun r2 =>
if ¬ r2.1 = 1 then (
(some (wnew r2.2 (.inr (11, df9_X11)) 2)).bind fun (w4 : Wd) =>
(((some (wnx r2.2)))).bind fun b6 => (cal w4 (mX11_init b6 0 l1 w4)).bind fun r5 =>
some (.inl ((some (wnx r2.2))), r5.2))
else (
(recv r2.2 l1 16).bind fun b8 => (cal r2.2 (mJ2_get b8 0 r2.2)).bind fun r7 =>
(ccast r7.2 clAsk r7.1).bind fun _ =>
some (.inl r7.1, r7.2)))
else (
(recv w l0 3).bind fun b11 => (cal w (mX3_next b11 w)).bind fun r10 =>
(recv r10.2 l0 3).bind fun b13 => (calx r10.2 (s_X3_both b13 r10.2)).bind fun r12 => bx r12 fun v14 w15 =>
(recv w15 l1 16).bind fun b17 => (cal w15 (mJ2_add b17 v14 w15)).bind fun r16 =>
k17 r16.2 l0 l1)
noncomputable def mX3_either_l17 (s_X3_both : Nat → Wd → Option ((Option Nat ⊕ Nat) × Wd)) : Nat → Wd → (Option Nat) → (Option Nat) → Option ((Option Nat ⊕ Nat) × Wd)
  | 0, _, _, _ => none
  | n + 1, w, l0, l1 => mX3_either_b17 s_X3_both (mX3_either_l17 s_X3_both n) w l0 l1
noncomputable def mX3_either (s_X3_both : Nat → Wd → Option ((Option Nat ⊕ Nat) × Wd)) (this : Nat) (w : Wd) : Option ((Option Nat ⊕ Nat) × Wd) :=
(some (wnew w (.inr (16, df9_J2)) 3)).bind fun (w1 : Wd) =>
(((some (wnx w)))).bind fun b3 => (cal w1 (mJ2_init b3 w1)).bind fun r2 =>
(recv r2.2 ((some this)) 3).bind fun b5 => (calx r2.2 (s_X3_both b5 r2.2)).bind fun r4 => bx r4 fun v6 w7 =>
(recv w7 ((some (wnx w))) 16).bind fun b9 => (cal w7 (mJ2_add b9 v6 w7)).bind fun r8 =>
mX3_either_l17 s_X3_both FU r8.2 ((some this)) ((some (wnx w)))
theorem eX3_either_b17 {y : Fx ((Option Nat ⊕ Nat) × Wd)} {F L F9 L9 : Nat} (hk : OkF y RX3 cX3_either 2 F L) (hR : RetX y rvR (some (.object "HookSwings$Asked"))) (hst : (fl y).stackTraces = false) (hF1 : F9 + 1 ≤ F ∧ 60 + L9 ≤ L) (hF2 : 11 ≤ F ∧ 252 ≤ L) {s_X3_both : Nat → Wd → Option ((Option Nat ⊕ Nat) × Wd)} (hs_X3_both : ∀ (b : Nat) (w : Wd) r, s_X3_both b w = some r → CtX (fl y) (fK y) F9 L9 yX3_both (ws_ yX3_both cX3_both 2 (some (.object "HookSwings$Asked"))) [.ref b] w rvR r) {k17 : Wd → (Option Nat) → (Option Nat) → Option ((Option Nat ⊕ Nat) × Wd)} (h17 : ∀ (w : Wd) (l0 : Option Nat) (l1 : Option Nat), V y w [(0, va_rf l0), (1, va_rf l1)] [] 17 (k17 w l0 l1)) (w : Wd) (l0 : Option Nat) (l1 : Option Nat) : V y w [(0, va_rf l0), (1, va_rf l1)] [] 17 (mX3_either_b17 s_X3_both k17 w l0 l1) := by
  unfold mX3_either_b17
  refine V_aload_n (pc := 17) hk dX3_either_17 0 rfl ?_
  refine g_X3_25 (pc := 18) hk dX3_either_18 (fun v1 => ?_)
  refine V_sipush (pc := 21) (v := 224) hk dX3_either_21 rfl ?_
  refine V_icmp_ne (pc := 24) (tgt := 43) hk dX3_either_24 rfl ?_ ?_
  · refine V_aload_n (pc := 43) hk dX3_either_43 1 rfl ?_
    refine n_X3_135 (pc := 44) hk (fun b r h => ctJ2_size (fl y) (fK y) hk.2.2.2.2.2.2.2.1 b w r h) ⟨by omega, by omega⟩ (Nat.le_of_ble_eq_true rfl) dX3_either_44 (fun r2 => ?_)
    refine V_iconst (pc := 47) (v := 1) hk dX3_either_47 rfl ?_
    refine V_icmp_ne (pc := 48) (tgt := 62) hk dX3_either_48 rfl ?_ ?_
    · refine o_X3_143 (pc := 62) hk dX3_either_62 ?_
      refine V_nmW (fun w4 => ?_)
      refine V_dup (pc := 65) hk dX3_either_65 (rf_cat _) ?_
      refine V_iconst (pc := 66) (v := 0) hk dX3_either_66 rfl ?_
      refine V_aload_n (pc := 67) hk dX3_either_67 1 rfl ?_
      refine n_X3_145 (pc := 68) hk (fun b r h => ctX11_init (fl y) (fK y) hk.2.2.2.2.2.2.2.1 b 0 l1 w4 r h) ⟨by omega, by omega⟩ (by simp [rf_cat, cat_int, cat_long, cat_ref]) dX3_either_68 (fun r5 => ?_)
      exact V_areturnX (pc := 71) hk (Or.inl ⟨_, rfl⟩) hR rfl dX3_either_71
    · refine V_aload_n (pc := 51) hk dX3_either_51 1 rfl ?_
      refine V_iconst (pc := 52) (v := 0) hk dX3_either_52 rfl ?_
      refine n_X3_137 (pc := 53) hk (fun b r h => ctJ2_get (fl y) (fK y) hk.2.2.2.2.2.2.2.1 b 0 r2.2 r h) ⟨by omega, by omega⟩ (Nat.le_of_ble_eq_true rfl) dX3_either_53 (fun r7 => ?_)
      refine V_cast (pc := 56) hk cst_Ask q721 dX3_either_56 ?_
      refine V_goto (pc := 59) (tgt := 71) hk dX3_either_59 rfl ?_
      exact V_areturnX (pc := 71) hk (Or.inl ⟨_, rfl⟩) hR rfl dX3_either_71
  · refine V_aload_n (pc := 27) hk dX3_either_27 0 rfl ?_
    refine n_X3_74 (pc := 28) hk (fun b r h => ctX3_next (fl y) (fK y) hk.2.2.2.2.2.2.2.1 b w r h) ⟨by omega, by omega⟩ (Nat.le_of_ble_eq_true rfl) dX3_either_28 (fun r10 => ?_)
    refine V_aload_n (pc := 31) hk dX3_either_31 1 rfl ?_
    refine V_aload_n (pc := 32) hk dX3_either_32 0 rfl ?_
    refine n_X3_131 (pc := 33) hk hR (fun b r h => hs_X3_both b r10.2 r h) ⟨by omega, by omega⟩ (by simp [rf_cat, cat_int, cat_long, cat_ref]) dX3_either_33 (fun v14 w15 => ?_)
    refine n_X3_105 (pc := 36) hk (fun b r h => ctJ2_add (fl y) (fK y) hk.2.2.2.2.2.2.2.1 b v14 w15 r h) ⟨by omega, by omega⟩ (Nat.le_of_ble_eq_true rfl) dX3_either_36 (fun r16 => ?_)
    refine V_pop (pc := 39) hk dX3_either_39 rfl ?_
    refine V_goto (pc := 40) (tgt := 17) hk dX3_either_40 rfl ?_
    exact h17 r16.2 l0 l1
theorem eX3_either_l17 {y : Fx ((Option Nat ⊕ Nat) × Wd)} {F L F9 L9 : Nat} (hk : OkF y RX3 cX3_either 2 F L) (hR : RetX y rvR (some (.object "HookSwings$Asked"))) (hst : (fl y).stackTraces = false) (hF1 : F9 + 1 ≤ F ∧ 60 + L9 ≤ L) (hF2 : 11 ≤ F ∧ 252 ≤ L) {s_X3_both : Nat → Wd → Option ((Option Nat ⊕ Nat) × Wd)} (hs_X3_both : ∀ (b : Nat) (w : Wd) r, s_X3_both b w = some r → CtX (fl y) (fK y) F9 L9 yX3_both (ws_ yX3_both cX3_both 2 (some (.object "HookSwings$Asked"))) [.ref b] w rvR r) : ∀ (n : Nat) (w : Wd) (l0 : Option Nat) (l1 : Option Nat), V y w [(0, va_rf l0), (1, va_rf l1)] [] 17 (mX3_either_l17 s_X3_both n w l0 l1) := by
  intro n
  induction n with
  | zero => intro w l0 l1; exact V_none
  | succ n ih => intro w l0 l1; exact eX3_either_b17 hk hR hst hF1 hF2 hs_X3_both ih w l0 l1
theorem eX3_either {y : Fx ((Option Nat ⊕ Nat) × Wd)} {F L F9 L9 : Nat} (hk : OkF y RX3 cX3_either 2 F L) (hR : RetX y rvR (some (.object "HookSwings$Asked"))) (hst : (fl y).stackTraces = false) (hF1 : F9 + 1 ≤ F ∧ 60 + L9 ≤ L) (hF2 : 11 ≤ F ∧ 252 ≤ L) {s_X3_both : Nat → Wd → Option ((Option Nat ⊕ Nat) × Wd)} (hs_X3_both : ∀ (b : Nat) (w : Wd) r, s_X3_both b w = some r → CtX (fl y) (fK y) F9 L9 yX3_both (ws_ yX3_both cX3_both 2 (some (.object "HookSwings$Asked"))) [.ref b] w rvR r) (this : Nat) (w : Wd) : V y w [(0, va_rf (some this))] [] 0 (mX3_either s_X3_both this w) := by
  unfold mX3_either
  refine o_X3_106 (pc := 0) hk dX3_either_0 ?_
  refine V_nmW (fun w1 => ?_)
  refine V_dup (pc := 3) hk dX3_either_3 (rf_cat _) ?_
  refine n_X3_130 (pc := 4) hk (fun b r h => ctJ2_init (fl y) (fK y) hk.2.2.2.2.2.2.2.1 b w1 r h) ⟨by omega, by omega⟩ (by simp [rf_cat, cat_int, cat_long, cat_ref]) dX3_either_4 (fun r2 => ?_)
  refine V_astore_n (pc := 7) (lc' := [(1, va_rf ((some (wnx w)))), (0, va_rf ((some this)))]) (i := 1) hk dX3_either_7 rfl (Nat.le_of_ble_eq_true rfl) (by simp [rf_cat, cat_int, cat_long, cat_ref]) ?_
  refine V_aload_n (pc := 8) hk dX3_either_8 0 rfl ?_
  refine V_aload_n (pc := 9) hk dX3_either_9 1 rfl ?_
  refine n_X3_131 (pc := 10) hk hR (fun b r h => hs_X3_both b r2.2 r h) ⟨by omega, by omega⟩ (by simp [rf_cat, cat_int, cat_long, cat_ref]) dX3_either_10 (fun v6 w7 => ?_)
  refine n_X3_105 (pc := 13) hk (fun b r h => ctJ2_add (fl y) (fK y) hk.2.2.2.2.2.2.2.1 b v6 w7 r h) ⟨by omega, by omega⟩ (Nat.le_of_ble_eq_true rfl) dX3_either_13 (fun r8 => ?_)
  refine V_pop (pc := 16) hk dX3_either_16 rfl ?_
  refine V_pick (lc' := [(0, va_rf ((some this))), (1, va_rf ((some (wnx w))))]) [1, 0] rfl ?_
  exact eX3_either_l17 hk hR hst hF1 hF2 hs_X3_both FU r8.2 ((some this)) ((some (wnx w)))
noncomputable def mX3_choice (s_X3_either : Nat → Wd → Option ((Option Nat ⊕ Nat) × Wd)) (s_X3_sum : Nat → Wd → Option ((Option Nat ⊕ Nat) × Wd)) (this : Nat) (w : Wd) : Option ((Option Nat ⊕ Nat) × Wd) :=
(recv w ((some this)) 3).bind fun b2 => (calx w (mX3_opens b2 w)).bind fun r1 => bx r1 fun v3 w4 =>
(recv w4 ((some this)) 3).bind fun b6 => (calx w4 (s_X3_either b6 w4)).bind fun r5 => bx r5 fun v7 w8 =>
(recv w8 ((some this)) 3).bind fun b10 => (calx w8 (mX3_want b10 221 w8)).bind fun r9 => bx r9 fun v11 w12 =>
(recv w12 ((some this)) 3).bind fun b14 => (calx w12 (s_X3_sum b14 w12)).bind fun r13 => bx r13 fun v15 w16 =>
(recv w16 ((some this)) 3).bind fun b18 => (calx w16 (mX3_want b18 222 w16)).bind fun r17 => bx r17 fun v19 w20 =>
(recv w20 ((some this)) 3).bind fun b22 => (calx w20 (s_X3_sum b22 w20)).bind fun r21 => bx r21 fun v23 w24 =>
(recv w24 ((some this)) 3).bind fun b26 => (calx w24 (mX3_want b26 223 w24)).bind fun r25 => bx r25 fun v27 w28 =>
(gI w28 ((some this)) 3 6).bind fun v29 =>
(pf w28 ((some this)) 3 6 (.int (v29 - 1))).bind fun w30 =>
(some (wnew w30 (.inr (12, df9_X12)) 3)).bind fun (w31 : Wd) =>
(((some (wnx w30)))).bind fun b33 => (cal w31 (mX12_init b33 v7 v15 v23 w31)).bind fun r32 =>
some (.inl ((some (wnx w30))), r32.2)
theorem eX3_choice {y : Fx ((Option Nat ⊕ Nat) × Wd)} {F L F9 L9 : Nat} (hk : OkF y RX3 cX3_choice 4 F L) (hR : RetX y rvR (some (.object "HookSwings$Sum"))) (hst : (fl y).stackTraces = false) (hF1 : F9 + 1 ≤ F ∧ 60 + L9 ≤ L) (hF2 : 12 ≤ F ∧ 273 ≤ L) {s_X3_either : Nat → Wd → Option ((Option Nat ⊕ Nat) × Wd)} (hs_X3_either : ∀ (b : Nat) (w : Wd) r, s_X3_either b w = some r → CtX (fl y) (fK y) F9 L9 yX3_either (ws_ yX3_either cX3_either 2 (some (.object "HookSwings$Asked"))) [.ref b] w rvR r) {s_X3_sum : Nat → Wd → Option ((Option Nat ⊕ Nat) × Wd)} (hs_X3_sum : ∀ (b : Nat) (w : Wd) r, s_X3_sum b w = some r → CtX (fl y) (fK y) F9 L9 yX3_sum (ws_ yX3_sum cX3_sum 3 (some (.object "HookSwings$Sum"))) [.ref b] w rvR r) (this : Nat) (w : Wd) : V y w [(0, va_rf (some this))] [] 0 (mX3_choice s_X3_either s_X3_sum this w) := by
  unfold mX3_choice
  refine V_aload_n (pc := 0) hk dX3_choice_0 0 rfl ?_
  refine n_X3_151 (pc := 1) hk hR (fun b r h => ctX3_opens (fl y) (fK y) hk.2.2.2.2.2.2.2.1 hst b w r h) ⟨by omega, by omega⟩ (Nat.le_of_ble_eq_true rfl) dX3_choice_1 (fun v3 w4 => ?_)
  refine V_aload_n (pc := 4) hk dX3_choice_4 0 rfl ?_
  refine n_X3_190 (pc := 5) hk hR (fun b r h => hs_X3_either b w4 r h) ⟨by omega, by omega⟩ (Nat.le_of_ble_eq_true rfl) dX3_choice_5 (fun v7 w8 => ?_)
  refine V_astore_n (pc := 8) (lc' := [(1, va_rf v7), (0, va_rf ((some this)))]) (i := 1) hk dX3_choice_8 rfl (Nat.le_of_ble_eq_true rfl) (by simp [rf_cat, cat_int, cat_long, cat_ref]) ?_
  refine V_aload_n (pc := 9) hk dX3_choice_9 1 rfl ?_
  refine V_sipush (pc := 10) (v := 221) hk dX3_choice_10 rfl ?_
  refine n_X3_111 (pc := 13) hk hR (fun b r h => ctX3_want (fl y) (fK y) hk.2.2.2.2.2.2.2.1 hst b 221 w8 r h) ⟨by omega, by omega⟩ (Nat.le_of_ble_eq_true rfl) dX3_choice_13 (fun v11 w12 => ?_)
  refine V_aload_n (pc := 16) hk dX3_choice_16 1 rfl ?_
  refine n_X3_93 (pc := 17) hk hR (fun b r h => hs_X3_sum b w12 r h) ⟨by omega, by omega⟩ (Nat.le_of_ble_eq_true rfl) dX3_choice_17 (fun v15 w16 => ?_)
  refine V_astore_n (pc := 20) (lc' := [(2, va_rf v15), (1, va_rf v7), (0, va_rf ((some this)))]) (i := 2) hk dX3_choice_20 rfl (Nat.le_of_ble_eq_true rfl) (by simp [rf_cat, cat_int, cat_long, cat_ref]) ?_
  refine V_aload_n (pc := 21) hk dX3_choice_21 2 rfl ?_
  refine V_sipush (pc := 22) (v := 222) hk dX3_choice_22 rfl ?_
  refine n_X3_111 (pc := 25) hk hR (fun b r h => ctX3_want (fl y) (fK y) hk.2.2.2.2.2.2.2.1 hst b 222 w16 r h) ⟨by omega, by omega⟩ (Nat.le_of_ble_eq_true rfl) dX3_choice_25 (fun v19 w20 => ?_)
  refine V_aload_n (pc := 28) hk dX3_choice_28 2 rfl ?_
  refine n_X3_93 (pc := 29) hk hR (fun b r h => hs_X3_sum b w20 r h) ⟨by omega, by omega⟩ (Nat.le_of_ble_eq_true rfl) dX3_choice_29 (fun v23 w24 => ?_)
  refine V_astore_n (pc := 32) (lc' := [(3, va_rf v23), (2, va_rf v15), (1, va_rf v7), (0, va_rf ((some this)))]) (i := 3) hk dX3_choice_32 rfl (Nat.le_of_ble_eq_true rfl) (by simp [rf_cat, cat_int, cat_long, cat_ref]) ?_
  refine V_aload_n (pc := 33) hk dX3_choice_33 3 rfl ?_
  refine V_sipush (pc := 34) (v := 223) hk dX3_choice_34 rfl ?_
  refine n_X3_111 (pc := 37) hk hR (fun b r h => ctX3_want (fl y) (fK y) hk.2.2.2.2.2.2.2.1 hst b 223 w24 r h) ⟨by omega, by omega⟩ (Nat.le_of_ble_eq_true rfl) dX3_choice_37 (fun v27 w28 => ?_)
  refine V_aload_n (pc := 40) hk dX3_choice_40 3 rfl ?_
  refine V_dup (pc := 41) hk dX3_choice_41 (rf_cat _) ?_
  refine g_X3_77 (pc := 42) hk dX3_choice_42 (fun v29 => ?_)
  refine V_iconst (pc := 45) (v := 1) hk dX3_choice_45 rfl ?_
  refine V_isub (pc := 46) hk dX3_choice_46 ?_
  refine p_X3_77 (pc := 47) hk dX3_choice_47 (fun w30 => ?_)
  refine o_X3_193 (pc := 50) hk dX3_choice_50 ?_
  refine V_nmW (fun w31 => ?_)
  refine V_dup (pc := 53) hk dX3_choice_53 (rf_cat _) ?_
  refine V_aload_n (pc := 54) hk dX3_choice_54 2 rfl ?_
  refine V_aload_n (pc := 55) hk dX3_choice_55 1 rfl ?_
  refine V_aload_n (pc := 56) hk dX3_choice_56 0 rfl ?_
  refine n_X3_195 (pc := 57) hk (fun b r h => ctX12_init (fl y) (fK y) hk.2.2.2.2.2.2.2.1 b v7 v15 v23 w31 r h) ⟨by omega, by omega⟩ (by simp [rf_cat, cat_int, cat_long, cat_ref]) dX3_choice_57 (fun r32 => ?_)
  exact V_areturnX (pc := 60) hk (Or.inl ⟨_, rfl⟩) hR rfl dX3_choice_60
noncomputable def mX3_one_p166 (s_X3_choice : Nat → Wd → Option ((Option Nat ⊕ Nat) × Wd)) (s_X3_sum : Nat → Wd → Option ((Option Nat ⊕ Nat) × Wd)) (s_X3_one : Nat → Wd → Option ((Option Nat ⊕ Nat) × Wd)) (w : Wd) (l0 : Option Nat) (l2 : Int32) (l3 : Option Nat) : Option ((Option Nat ⊕ Nat) × Wd) :=
(gI w l0 3 6).bind fun v1 =>
(pf w l0 3 6 (.int (v1 - 1))).bind fun w2 =>
if ¬ l2 = 40 then (
if ¬ l2 = 45 then (
(some (wnew w2 (.inr (14, df9_X14)) 1)).bind fun (w3 : Wd) =>
(((some (wnx w2)))).bind fun b5 => (cal w3 (mX14_init b5 l3 w3)).bind fun r4 =>
some (.inl ((some (wnx w2))), r4.2))
else (
(some (wnew w2 (.inr (13, df9_X13)) 1)).bind fun (w6 : Wd) =>
(((some (wnx w2)))).bind fun b8 => (cal w6 (mX13_init b8 l3 w6)).bind fun r7 =>
some (.inl ((some (wnx w2))), r7.2)))
else (
some (.inl l3, w2))
noncomputable def mX3_one_p153 (s_X3_choice : Nat → Wd → Option ((Option Nat ⊕ Nat) × Wd)) (s_X3_sum : Nat → Wd → Option ((Option Nat ⊕ Nat) × Wd)) (s_X3_one : Nat → Wd → Option ((Option Nat ⊕ Nat) × Wd)) (w : Wd) (l0 : Option Nat) (l2 : Int32) (t0 : Option Nat) : Option ((Option Nat ⊕ Nat) × Wd) :=
if ¬ l2 = 40 then (
mX3_one_p166 s_X3_choice s_X3_sum s_X3_one w l0 l2 t0)
else (
(recv w l0 3).bind fun b2 => (calx w (mX3_want b2 41 w)).bind fun r1 => bx r1 fun v3 w4 =>
mX3_one_p166 s_X3_choice s_X3_sum s_X3_one w4 l0 l2 t0)
noncomputable def mX3_one_p127 (s_X3_choice : Nat → Wd → Option ((Option Nat ⊕ Nat) × Wd)) (s_X3_sum : Nat → Wd → Option ((Option Nat ⊕ Nat) × Wd)) (s_X3_one : Nat → Wd → Option ((Option Nat ⊕ Nat) × Wd)) (w : Wd) (l0 : Option Nat) : Option ((Option Nat ⊕ Nat) × Wd) :=
(gI w l0 3 4).bind fun v1 =>
(recv w l0 3).bind fun b3 => (calx w (mX3_opens b3 w)).bind fun r2 => bx r2 fun v4 w5 =>
if ¬ v1 = 40 then (
(recv w5 l0 3).bind fun b7 => (calx w5 (s_X3_one b7 w5)).bind fun r6 => bx r6 fun v8 w9 =>
mX3_one_p153 s_X3_choice s_X3_sum s_X3_one w9 l0 v1 v8)
else (
(recv w5 l0 3).bind fun b11 => (calx w5 (s_X3_sum b11 w5)).bind fun r10 => bx r10 fun v12 w13 =>
mX3_one_p153 s_X3_choice s_X3_sum s_X3_one w13 l0 v1 v12)
noncomputable def mX3_one (s_X3_choice : Nat → Wd → Option ((Option Nat ⊕ Nat) × Wd)) (s_X3_sum : Nat → Wd → Option ((Option Nat ⊕ Nat) × Wd)) (s_X3_one : Nat → Wd → Option ((Option Nat ⊕ Nat) × Wd)) (this : Nat) (w : Wd) : Option ((Option Nat ⊕ Nat) × Wd) :=
(gI w ((some this)) 3 4).bind fun v1 =>
if ¬ v1 = 300 then (
(gI w ((some this)) 3 4).bind fun v2 =>
if ¬ v2 = 219 then (
(gI w ((some this)) 3 4).bind fun v3 =>
if ¬ v3 = 220 then (
(recv w ((some this)) 3).bind fun b5 => (cal w (mX3_nameNow b5 w)).bind fun r4 =>
if r4.1 = (-1) then (
(gI r4.2 ((some this)) 3 4).bind fun v6 =>
if v6 = 40 then (
mX3_one_p127 s_X3_choice s_X3_sum s_X3_one r4.2 ((some this)))
else (
(gI r4.2 ((some this)) 3 4).bind fun v7 =>
if v7 = 45 then (
mX3_one_p127 s_X3_choice s_X3_sum s_X3_one r4.2 ((some this)))
else (
(gI r4.2 ((some this)) 3 4).bind fun v8 =>
if v8 = 218 then (
mX3_one_p127 s_X3_choice s_X3_sum s_X3_one r4.2 ((some this)))
else (
(recv r4.2 ((some this)) 3).bind fun b10 => (cal r4.2 (mX3_wrong b10 1 r4.2)).bind fun r9 =>
thr r9.2 r9.1))))
else (
(recv r4.2 ((some this)) 3).bind fun b12 => (cal r4.2 (mX3_mayName b12 r4.1 r4.2)).bind fun r11 =>
if ¬ r11.1 = 0 then (
(recv r11.2 ((some this)) 3).bind fun b14 => (cal r11.2 (mX3_next b14 r11.2)).bind fun r13 =>
(some (wnew r13.2 (.inr (8, df9_X8)) 1)).bind fun (w15 : Wd) =>
(((some (wnx r13.2)))).bind fun b17 => (cal w15 (mX8_init b17 r4.1 w15)).bind fun r16 =>
some (.inl ((some (wnx r13.2))), r16.2))
else (
(recv r11.2 ((some this)) 3).bind fun b19 => (cal r11.2 (mX3_wrong b19 5 r11.2)).bind fun r18 =>
thr r18.2 r18.1)))
else (
(recv w ((some this)) 3).bind fun b21 => (calx w (s_X3_choice b21 w)).bind fun r20 => bx r20 fun v22 w23 =>
some (.inl v22, w23)))
else (
(recv w ((some this)) 3).bind fun b25 => (calx w (mX3_ago b25 w)).bind fun r24 => bx r24 fun v26 w27 =>
some (.inl v26, w27)))
else (
(some (wnew w (.inr (7, df9_X7)) 1)).bind fun (w28 : Wd) =>
(recv w28 ((some this)) 3).bind fun b30 => (calx w28 (mX3_number b30 0 9999 w28)).bind fun r29 => bx r29 fun v31 w32 =>
(((some (wnx w)))).bind fun b34 => (cal w32 (mX7_init b34 v31 w32)).bind fun r33 =>
some (.inl ((some (wnx w))), r33.2))
theorem eX3_one_p166 {y : Fx ((Option Nat ⊕ Nat) × Wd)} {F L F9 L9 : Nat} (hk : OkF y RX3 cX3_one 4 F L) (hR : RetX y rvR (some (.object "HookSwings$Sum"))) (hst : (fl y).stackTraces = false) (hF1 : F9 + 1 ≤ F ∧ 60 + L9 ≤ L) (hF2 : 13 ≤ F ∧ 296 ≤ L) {s_X3_choice : Nat → Wd → Option ((Option Nat ⊕ Nat) × Wd)} (hs_X3_choice : ∀ (b : Nat) (w : Wd) r, s_X3_choice b w = some r → CtX (fl y) (fK y) F9 L9 yX3_choice (ws_ yX3_choice cX3_choice 4 (some (.object "HookSwings$Sum"))) [.ref b] w rvR r) {s_X3_sum : Nat → Wd → Option ((Option Nat ⊕ Nat) × Wd)} (hs_X3_sum : ∀ (b : Nat) (w : Wd) r, s_X3_sum b w = some r → CtX (fl y) (fK y) F9 L9 yX3_sum (ws_ yX3_sum cX3_sum 3 (some (.object "HookSwings$Sum"))) [.ref b] w rvR r) {s_X3_one : Nat → Wd → Option ((Option Nat ⊕ Nat) × Wd)} (hs_X3_one : ∀ (b : Nat) (w : Wd) r, s_X3_one b w = some r → CtX (fl y) (fK y) F9 L9 yX3_one (ws_ yX3_one cX3_one 4 (some (.object "HookSwings$Sum"))) [.ref b] w rvR r) (w : Wd) (l0 : Option Nat) (l2 : Int32) (l3 : Option Nat) : V y w [(0, va_rf l0), (2, .int l2), (3, va_rf l3)] [] 166 (mX3_one_p166 s_X3_choice s_X3_sum s_X3_one w l0 l2 l3) := by
  unfold mX3_one_p166
  refine V_aload_n (pc := 166) hk dX3_one_166 0 rfl ?_
  refine V_dup (pc := 167) hk dX3_one_167 (rf_cat _) ?_
  refine g_X3_77 (pc := 168) hk dX3_one_168 (fun v1 => ?_)
  refine V_iconst (pc := 171) (v := 1) hk dX3_one_171 rfl ?_
  refine V_isub (pc := 172) hk dX3_one_172 ?_
  refine p_X3_77 (pc := 173) hk dX3_one_173 (fun w2 => ?_)
  refine V_iload_n (pc := 176) hk dX3_one_176 1 rfl ?_
  refine V_bipush (pc := 177) (v := 40) hk dX3_one_177 rfl ?_
  refine V_icmp_ne (pc := 179) (tgt := 186) hk dX3_one_179 rfl ?_ ?_
  · refine V_iload_n (pc := 186) hk dX3_one_186 1 rfl ?_
    refine V_bipush (pc := 187) (v := 45) hk dX3_one_187 rfl ?_
    refine V_icmp_ne (pc := 189) (tgt := 203) hk dX3_one_189 rfl ?_ ?_
    · refine o_X3_210 (pc := 203) hk dX3_one_203 ?_
      refine V_nmW (fun w3 => ?_)
      refine V_dup (pc := 206) hk dX3_one_206 (rf_cat _) ?_
      refine V_aload_n (pc := 207) hk dX3_one_207 2 rfl ?_
      refine n_X3_212 (pc := 208) hk (fun b r h => ctX14_init (fl y) (fK y) hk.2.2.2.2.2.2.2.1 b l3 w3 r h) ⟨by omega, by omega⟩ (by simp [rf_cat, cat_int, cat_long, cat_ref]) dX3_one_208 (fun r4 => ?_)
      exact V_areturnX (pc := 211) hk (Or.inl ⟨_, rfl⟩) hR rfl dX3_one_211
    · refine o_X3_207 (pc := 192) hk dX3_one_192 ?_
      refine V_nmW (fun w6 => ?_)
      refine V_dup (pc := 195) hk dX3_one_195 (rf_cat _) ?_
      refine V_aload_n (pc := 196) hk dX3_one_196 2 rfl ?_
      refine n_X3_209 (pc := 197) hk (fun b r h => ctX13_init (fl y) (fK y) hk.2.2.2.2.2.2.2.1 b l3 w6 r h) ⟨by omega, by omega⟩ (by simp [rf_cat, cat_int, cat_long, cat_ref]) dX3_one_197 (fun r7 => ?_)
      refine V_goto (pc := 200) (tgt := 211) hk dX3_one_200 rfl ?_
      exact V_areturnX (pc := 211) hk (Or.inl ⟨_, rfl⟩) hR rfl dX3_one_211
  · refine V_aload_n (pc := 182) hk dX3_one_182 2 rfl ?_
    refine V_goto (pc := 183) (tgt := 211) hk dX3_one_183 rfl ?_
    exact V_areturnX (pc := 211) hk (Or.inl ⟨_, rfl⟩) hR rfl dX3_one_211
theorem eX3_one_p153 {y : Fx ((Option Nat ⊕ Nat) × Wd)} {F L F9 L9 : Nat} (hk : OkF y RX3 cX3_one 4 F L) (hR : RetX y rvR (some (.object "HookSwings$Sum"))) (hst : (fl y).stackTraces = false) (hF1 : F9 + 1 ≤ F ∧ 60 + L9 ≤ L) (hF2 : 13 ≤ F ∧ 296 ≤ L) {s_X3_choice : Nat → Wd → Option ((Option Nat ⊕ Nat) × Wd)} (hs_X3_choice : ∀ (b : Nat) (w : Wd) r, s_X3_choice b w = some r → CtX (fl y) (fK y) F9 L9 yX3_choice (ws_ yX3_choice cX3_choice 4 (some (.object "HookSwings$Sum"))) [.ref b] w rvR r) {s_X3_sum : Nat → Wd → Option ((Option Nat ⊕ Nat) × Wd)} (hs_X3_sum : ∀ (b : Nat) (w : Wd) r, s_X3_sum b w = some r → CtX (fl y) (fK y) F9 L9 yX3_sum (ws_ yX3_sum cX3_sum 3 (some (.object "HookSwings$Sum"))) [.ref b] w rvR r) {s_X3_one : Nat → Wd → Option ((Option Nat ⊕ Nat) × Wd)} (hs_X3_one : ∀ (b : Nat) (w : Wd) r, s_X3_one b w = some r → CtX (fl y) (fK y) F9 L9 yX3_one (ws_ yX3_one cX3_one 4 (some (.object "HookSwings$Sum"))) [.ref b] w rvR r) (w : Wd) (l0 : Option Nat) (l2 : Int32) (t0 : Option Nat) : V y w [(0, va_rf l0), (2, .int l2)] [va_rf t0] 153 (mX3_one_p153 s_X3_choice s_X3_sum s_X3_one w l0 l2 t0) := by
  unfold mX3_one_p153
  refine V_astore_n (pc := 153) (lc' := [(3, va_rf t0), (0, va_rf l0), (2, .int l2)]) (i := 3) hk dX3_one_153 rfl (Nat.le_of_ble_eq_true rfl) rfl ?_
  refine V_iload_n (pc := 154) hk dX3_one_154 2 rfl ?_
  refine V_bipush (pc := 155) (v := 40) hk dX3_one_155 rfl ?_
  refine V_icmp_ne (pc := 157) (tgt := 166) hk dX3_one_157 rfl ?_ ?_
  · refine V_pick (lc' := [(0, va_rf l0), (2, .int l2), (3, va_rf t0)]) [1, 2, 0] rfl ?_
    exact eX3_one_p166 hk hR hst hF1 hF2 hs_X3_choice hs_X3_sum hs_X3_one w l0 l2 t0
  · refine V_aload_n (pc := 160) hk dX3_one_160 1 rfl ?_
    refine V_bipush (pc := 161) (v := 41) hk dX3_one_161 rfl ?_
    refine n_X3_111 (pc := 163) hk hR (fun b r h => ctX3_want (fl y) (fK y) hk.2.2.2.2.2.2.2.1 hst b 41 w r h) ⟨by omega, by omega⟩ (Nat.le_of_ble_eq_true rfl) dX3_one_163 (fun v3 w4 => ?_)
    refine V_pick (lc' := [(0, va_rf l0), (2, .int l2), (3, va_rf t0)]) [1, 2, 0] rfl ?_
    exact eX3_one_p166 hk hR hst hF1 hF2 hs_X3_choice hs_X3_sum hs_X3_one w4 l0 l2 t0
theorem eX3_one_p127 {y : Fx ((Option Nat ⊕ Nat) × Wd)} {F L F9 L9 : Nat} (hk : OkF y RX3 cX3_one 4 F L) (hR : RetX y rvR (some (.object "HookSwings$Sum"))) (hst : (fl y).stackTraces = false) (hF1 : F9 + 1 ≤ F ∧ 60 + L9 ≤ L) (hF2 : 13 ≤ F ∧ 296 ≤ L) {s_X3_choice : Nat → Wd → Option ((Option Nat ⊕ Nat) × Wd)} (hs_X3_choice : ∀ (b : Nat) (w : Wd) r, s_X3_choice b w = some r → CtX (fl y) (fK y) F9 L9 yX3_choice (ws_ yX3_choice cX3_choice 4 (some (.object "HookSwings$Sum"))) [.ref b] w rvR r) {s_X3_sum : Nat → Wd → Option ((Option Nat ⊕ Nat) × Wd)} (hs_X3_sum : ∀ (b : Nat) (w : Wd) r, s_X3_sum b w = some r → CtX (fl y) (fK y) F9 L9 yX3_sum (ws_ yX3_sum cX3_sum 3 (some (.object "HookSwings$Sum"))) [.ref b] w rvR r) {s_X3_one : Nat → Wd → Option ((Option Nat ⊕ Nat) × Wd)} (hs_X3_one : ∀ (b : Nat) (w : Wd) r, s_X3_one b w = some r → CtX (fl y) (fK y) F9 L9 yX3_one (ws_ yX3_one cX3_one 4 (some (.object "HookSwings$Sum"))) [.ref b] w rvR r) (w : Wd) (l0 : Option Nat) : V y w [(0, va_rf l0)] [] 127 (mX3_one_p127 s_X3_choice s_X3_sum s_X3_one w l0) := by
  unfold mX3_one_p127
  refine V_aload_n (pc := 127) hk dX3_one_127 0 rfl ?_
  refine g_X3_25 (pc := 128) hk dX3_one_128 (fun v1 => ?_)
  refine V_istore_n (pc := 131) (lc' := [(2, .int v1), (0, va_rf l0)]) (i := 2) hk dX3_one_131 rfl (Nat.le_of_ble_eq_true rfl) rfl ?_
  refine V_aload_n (pc := 132) hk dX3_one_132 1 rfl ?_
  refine n_X3_151 (pc := 133) hk hR (fun b r h => ctX3_opens (fl y) (fK y) hk.2.2.2.2.2.2.2.1 hst b w r h) ⟨by omega, by omega⟩ (Nat.le_of_ble_eq_true rfl) dX3_one_133 (fun v4 w5 => ?_)
  refine V_iload_n (pc := 136) hk dX3_one_136 0 rfl ?_
  refine V_bipush (pc := 137) (v := 40) hk dX3_one_137 rfl ?_
  refine V_icmp_ne (pc := 139) (tgt := 149) hk dX3_one_139 rfl ?_ ?_
  · refine V_aload_n (pc := 149) hk dX3_one_149 1 rfl ?_
    refine n_X3_178 (pc := 150) hk hR (fun b r h => hs_X3_one b w5 r h) ⟨by omega, by omega⟩ (Nat.le_of_ble_eq_true rfl) dX3_one_150 (fun v8 w9 => ?_)
    refine V_pick (lc' := [(0, va_rf l0), (2, .int v1)]) [1, 0] rfl ?_
    exact eX3_one_p153 hk hR hst hF1 hF2 hs_X3_choice hs_X3_sum hs_X3_one w9 l0 v1 v8
  · refine V_aload_n (pc := 142) hk dX3_one_142 1 rfl ?_
    refine n_X3_93 (pc := 143) hk hR (fun b r h => hs_X3_sum b w5 r h) ⟨by omega, by omega⟩ (Nat.le_of_ble_eq_true rfl) dX3_one_143 (fun v12 w13 => ?_)
    refine V_goto (pc := 146) (tgt := 153) hk dX3_one_146 rfl ?_
    refine V_pick (lc' := [(0, va_rf l0), (2, .int v1)]) [1, 0] rfl ?_
    exact eX3_one_p153 hk hR hst hF1 hF2 hs_X3_choice hs_X3_sum hs_X3_one w13 l0 v1 v12
theorem eX3_one {y : Fx ((Option Nat ⊕ Nat) × Wd)} {F L F9 L9 : Nat} (hk : OkF y RX3 cX3_one 4 F L) (hR : RetX y rvR (some (.object "HookSwings$Sum"))) (hst : (fl y).stackTraces = false) (hF1 : F9 + 1 ≤ F ∧ 60 + L9 ≤ L) (hF2 : 13 ≤ F ∧ 296 ≤ L) {s_X3_choice : Nat → Wd → Option ((Option Nat ⊕ Nat) × Wd)} (hs_X3_choice : ∀ (b : Nat) (w : Wd) r, s_X3_choice b w = some r → CtX (fl y) (fK y) F9 L9 yX3_choice (ws_ yX3_choice cX3_choice 4 (some (.object "HookSwings$Sum"))) [.ref b] w rvR r) {s_X3_sum : Nat → Wd → Option ((Option Nat ⊕ Nat) × Wd)} (hs_X3_sum : ∀ (b : Nat) (w : Wd) r, s_X3_sum b w = some r → CtX (fl y) (fK y) F9 L9 yX3_sum (ws_ yX3_sum cX3_sum 3 (some (.object "HookSwings$Sum"))) [.ref b] w rvR r) {s_X3_one : Nat → Wd → Option ((Option Nat ⊕ Nat) × Wd)} (hs_X3_one : ∀ (b : Nat) (w : Wd) r, s_X3_one b w = some r → CtX (fl y) (fK y) F9 L9 yX3_one (ws_ yX3_one cX3_one 4 (some (.object "HookSwings$Sum"))) [.ref b] w rvR r) (this : Nat) (w : Wd) : V y w [(0, va_rf (some this))] [] 0 (mX3_one s_X3_choice s_X3_sum s_X3_one this w) := by
  unfold mX3_one
  refine V_aload_n (pc := 0) hk dX3_one_0 0 rfl ?_
  refine g_X3_25 (pc := 1) hk dX3_one_1 (fun v1 => ?_)
  refine V_sipush (pc := 4) (v := 300) hk dX3_one_4 rfl ?_
  refine V_icmp_ne (pc := 7) (tgt := 26) hk dX3_one_7 rfl ?_ ?_
  · refine V_aload_n (pc := 26) hk dX3_one_26 0 rfl ?_
    refine g_X3_25 (pc := 27) hk dX3_one_27 (fun v2 => ?_)
    refine V_sipush (pc := 30) (v := 219) hk dX3_one_30 rfl ?_
    refine V_icmp_ne (pc := 33) (tgt := 41) hk dX3_one_33 rfl ?_ ?_
    · refine V_aload_n (pc := 41) hk dX3_one_41 0 rfl ?_
      refine g_X3_25 (pc := 42) hk dX3_one_42 (fun v3 => ?_)
      refine V_sipush (pc := 45) (v := 220) hk dX3_one_45 rfl ?_
      refine V_icmp_ne (pc := 48) (tgt := 56) hk dX3_one_48 rfl ?_ ?_
      · refine V_aload_n (pc := 56) hk dX3_one_56 0 rfl ?_
        refine n_X3_180 (pc := 57) hk (fun b r h => ctX3_nameNow (fl y) (fK y) hk.2.2.2.2.2.2.2.1 b w r h) ⟨by omega, by omega⟩ (Nat.le_of_ble_eq_true rfl) dX3_one_57 (fun r4 => ?_)
        refine V_istore_n (pc := 60) (lc' := [(1, .int r4.1), (0, va_rf ((some this)))]) (i := 1) hk dX3_one_60 rfl (Nat.le_of_ble_eq_true rfl) (by simp [rf_cat, cat_int, cat_long, cat_ref]) ?_
        refine V_iload_n (pc := 61) hk dX3_one_61 0 rfl ?_
        refine V_iconst (pc := 62) (v := (-1)) hk dX3_one_62 (by decide +kernel) ?_
        refine V_icmp_eq (pc := 63) (tgt := 93) hk dX3_one_63 rfl ?_ ?_
        · refine V_aload_n (pc := 93) hk dX3_one_93 1 rfl ?_
          refine g_X3_25 (pc := 94) hk dX3_one_94 (fun v6 => ?_)
          refine V_bipush (pc := 97) (v := 40) hk dX3_one_97 rfl ?_
          refine V_icmp_eq (pc := 99) (tgt := 127) hk dX3_one_99 rfl ?_ ?_
          · refine V_pick (lc' := [(0, va_rf ((some this)))]) [1] rfl ?_
            exact eX3_one_p127 hk hR hst hF1 hF2 hs_X3_choice hs_X3_sum hs_X3_one r4.2 ((some this))
          · refine V_aload_n (pc := 102) hk dX3_one_102 1 rfl ?_
            refine g_X3_25 (pc := 103) hk dX3_one_103 (fun v7 => ?_)
            refine V_bipush (pc := 106) (v := 45) hk dX3_one_106 rfl ?_
            refine V_icmp_eq (pc := 108) (tgt := 127) hk dX3_one_108 rfl ?_ ?_
            · refine V_pick (lc' := [(0, va_rf ((some this)))]) [1] rfl ?_
              exact eX3_one_p127 hk hR hst hF1 hF2 hs_X3_choice hs_X3_sum hs_X3_one r4.2 ((some this))
            · refine V_aload_n (pc := 111) hk dX3_one_111 1 rfl ?_
              refine g_X3_25 (pc := 112) hk dX3_one_112 (fun v8 => ?_)
              refine V_sipush (pc := 115) (v := 218) hk dX3_one_115 rfl ?_
              refine V_icmp_eq (pc := 118) (tgt := 127) hk dX3_one_118 rfl ?_ ?_
              · refine V_pick (lc' := [(0, va_rf ((some this)))]) [1] rfl ?_
                exact eX3_one_p127 hk hR hst hF1 hF2 hs_X3_choice hs_X3_sum hs_X3_one r4.2 ((some this))
              · refine V_aload_n (pc := 121) hk dX3_one_121 1 rfl ?_
                refine V_iconst (pc := 122) (v := 1) hk dX3_one_122 rfl ?_
                refine n_X3_70 (pc := 123) hk (fun b r h => ctX3_wrong (fl y) (fK y) hk.2.2.2.2.2.2.2.1 hst b 1 r4.2 r h) ⟨by omega, by omega⟩ (Nat.le_of_ble_eq_true rfl) dX3_one_123 (fun r9 => ?_)
                exact V_athrow (pc := 126) hk hR dX3_one_126
        · refine V_aload_n (pc := 66) hk dX3_one_66 1 rfl ?_
          refine V_iload_n (pc := 67) hk dX3_one_67 0 rfl ?_
          refine n_X3_183 (pc := 68) hk (fun b r h => ctX3_mayName (fl y) (fK y) hk.2.2.2.2.2.2.2.1 b r4.1 r4.2 r h) ⟨by omega, by omega⟩ (Nat.le_of_ble_eq_true rfl) dX3_one_68 (fun r11 => ?_)
          refine V_if_ne (pc := 71) (tgt := 80) hk dX3_one_71 rfl ?_ ?_
          · refine V_aload_n (pc := 80) hk dX3_one_80 1 rfl ?_
            refine n_X3_74 (pc := 81) hk (fun b r h => ctX3_next (fl y) (fK y) hk.2.2.2.2.2.2.2.1 b r11.2 r h) ⟨by omega, by omega⟩ (Nat.le_of_ble_eq_true rfl) dX3_one_81 (fun r13 => ?_)
            refine o_X3_186 (pc := 84) hk dX3_one_84 ?_
            refine V_nmW (fun w15 => ?_)
            refine V_dup (pc := 87) hk dX3_one_87 (rf_cat _) ?_
            refine V_iload_n (pc := 88) hk dX3_one_88 0 rfl ?_
            refine n_X3_188 (pc := 89) hk (fun b r h => ctX8_init (fl y) (fK y) hk.2.2.2.2.2.2.2.1 b r4.1 w15 r h) ⟨by omega, by omega⟩ (by simp [rf_cat, cat_int, cat_long, cat_ref]) dX3_one_89 (fun r16 => ?_)
            exact V_areturnX (pc := 92) hk (Or.inl ⟨_, rfl⟩) hR rfl dX3_one_92
          · refine V_aload_n (pc := 74) hk dX3_one_74 1 rfl ?_
            refine V_iconst (pc := 75) (v := 5) hk dX3_one_75 rfl ?_
            refine n_X3_70 (pc := 76) hk (fun b r h => ctX3_wrong (fl y) (fK y) hk.2.2.2.2.2.2.2.1 hst b 5 r11.2 r h) ⟨by omega, by omega⟩ (Nat.le_of_ble_eq_true rfl) dX3_one_76 (fun r18 => ?_)
            exact V_athrow (pc := 79) hk hR dX3_one_79
      · refine V_aload_n (pc := 51) hk dX3_one_51 0 rfl ?_
        refine n_X3_204 (pc := 52) hk hR (fun b r h => hs_X3_choice b w r h) ⟨by omega, by omega⟩ (Nat.le_of_ble_eq_true rfl) dX3_one_52 (fun v22 w23 => ?_)
        exact V_areturnX (pc := 55) hk (Or.inl ⟨_, rfl⟩) hR rfl dX3_one_55
    · refine V_aload_n (pc := 36) hk dX3_one_36 0 rfl ?_
      refine n_X3_201 (pc := 37) hk hR (fun b r h => ctX3_ago (fl y) (fK y) hk.2.2.2.2.2.2.2.1 hst b w r h) ⟨by omega, by omega⟩ (Nat.le_of_ble_eq_true rfl) dX3_one_37 (fun v26 w27 => ?_)
      exact V_areturnX (pc := 40) hk (Or.inl ⟨_, rfl⟩) hR rfl dX3_one_40
  · refine o_X3_198 (pc := 10) hk dX3_one_10 ?_
    refine V_nmW (fun w28 => ?_)
    refine V_dup (pc := 13) hk dX3_one_13 (rf_cat _) ?_
    refine V_aload_n (pc := 14) hk dX3_one_14 0 rfl ?_
    refine V_iconst (pc := 15) (v := 0) hk dX3_one_15 rfl ?_
    refine V_sipush (pc := 16) (v := 9999) hk dX3_one_16 rfl ?_
    refine n_X3_115 (pc := 19) hk hR (fun b r h => ctX3_number (fl y) (fK y) hk.2.2.2.2.2.2.2.1 hst b 0 9999 w28 r h) ⟨by omega, by omega⟩ (by simp [rf_cat, cat_int, cat_long, cat_ref]) dX3_one_19 (fun v31 w32 => ?_)
    refine n_X3_200 (pc := 22) hk (fun b r h => ctX7_init (fl y) (fK y) hk.2.2.2.2.2.2.2.1 b v31 w32 r h) ⟨by omega, by omega⟩ (by simp [rf_cat, cat_int, cat_long, cat_ref]) dX3_one_22 (fun r33 => ?_)
    exact V_areturnX (pc := 25) hk (Or.inl ⟨_, rfl⟩) hR rfl dX3_one_25
noncomputable def mX3_product_p30 (s_X3_one : Nat → Wd → Option ((Option Nat ⊕ Nat) × Wd)) (k12 : Wd → (Option Nat) → (Option Nat) → Option ((Option Nat ⊕ Nat) × Wd)) (w : Wd) (l0 : Option Nat) (l1 : Option Nat) : Option ((Option Nat ⊕ Nat) × Wd) :=
(gI w l0 3 4).bind fun v1 =>
(recv w l0 3).bind fun b3 => (cal w (mX3_next b3 w)).bind fun r2 =>
(recv r2.2 l0 3).bind fun b5 => (calx r2.2 (s_X3_one b5 r2.2)).bind fun r4 => bx r4 fun v6 w7 =>
(recv w7 l1 6).bind fun b9 => (cal w7 (mX6_add b9 v1 v6 w7)).bind fun r8 =>
k12 r8.2 l0 l1
noncomputable def mX3_product_b12 (s_X3_one : Nat → Wd → Option ((Option Nat ⊕ Nat) × Wd)) (k12 : Wd → (Option Nat) → (Option Nat) → Option ((Option Nat ⊕ Nat) × Wd)) (w : Wd) (l0 : Option Nat) (l1 : Option Nat) : Option ((Option Nat ⊕ Nat) × Wd) :=
(gI w l0 3 4).bind fun v1 =>
if v1 = 42 then (
mX3_product_p30 s_X3_one k12 w l0 l1)
else (
(gI w l0 3 4).bind fun v2 =>
if ¬ v2 = 47 then (
(recv w l1 6).bind fun b4 => (cal w (mX6_itself b4 w)).bind fun r3 =>
some (.inl r3.1, r3.2))
else (
mX3_product_p30 s_X3_one k12 w l0 l1))
noncomputable def mX3_product_l12 (s_X3_one : Nat → Wd → Option ((Option Nat ⊕ Nat) × Wd)) : Nat → Wd → (Option Nat) → (Option Nat) → Option ((Option Nat ⊕ Nat) × Wd)
  | 0, _, _, _ => none
  | n + 1, w, l0, l1 => mX3_product_b12 s_X3_one (mX3_product_l12 s_X3_one n) w l0 l1
noncomputable def mX3_product (s_X3_one : Nat → Wd → Option ((Option Nat ⊕ Nat) × Wd)) (this : Nat) (w : Wd) : Option ((Option Nat ⊕ Nat) × Wd) :=
(some (wnew w (.inr (6, df9_X6)) 3)).bind fun (w1 : Wd) =>
(recv w1 ((some this)) 3).bind fun b3 => (calx w1 (s_X3_one b3 w1)).bind fun r2 => bx r2 fun v4 w5 =>
(((some (wnx w)))).bind fun b7 => (cal w5 (mX6_init b7 v4 w5)).bind fun r6 =>
mX3_product_l12 s_X3_one FU r6.2 ((some this)) ((some (wnx w)))
theorem eX3_product_p30 {y : Fx ((Option Nat ⊕ Nat) × Wd)} {F L F9 L9 : Nat} (hk : OkF y RX3 cX3_product 3 F L) (hR : RetX y rvR (some (.object "HookSwings$Sum"))) (hst : (fl y).stackTraces = false) (hF1 : F9 + 1 ≤ F ∧ 60 + L9 ≤ L) (hF2 : 14 ≤ F ∧ 319 ≤ L) {s_X3_one : Nat → Wd → Option ((Option Nat ⊕ Nat) × Wd)} (hs_X3_one : ∀ (b : Nat) (w : Wd) r, s_X3_one b w = some r → CtX (fl y) (fK y) F9 L9 yX3_one (ws_ yX3_one cX3_one 4 (some (.object "HookSwings$Sum"))) [.ref b] w rvR r) {k12 : Wd → (Option Nat) → (Option Nat) → Option ((Option Nat ⊕ Nat) × Wd)} (h12 : ∀ (w : Wd) (l0 : Option Nat) (l1 : Option Nat), V y w [(0, va_rf l0), (1, va_rf l1)] [] 12 (k12 w l0 l1)) (w : Wd) (l0 : Option Nat) (l1 : Option Nat) : V y w [(0, va_rf l0), (1, va_rf l1)] [] 30 (mX3_product_p30 s_X3_one k12 w l0 l1) := by
  unfold mX3_product_p30
  refine V_aload_n (pc := 30) hk dX3_product_30 0 rfl ?_
  refine g_X3_25 (pc := 31) hk dX3_product_31 (fun v1 => ?_)
  refine V_istore_n (pc := 34) (lc' := [(2, .int v1), (0, va_rf l0), (1, va_rf l1)]) (i := 2) hk dX3_product_34 rfl (Nat.le_of_ble_eq_true rfl) (by simp [rf_cat, cat_int, cat_long, cat_ref]) ?_
  refine V_aload_n (pc := 35) hk dX3_product_35 1 rfl ?_
  refine n_X3_74 (pc := 36) hk (fun b r h => ctX3_next (fl y) (fK y) hk.2.2.2.2.2.2.2.1 b w r h) ⟨by omega, by omega⟩ (Nat.le_of_ble_eq_true rfl) dX3_product_36 (fun r2 => ?_)
  refine V_aload_n (pc := 39) hk dX3_product_39 2 rfl ?_
  refine V_iload_n (pc := 40) hk dX3_product_40 0 rfl ?_
  refine V_aload_n (pc := 41) hk dX3_product_41 1 rfl ?_
  refine n_X3_178 (pc := 42) hk hR (fun b r h => hs_X3_one b r2.2 r h) ⟨by omega, by omega⟩ (by simp [rf_cat, cat_int, cat_long, cat_ref]) dX3_product_42 (fun v6 w7 => ?_)
  refine n_X3_172 (pc := 45) hk (fun b r h => ctX6_add (fl y) (fK y) hk.2.2.2.2.2.2.2.1 b v1 v6 w7 r h) ⟨by omega, by omega⟩ (Nat.le_of_ble_eq_true rfl) dX3_product_45 (fun r8 => ?_)
  refine V_goto (pc := 48) (tgt := 12) hk dX3_product_48 rfl ?_
  refine V_pick (lc' := [(0, va_rf l0), (1, va_rf l1)]) [1, 2] rfl ?_
  exact h12 r8.2 l0 l1
theorem eX3_product_b12 {y : Fx ((Option Nat ⊕ Nat) × Wd)} {F L F9 L9 : Nat} (hk : OkF y RX3 cX3_product 3 F L) (hR : RetX y rvR (some (.object "HookSwings$Sum"))) (hst : (fl y).stackTraces = false) (hF1 : F9 + 1 ≤ F ∧ 60 + L9 ≤ L) (hF2 : 14 ≤ F ∧ 319 ≤ L) {s_X3_one : Nat → Wd → Option ((Option Nat ⊕ Nat) × Wd)} (hs_X3_one : ∀ (b : Nat) (w : Wd) r, s_X3_one b w = some r → CtX (fl y) (fK y) F9 L9 yX3_one (ws_ yX3_one cX3_one 4 (some (.object "HookSwings$Sum"))) [.ref b] w rvR r) {k12 : Wd → (Option Nat) → (Option Nat) → Option ((Option Nat ⊕ Nat) × Wd)} (h12 : ∀ (w : Wd) (l0 : Option Nat) (l1 : Option Nat), V y w [(0, va_rf l0), (1, va_rf l1)] [] 12 (k12 w l0 l1)) (w : Wd) (l0 : Option Nat) (l1 : Option Nat) : V y w [(0, va_rf l0), (1, va_rf l1)] [] 12 (mX3_product_b12 s_X3_one k12 w l0 l1) := by
  unfold mX3_product_b12
  refine V_aload_n (pc := 12) hk dX3_product_12 0 rfl ?_
  refine g_X3_25 (pc := 13) hk dX3_product_13 (fun v1 => ?_)
  refine V_bipush (pc := 16) (v := 42) hk dX3_product_16 rfl ?_
  refine V_icmp_eq (pc := 18) (tgt := 30) hk dX3_product_18 rfl ?_ ?_
  · exact eX3_product_p30 hk hR hst hF1 hF2 hs_X3_one h12 w l0 l1
  · refine V_aload_n (pc := 21) hk dX3_product_21 0 rfl ?_
    refine g_X3_25 (pc := 22) hk dX3_product_22 (fun v2 => ?_)
    refine V_bipush (pc := 25) (v := 47) hk dX3_product_25 rfl ?_
    refine V_icmp_ne (pc := 27) (tgt := 51) hk dX3_product_27 rfl ?_ ?_
    · refine V_aload_n (pc := 51) hk dX3_product_51 1 rfl ?_
      refine n_X3_175 (pc := 52) hk (fun b r h => ctX6_itself (fl y) (fK y) hk.2.2.2.2.2.2.2.1 b w r h) ⟨by omega, by omega⟩ (Nat.le_of_ble_eq_true rfl) dX3_product_52 (fun r3 => ?_)
      exact V_areturnX (pc := 55) hk (Or.inl ⟨_, rfl⟩) hR rfl dX3_product_55
    · exact eX3_product_p30 hk hR hst hF1 hF2 hs_X3_one h12 w l0 l1
theorem eX3_product_l12 {y : Fx ((Option Nat ⊕ Nat) × Wd)} {F L F9 L9 : Nat} (hk : OkF y RX3 cX3_product 3 F L) (hR : RetX y rvR (some (.object "HookSwings$Sum"))) (hst : (fl y).stackTraces = false) (hF1 : F9 + 1 ≤ F ∧ 60 + L9 ≤ L) (hF2 : 14 ≤ F ∧ 319 ≤ L) {s_X3_one : Nat → Wd → Option ((Option Nat ⊕ Nat) × Wd)} (hs_X3_one : ∀ (b : Nat) (w : Wd) r, s_X3_one b w = some r → CtX (fl y) (fK y) F9 L9 yX3_one (ws_ yX3_one cX3_one 4 (some (.object "HookSwings$Sum"))) [.ref b] w rvR r) : ∀ (n : Nat) (w : Wd) (l0 : Option Nat) (l1 : Option Nat), V y w [(0, va_rf l0), (1, va_rf l1)] [] 12 (mX3_product_l12 s_X3_one n w l0 l1) := by
  intro n
  induction n with
  | zero => intro w l0 l1; exact V_none
  | succ n ih => intro w l0 l1; exact eX3_product_b12 hk hR hst hF1 hF2 hs_X3_one ih w l0 l1
theorem eX3_product {y : Fx ((Option Nat ⊕ Nat) × Wd)} {F L F9 L9 : Nat} (hk : OkF y RX3 cX3_product 3 F L) (hR : RetX y rvR (some (.object "HookSwings$Sum"))) (hst : (fl y).stackTraces = false) (hF1 : F9 + 1 ≤ F ∧ 60 + L9 ≤ L) (hF2 : 14 ≤ F ∧ 319 ≤ L) {s_X3_one : Nat → Wd → Option ((Option Nat ⊕ Nat) × Wd)} (hs_X3_one : ∀ (b : Nat) (w : Wd) r, s_X3_one b w = some r → CtX (fl y) (fK y) F9 L9 yX3_one (ws_ yX3_one cX3_one 4 (some (.object "HookSwings$Sum"))) [.ref b] w rvR r) (this : Nat) (w : Wd) : V y w [(0, va_rf (some this))] [] 0 (mX3_product s_X3_one this w) := by
  unfold mX3_product
  refine o_X3_164 (pc := 0) hk dX3_product_0 ?_
  refine V_nmW (fun w1 => ?_)
  refine V_dup (pc := 3) hk dX3_product_3 (rf_cat _) ?_
  refine V_aload_n (pc := 4) hk dX3_product_4 0 rfl ?_
  refine n_X3_178 (pc := 5) hk hR (fun b r h => hs_X3_one b w1 r h) ⟨by omega, by omega⟩ (by simp [rf_cat, cat_int, cat_long, cat_ref]) dX3_product_5 (fun v4 w5 => ?_)
  refine n_X3_169 (pc := 8) hk (fun b r h => ctX6_init (fl y) (fK y) hk.2.2.2.2.2.2.2.1 b v4 w5 r h) ⟨by omega, by omega⟩ (by simp [rf_cat, cat_int, cat_long, cat_ref]) dX3_product_8 (fun r6 => ?_)
  refine V_astore_n (pc := 11) (lc' := [(1, va_rf ((some (wnx w)))), (0, va_rf ((some this)))]) (i := 1) hk dX3_product_11 rfl (Nat.le_of_ble_eq_true rfl) (by simp [rf_cat, cat_int, cat_long, cat_ref]) ?_
  refine V_pick (lc' := [(0, va_rf ((some this))), (1, va_rf ((some (wnx w))))]) [1, 0] rfl ?_
  exact eX3_product_l12 hk hR hst hF1 hF2 hs_X3_one FU r6.2 ((some this)) ((some (wnx w)))
noncomputable def mX3_sum_p30 (s_X3_product : Nat → Wd → Option ((Option Nat ⊕ Nat) × Wd)) (k12 : Wd → (Option Nat) → (Option Nat) → Option ((Option Nat ⊕ Nat) × Wd)) (w : Wd) (l0 : Option Nat) (l1 : Option Nat) : Option ((Option Nat ⊕ Nat) × Wd) :=
(gI w l0 3 4).bind fun v1 =>
(recv w l0 3).bind fun b3 => (cal w (mX3_next b3 w)).bind fun r2 =>
(recv r2.2 l0 3).bind fun b5 => (calx r2.2 (s_X3_product b5 r2.2)).bind fun r4 => bx r4 fun v6 w7 =>
(recv w7 l1 6).bind fun b9 => (cal w7 (mX6_add b9 v1 v6 w7)).bind fun r8 =>
k12 r8.2 l0 l1
noncomputable def mX3_sum_b12 (s_X3_product : Nat → Wd → Option ((Option Nat ⊕ Nat) × Wd)) (k12 : Wd → (Option Nat) → (Option Nat) → Option ((Option Nat ⊕ Nat) × Wd)) (w : Wd) (l0 : Option Nat) (l1 : Option Nat) : Option ((Option Nat ⊕ Nat) × Wd) :=
(gI w l0 3 4).bind fun v1 =>
if v1 = 43 then (
mX3_sum_p30 s_X3_product k12 w l0 l1)
else (
(gI w l0 3 4).bind fun v2 =>
if ¬ v2 = 45 then (
(recv w l1 6).bind fun b4 => (cal w (mX6_itself b4 w)).bind fun r3 =>
some (.inl r3.1, r3.2))
else (
mX3_sum_p30 s_X3_product k12 w l0 l1))
noncomputable def mX3_sum_l12 (s_X3_product : Nat → Wd → Option ((Option Nat ⊕ Nat) × Wd)) : Nat → Wd → (Option Nat) → (Option Nat) → Option ((Option Nat ⊕ Nat) × Wd)
  | 0, _, _, _ => none
  | n + 1, w, l0, l1 => mX3_sum_b12 s_X3_product (mX3_sum_l12 s_X3_product n) w l0 l1
noncomputable def mX3_sum (s_X3_product : Nat → Wd → Option ((Option Nat ⊕ Nat) × Wd)) (this : Nat) (w : Wd) : Option ((Option Nat ⊕ Nat) × Wd) :=
(some (wnew w (.inr (6, df9_X6)) 3)).bind fun (w1 : Wd) =>
(recv w1 ((some this)) 3).bind fun b3 => (calx w1 (s_X3_product b3 w1)).bind fun r2 => bx r2 fun v4 w5 =>
(((some (wnx w)))).bind fun b7 => (cal w5 (mX6_init b7 v4 w5)).bind fun r6 =>
mX3_sum_l12 s_X3_product FU r6.2 ((some this)) ((some (wnx w)))
theorem eX3_sum_p30 {y : Fx ((Option Nat ⊕ Nat) × Wd)} {F L F9 L9 : Nat} (hk : OkF y RX3 cX3_sum 3 F L) (hR : RetX y rvR (some (.object "HookSwings$Sum"))) (hst : (fl y).stackTraces = false) (hF1 : F9 + 1 ≤ F ∧ 60 + L9 ≤ L) (hF2 : 15 ≤ F ∧ 341 ≤ L) {s_X3_product : Nat → Wd → Option ((Option Nat ⊕ Nat) × Wd)} (hs_X3_product : ∀ (b : Nat) (w : Wd) r, s_X3_product b w = some r → CtX (fl y) (fK y) F9 L9 yX3_product (ws_ yX3_product cX3_product 3 (some (.object "HookSwings$Sum"))) [.ref b] w rvR r) {k12 : Wd → (Option Nat) → (Option Nat) → Option ((Option Nat ⊕ Nat) × Wd)} (h12 : ∀ (w : Wd) (l0 : Option Nat) (l1 : Option Nat), V y w [(0, va_rf l0), (1, va_rf l1)] [] 12 (k12 w l0 l1)) (w : Wd) (l0 : Option Nat) (l1 : Option Nat) : V y w [(0, va_rf l0), (1, va_rf l1)] [] 30 (mX3_sum_p30 s_X3_product k12 w l0 l1) := by
  unfold mX3_sum_p30
  refine V_aload_n (pc := 30) hk dX3_sum_30 0 rfl ?_
  refine g_X3_25 (pc := 31) hk dX3_sum_31 (fun v1 => ?_)
  refine V_istore_n (pc := 34) (lc' := [(2, .int v1), (0, va_rf l0), (1, va_rf l1)]) (i := 2) hk dX3_sum_34 rfl (Nat.le_of_ble_eq_true rfl) (by simp [rf_cat, cat_int, cat_long, cat_ref]) ?_
  refine V_aload_n (pc := 35) hk dX3_sum_35 1 rfl ?_
  refine n_X3_74 (pc := 36) hk (fun b r h => ctX3_next (fl y) (fK y) hk.2.2.2.2.2.2.2.1 b w r h) ⟨by omega, by omega⟩ (Nat.le_of_ble_eq_true rfl) dX3_sum_36 (fun r2 => ?_)
  refine V_aload_n (pc := 39) hk dX3_sum_39 2 rfl ?_
  refine V_iload_n (pc := 40) hk dX3_sum_40 0 rfl ?_
  refine V_aload_n (pc := 41) hk dX3_sum_41 1 rfl ?_
  refine n_X3_166 (pc := 42) hk hR (fun b r h => hs_X3_product b r2.2 r h) ⟨by omega, by omega⟩ (by simp [rf_cat, cat_int, cat_long, cat_ref]) dX3_sum_42 (fun v6 w7 => ?_)
  refine n_X3_172 (pc := 45) hk (fun b r h => ctX6_add (fl y) (fK y) hk.2.2.2.2.2.2.2.1 b v1 v6 w7 r h) ⟨by omega, by omega⟩ (Nat.le_of_ble_eq_true rfl) dX3_sum_45 (fun r8 => ?_)
  refine V_goto (pc := 48) (tgt := 12) hk dX3_sum_48 rfl ?_
  refine V_pick (lc' := [(0, va_rf l0), (1, va_rf l1)]) [1, 2] rfl ?_
  exact h12 r8.2 l0 l1
theorem eX3_sum_b12 {y : Fx ((Option Nat ⊕ Nat) × Wd)} {F L F9 L9 : Nat} (hk : OkF y RX3 cX3_sum 3 F L) (hR : RetX y rvR (some (.object "HookSwings$Sum"))) (hst : (fl y).stackTraces = false) (hF1 : F9 + 1 ≤ F ∧ 60 + L9 ≤ L) (hF2 : 15 ≤ F ∧ 341 ≤ L) {s_X3_product : Nat → Wd → Option ((Option Nat ⊕ Nat) × Wd)} (hs_X3_product : ∀ (b : Nat) (w : Wd) r, s_X3_product b w = some r → CtX (fl y) (fK y) F9 L9 yX3_product (ws_ yX3_product cX3_product 3 (some (.object "HookSwings$Sum"))) [.ref b] w rvR r) {k12 : Wd → (Option Nat) → (Option Nat) → Option ((Option Nat ⊕ Nat) × Wd)} (h12 : ∀ (w : Wd) (l0 : Option Nat) (l1 : Option Nat), V y w [(0, va_rf l0), (1, va_rf l1)] [] 12 (k12 w l0 l1)) (w : Wd) (l0 : Option Nat) (l1 : Option Nat) : V y w [(0, va_rf l0), (1, va_rf l1)] [] 12 (mX3_sum_b12 s_X3_product k12 w l0 l1) := by
  unfold mX3_sum_b12
  refine V_aload_n (pc := 12) hk dX3_sum_12 0 rfl ?_
  refine g_X3_25 (pc := 13) hk dX3_sum_13 (fun v1 => ?_)
  refine V_bipush (pc := 16) (v := 43) hk dX3_sum_16 rfl ?_
  refine V_icmp_eq (pc := 18) (tgt := 30) hk dX3_sum_18 rfl ?_ ?_
  · exact eX3_sum_p30 hk hR hst hF1 hF2 hs_X3_product h12 w l0 l1
  · refine V_aload_n (pc := 21) hk dX3_sum_21 0 rfl ?_
    refine g_X3_25 (pc := 22) hk dX3_sum_22 (fun v2 => ?_)
    refine V_bipush (pc := 25) (v := 45) hk dX3_sum_25 rfl ?_
    refine V_icmp_ne (pc := 27) (tgt := 51) hk dX3_sum_27 rfl ?_ ?_
    · refine V_aload_n (pc := 51) hk dX3_sum_51 1 rfl ?_
      refine n_X3_175 (pc := 52) hk (fun b r h => ctX6_itself (fl y) (fK y) hk.2.2.2.2.2.2.2.1 b w r h) ⟨by omega, by omega⟩ (Nat.le_of_ble_eq_true rfl) dX3_sum_52 (fun r3 => ?_)
      exact V_areturnX (pc := 55) hk (Or.inl ⟨_, rfl⟩) hR rfl dX3_sum_55
    · exact eX3_sum_p30 hk hR hst hF1 hF2 hs_X3_product h12 w l0 l1
theorem eX3_sum_l12 {y : Fx ((Option Nat ⊕ Nat) × Wd)} {F L F9 L9 : Nat} (hk : OkF y RX3 cX3_sum 3 F L) (hR : RetX y rvR (some (.object "HookSwings$Sum"))) (hst : (fl y).stackTraces = false) (hF1 : F9 + 1 ≤ F ∧ 60 + L9 ≤ L) (hF2 : 15 ≤ F ∧ 341 ≤ L) {s_X3_product : Nat → Wd → Option ((Option Nat ⊕ Nat) × Wd)} (hs_X3_product : ∀ (b : Nat) (w : Wd) r, s_X3_product b w = some r → CtX (fl y) (fK y) F9 L9 yX3_product (ws_ yX3_product cX3_product 3 (some (.object "HookSwings$Sum"))) [.ref b] w rvR r) : ∀ (n : Nat) (w : Wd) (l0 : Option Nat) (l1 : Option Nat), V y w [(0, va_rf l0), (1, va_rf l1)] [] 12 (mX3_sum_l12 s_X3_product n w l0 l1) := by
  intro n
  induction n with
  | zero => intro w l0 l1; exact V_none
  | succ n ih => intro w l0 l1; exact eX3_sum_b12 hk hR hst hF1 hF2 hs_X3_product ih w l0 l1
theorem eX3_sum {y : Fx ((Option Nat ⊕ Nat) × Wd)} {F L F9 L9 : Nat} (hk : OkF y RX3 cX3_sum 3 F L) (hR : RetX y rvR (some (.object "HookSwings$Sum"))) (hst : (fl y).stackTraces = false) (hF1 : F9 + 1 ≤ F ∧ 60 + L9 ≤ L) (hF2 : 15 ≤ F ∧ 341 ≤ L) {s_X3_product : Nat → Wd → Option ((Option Nat ⊕ Nat) × Wd)} (hs_X3_product : ∀ (b : Nat) (w : Wd) r, s_X3_product b w = some r → CtX (fl y) (fK y) F9 L9 yX3_product (ws_ yX3_product cX3_product 3 (some (.object "HookSwings$Sum"))) [.ref b] w rvR r) (this : Nat) (w : Wd) : V y w [(0, va_rf (some this))] [] 0 (mX3_sum s_X3_product this w) := by
  unfold mX3_sum
  refine o_X3_164 (pc := 0) hk dX3_sum_0 ?_
  refine V_nmW (fun w1 => ?_)
  refine V_dup (pc := 3) hk dX3_sum_3 (rf_cat _) ?_
  refine V_aload_n (pc := 4) hk dX3_sum_4 0 rfl ?_
  refine n_X3_166 (pc := 5) hk hR (fun b r h => hs_X3_product b w1 r h) ⟨by omega, by omega⟩ (by simp [rf_cat, cat_int, cat_long, cat_ref]) dX3_sum_5 (fun v4 w5 => ?_)
  refine n_X3_169 (pc := 8) hk (fun b r h => ctX6_init (fl y) (fK y) hk.2.2.2.2.2.2.2.1 b v4 w5 r h) ⟨by omega, by omega⟩ (by simp [rf_cat, cat_int, cat_long, cat_ref]) dX3_sum_8 (fun r6 => ?_)
  refine V_astore_n (pc := 11) (lc' := [(1, va_rf ((some (wnx w)))), (0, va_rf ((some this)))]) (i := 1) hk dX3_sum_11 rfl (Nat.le_of_ble_eq_true rfl) (by simp [rf_cat, cat_int, cat_long, cat_ref]) ?_
  refine V_pick (lc' := [(0, va_rf ((some this))), (1, va_rf ((some (wnx w))))]) [1, 0] rfl ?_
  exact eX3_sum_l12 hk hR hst hF1 hF2 hs_X3_product FU r6.2 ((some this)) ((some (wnx w)))
abbrev TyPr : Type := Nat → Wd → Option ((Option Nat ⊕ Nat) × Wd)
/-- the reader's own functions, to a depth -/
noncomputable def pr9 : Nat → Nat → TyPr
  | 0, _ => fun _ _ => none
  | d + 1, 0 => mX3_sum (pr9 d 1)
  | d + 1, 1 => mX3_product (pr9 d 2)
  | d + 1, 2 => mX3_one (pr9 d 3) (pr9 d 0) (pr9 d 2)
  | d + 1, 3 => mX3_choice (pr9 d 4) (pr9 d 0)
  | d + 1, 4 => mX3_either (pr9 d 5)
  | d + 1, 5 => mX3_both (pr9 d 6)
  | d + 1, 6 => mX3_ask (pr9 d 6) (pr9 d 0)
  | _ + 1, _ => fun _ _ => none
def PRD : Nat := 100
theorem hpr9 (l : Launch) (K : Kx) (hI : Ini K) (hst : l.stackTraces = false) : ∀ d : Nat, (∀ (b : Nat) (w : Wd) r, pr9 d 0 b w = some r → CtX l K (15 + d) (341 + 60 * d) yX3_sum (ws_ yX3_sum cX3_sum 3 (some (.object "HookSwings$Sum"))) [.ref b] w rvR r) ∧ (∀ (b : Nat) (w : Wd) r, pr9 d 1 b w = some r → CtX l K (15 + d) (341 + 60 * d) yX3_product (ws_ yX3_product cX3_product 3 (some (.object "HookSwings$Sum"))) [.ref b] w rvR r) ∧ (∀ (b : Nat) (w : Wd) r, pr9 d 2 b w = some r → CtX l K (15 + d) (341 + 60 * d) yX3_one (ws_ yX3_one cX3_one 4 (some (.object "HookSwings$Sum"))) [.ref b] w rvR r) ∧ (∀ (b : Nat) (w : Wd) r, pr9 d 3 b w = some r → CtX l K (15 + d) (341 + 60 * d) yX3_choice (ws_ yX3_choice cX3_choice 4 (some (.object "HookSwings$Sum"))) [.ref b] w rvR r) ∧ (∀ (b : Nat) (w : Wd) r, pr9 d 4 b w = some r → CtX l K (15 + d) (341 + 60 * d) yX3_either (ws_ yX3_either cX3_either 2 (some (.object "HookSwings$Asked"))) [.ref b] w rvR r) ∧ (∀ (b : Nat) (w : Wd) r, pr9 d 5 b w = some r → CtX l K (15 + d) (341 + 60 * d) yX3_both (ws_ yX3_both cX3_both 2 (some (.object "HookSwings$Asked"))) [.ref b] w rvR r) ∧ (∀ (b : Nat) (w : Wd) r, pr9 d 6 b w = some r → CtX l K (15 + d) (341 + 60 * d) yX3_ask (ws_ yX3_ask cX3_ask 3 (some (.object "HookSwings$Asked"))) [.ref b] w rvR r) := by
  intro d
  induction d with
  | zero => exact ⟨fun b w r h => (by simp [pr9] at h), fun b w r h => (by simp [pr9] at h), fun b w r h => (by simp [pr9] at h), fun b w r h => (by simp [pr9] at h), fun b w r h => (by simp [pr9] at h), fun b w r h => (by simp [pr9] at h), fun b w r h => (by simp [pr9] at h)⟩
  | succ d ih =>
  refine ⟨?_, ?_, ?_, ?_, ?_, ?_, ?_⟩
  · intro b w r h
    exact CtX_of rvR l K hI (15 + (d + 1)) (341 + 60 * (d + 1)) (yy := yX3_sum) (cc := cX3_sum) (nL := 3) (ret := (some (.object "HookSwings$Sum"))) [.ref b] w (by decide) (lc0 := [(0, .ref b)]) rfl (Nat.le_of_ble_eq_true rfl) (fun y hk hR hl hK hin => eX3_sum (F9 := 15 + d) (L9 := 341 + 60 * d) hk hR (by rw [hl]; exact hst) ⟨by omega, by omega⟩ ⟨by omega, by omega⟩ (by rw [hl, hK]; exact ih.2.1) b w) r (by simpa only [pr9] using h)
  · intro b w r h
    exact CtX_of rvR l K hI (15 + (d + 1)) (341 + 60 * (d + 1)) (yy := yX3_product) (cc := cX3_product) (nL := 3) (ret := (some (.object "HookSwings$Sum"))) [.ref b] w (by decide) (lc0 := [(0, .ref b)]) rfl (Nat.le_of_ble_eq_true rfl) (fun y hk hR hl hK hin => eX3_product (F9 := 15 + d) (L9 := 341 + 60 * d) hk hR (by rw [hl]; exact hst) ⟨by omega, by omega⟩ ⟨by omega, by omega⟩ (by rw [hl, hK]; exact ih.2.2.1) b w) r (by simpa only [pr9] using h)
  · intro b w r h
    exact CtX_of rvR l K hI (15 + (d + 1)) (341 + 60 * (d + 1)) (yy := yX3_one) (cc := cX3_one) (nL := 4) (ret := (some (.object "HookSwings$Sum"))) [.ref b] w (by decide) (lc0 := [(0, .ref b)]) rfl (Nat.le_of_ble_eq_true rfl) (fun y hk hR hl hK hin => eX3_one (F9 := 15 + d) (L9 := 341 + 60 * d) hk hR (by rw [hl]; exact hst) ⟨by omega, by omega⟩ ⟨by omega, by omega⟩ (by rw [hl, hK]; exact ih.2.2.2.1) (by rw [hl, hK]; exact ih.1) (by rw [hl, hK]; exact ih.2.2.1) b w) r (by simpa only [pr9] using h)
  · intro b w r h
    exact CtX_of rvR l K hI (15 + (d + 1)) (341 + 60 * (d + 1)) (yy := yX3_choice) (cc := cX3_choice) (nL := 4) (ret := (some (.object "HookSwings$Sum"))) [.ref b] w (by decide) (lc0 := [(0, .ref b)]) rfl (Nat.le_of_ble_eq_true rfl) (fun y hk hR hl hK hin => eX3_choice (F9 := 15 + d) (L9 := 341 + 60 * d) hk hR (by rw [hl]; exact hst) ⟨by omega, by omega⟩ ⟨by omega, by omega⟩ (by rw [hl, hK]; exact ih.2.2.2.2.1) (by rw [hl, hK]; exact ih.1) b w) r (by simpa only [pr9] using h)
  · intro b w r h
    exact CtX_of rvR l K hI (15 + (d + 1)) (341 + 60 * (d + 1)) (yy := yX3_either) (cc := cX3_either) (nL := 2) (ret := (some (.object "HookSwings$Asked"))) [.ref b] w (by decide) (lc0 := [(0, .ref b)]) rfl (Nat.le_of_ble_eq_true rfl) (fun y hk hR hl hK hin => eX3_either (F9 := 15 + d) (L9 := 341 + 60 * d) hk hR (by rw [hl]; exact hst) ⟨by omega, by omega⟩ ⟨by omega, by omega⟩ (by rw [hl, hK]; exact ih.2.2.2.2.2.1) b w) r (by simpa only [pr9] using h)
  · intro b w r h
    exact CtX_of rvR l K hI (15 + (d + 1)) (341 + 60 * (d + 1)) (yy := yX3_both) (cc := cX3_both) (nL := 2) (ret := (some (.object "HookSwings$Asked"))) [.ref b] w (by decide) (lc0 := [(0, .ref b)]) rfl (Nat.le_of_ble_eq_true rfl) (fun y hk hR hl hK hin => eX3_both (F9 := 15 + d) (L9 := 341 + 60 * d) hk hR (by rw [hl]; exact hst) ⟨by omega, by omega⟩ ⟨by omega, by omega⟩ (by rw [hl, hK]; exact ih.2.2.2.2.2.2) b w) r (by simpa only [pr9] using h)
  · intro b w r h
    exact CtX_of rvR l K hI (15 + (d + 1)) (341 + 60 * (d + 1)) (yy := yX3_ask) (cc := cX3_ask) (nL := 3) (ret := (some (.object "HookSwings$Asked"))) [.ref b] w (by decide) (lc0 := [(0, .ref b)]) rfl (Nat.le_of_ble_eq_true rfl) (fun y hk hR hl hK hin => eX3_ask (F9 := 15 + d) (L9 := 341 + 60 * d) hk hR (by rw [hl]; exact hst) ⟨by omega, by omega⟩ ⟨by omega, by omega⟩ (by rw [hl, hK]; exact ih.2.2.2.2.2.2) (by rw [hl, hK]; exact ih.1) b w) r (by simpa only [pr9] using h)

noncomputable def gX3_sum : TyPr := pr9 PRD 0
theorem hgX3_sum (l : Launch) (K : Kx) (hI : Ini K) (hst : l.stackTraces = false) (b : Nat) (w : Wd) : ∀ r, gX3_sum b w = some r → CtX l K 115 6341 yX3_sum (ws_ yX3_sum cX3_sum 3 (some (.object "HookSwings$Sum"))) [.ref b] w rvR r := fun r h => (hpr9 l K hI hst PRD).1 b w r h
noncomputable def gX3_product : TyPr := pr9 PRD 1
theorem hgX3_product (l : Launch) (K : Kx) (hI : Ini K) (hst : l.stackTraces = false) (b : Nat) (w : Wd) : ∀ r, gX3_product b w = some r → CtX l K 115 6341 yX3_product (ws_ yX3_product cX3_product 3 (some (.object "HookSwings$Sum"))) [.ref b] w rvR r := fun r h => (hpr9 l K hI hst PRD).2.1 b w r h
noncomputable def gX3_one : TyPr := pr9 PRD 2
theorem hgX3_one (l : Launch) (K : Kx) (hI : Ini K) (hst : l.stackTraces = false) (b : Nat) (w : Wd) : ∀ r, gX3_one b w = some r → CtX l K 115 6341 yX3_one (ws_ yX3_one cX3_one 4 (some (.object "HookSwings$Sum"))) [.ref b] w rvR r := fun r h => (hpr9 l K hI hst PRD).2.2.1 b w r h
noncomputable def gX3_choice : TyPr := pr9 PRD 3
theorem hgX3_choice (l : Launch) (K : Kx) (hI : Ini K) (hst : l.stackTraces = false) (b : Nat) (w : Wd) : ∀ r, gX3_choice b w = some r → CtX l K 115 6341 yX3_choice (ws_ yX3_choice cX3_choice 4 (some (.object "HookSwings$Sum"))) [.ref b] w rvR r := fun r h => (hpr9 l K hI hst PRD).2.2.2.1 b w r h
noncomputable def gX3_either : TyPr := pr9 PRD 4
theorem hgX3_either (l : Launch) (K : Kx) (hI : Ini K) (hst : l.stackTraces = false) (b : Nat) (w : Wd) : ∀ r, gX3_either b w = some r → CtX l K 115 6341 yX3_either (ws_ yX3_either cX3_either 2 (some (.object "HookSwings$Asked"))) [.ref b] w rvR r := fun r h => (hpr9 l K hI hst PRD).2.2.2.2.1 b w r h
noncomputable def gX3_both : TyPr := pr9 PRD 5
theorem hgX3_both (l : Launch) (K : Kx) (hI : Ini K) (hst : l.stackTraces = false) (b : Nat) (w : Wd) : ∀ r, gX3_both b w = some r → CtX l K 115 6341 yX3_both (ws_ yX3_both cX3_both 2 (some (.object "HookSwings$Asked"))) [.ref b] w rvR r := fun r h => (hpr9 l K hI hst PRD).2.2.2.2.2.1 b w r h
noncomputable def gX3_ask : TyPr := pr9 PRD 6
theorem hgX3_ask (l : Launch) (K : Kx) (hI : Ini K) (hst : l.stackTraces = false) (b : Nat) (w : Wd) : ∀ r, gX3_ask b w = some r → CtX l K 115 6341 yX3_ask (ws_ yX3_ask cX3_ask 3 (some (.object "HookSwings$Asked"))) [.ref b] w rvR r := fun r h => (hpr9 l K hI hst PRD).2.2.2.2.2.2 b w r h
