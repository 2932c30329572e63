noncomputable def mX1_init (this : Nat) (w : Wd) : Option (Unit × Wd) :=
(((some this))).bind fun b1 =>
(nchk 7).bind fun n2 => (some (wnew w (.inl (.int, n2, .inl (fun _ => 0))) n2)).bind fun (w3 : Wd) =>
(pf w3 ((some this)) 1 0 (va_rf ((some (wnx w))))).bind fun w4 =>
(nchk 413).bind fun n5 => (some (wnew w4 (.inl (.int, n5, .inl (fun _ => 0))) n5)).bind fun (w6 : Wd) =>
(pf w6 ((some this)) 1 1 (va_rf ((some (wnx w4))))).bind fun w7 =>
(nchk 8).bind fun n8 => (nchk 5).bind fun n9 => (some (wnew2 w7 n8 n9)).bind fun (w10 : Wd) =>
(pf w10 ((some this)) 1 2 (va_rf ((some (wnx w7))))).bind fun w11 =>
(nchk 8).bind fun n12 => (nchk 2).bind fun n13 => (some (wnew2 w11 n12 n13)).bind fun (w14 : Wd) =>
(pf w14 ((some this)) 1 3 (va_rf ((some (wnx w11))))).bind fun w15 =>
(nchk 4).bind fun n16 => (nchk 4).bind fun n17 => (some (wnew2 w15 n16 n17)).bind fun (w18 : Wd) =>
(pf w18 ((some this)) 1 4 (va_rf ((some (wnx w15))))).bind fun w19 =>
(nchk 30).bind fun n20 => (nchk 413).bind fun n21 => (some (wnew2 w19 n20 n21)).bind fun (w22 : Wd) =>
(pf w22 ((some this)) 1 5 (va_rf ((some (wnx w19))))).bind fun w23 =>
(nchk 4).bind fun n24 => (some (wnew w23 (.inl (.object "HookSwings$Text", n24, .inr (.inr (.inr (.inr (fun _ => none)))))) n24)).bind fun (w25 : Wd) =>
(pf w25 ((some this)) 1 6 (va_rf ((some (wnx w23))))).bind fun w26 =>
(gR w26 ((some this)) 1 0).bind fun v27 =>
(ias w26 v27 3 (-1)).bind fun w28 =>
(gR w28 ((some this)) 1 0).bind fun v29 =>
(ias w28 v29 1 2).bind fun w30 =>
(gR w30 ((some this)) 1 1).bind fun v31 =>
(ias w30 v31 4 5).bind fun w32 =>
(gR w32 ((some this)) 1 1).bind fun v33 =>
(ias w32 v33 9 59).bind fun w34 =>
(gR w34 ((some this)) 1 1).bind fun v35 =>
(ias w34 v35 10 (-1)).bind fun w36 =>
some ((), w36)
theorem eX1_init {y : Fx (Unit × Wd)} (hk : OkF y RX1 cX1_init 1 2 60) (hR : RetM y rvV none) (hin : (fmeth y).name = "<init>") (this : Nat) (w : Wd) : V y w [(0, va_rf (some this))] [] 0 (mX1_init this w) := by
  unfold mX1_init
  refine V_aload_n (pc := 0) hk dX1_init_0 0 rfl ?_
  refine V_objInit (pc := 1) hk q177 q170 q171 ⟨Nat.le_of_ble_eq_true rfl, Nat.le_of_ble_eq_true rfl⟩ (Nat.le_of_ble_eq_true rfl) dX1_init_1 (fun b1 => ?_)
  refine V_aload_n (pc := 4) hk dX1_init_4 0 rfl ?_
  refine V_bipush (pc := 5) (v := 7) hk dX1_init_5 rfl ?_
  refine V_na_int (pc := 7) hk dX1_init_7 (fun n2 => ?_)
  refine V_nmW (fun w3 => ?_)
  refine p_X1_9 (pc := 9) hk hin dX1_init_9 (fun w4 => ?_)
  refine V_aload_n (pc := 12) hk dX1_init_12 0 rfl ?_
  refine V_sipush (pc := 13) (v := 413) hk dX1_init_13 rfl ?_
  refine V_na_int (pc := 16) hk dX1_init_16 (fun n5 => ?_)
  refine V_nmW (fun w6 => ?_)
  refine p_X1_15 (pc := 18) hk hin dX1_init_18 (fun w7 => ?_)
  refine V_aload_n (pc := 21) hk dX1_init_21 0 rfl ?_
  refine V_bipush (pc := 22) (v := 8) hk dX1_init_22 rfl ?_
  refine V_iconst (pc := 24) (v := 5) hk dX1_init_24 rfl ?_
  refine V_multi (pc := 25) hk q178 q179 q211 dX1_init_25 (fun n8 n9 => ?_)
  refine V_nmW (fun w10 => ?_)
  refine p_X1_20 (pc := 29) hk hin dX1_init_29 (fun w11 => ?_)
  refine V_aload_n (pc := 32) hk dX1_init_32 0 rfl ?_
  refine V_bipush (pc := 33) (v := 8) hk dX1_init_33 rfl ?_
  refine V_iconst (pc := 35) (v := 2) hk dX1_init_35 rfl ?_
  refine V_multi (pc := 36) hk q178 q179 q211 dX1_init_36 (fun n12 n13 => ?_)
  refine V_nmW (fun w14 => ?_)
  refine p_X1_23 (pc := 40) hk hin dX1_init_40 (fun w15 => ?_)
  refine V_aload_n (pc := 43) hk dX1_init_43 0 rfl ?_
  refine V_iconst (pc := 44) (v := 4) hk dX1_init_44 rfl ?_
  refine V_iconst (pc := 45) (v := 4) hk dX1_init_45 rfl ?_
  refine V_multi (pc := 46) hk q178 q179 q211 dX1_init_46 (fun n16 n17 => ?_)
  refine V_nmW (fun w18 => ?_)
  refine p_X1_26 (pc := 50) hk hin dX1_init_50 (fun w19 => ?_)
  refine V_aload_n (pc := 53) hk dX1_init_53 0 rfl ?_
  refine V_bipush (pc := 54) (v := 30) hk dX1_init_54 rfl ?_
  refine V_sipush (pc := 56) (v := 413) hk dX1_init_56 rfl ?_
  refine V_multi (pc := 59) hk q178 q179 q211 dX1_init_59 (fun n20 n21 => ?_)
  refine V_nmW (fun w22 => ?_)
  refine p_X1_29 (pc := 63) hk hin dX1_init_63 (fun w23 => ?_)
  refine V_aload_n (pc := 66) hk dX1_init_66 0 rfl ?_
  refine V_iconst (pc := 67) (v := 4) hk dX1_init_67 rfl ?_
  refine V_anewA (pc := 68) (C := "HookSwings$Text") hk (by decide) q180 q181 dX1_init_68 (fun n24 => ?_)
  refine V_nmW (fun w25 => ?_)
  refine p_X1_34 (pc := 71) hk hin dX1_init_71 (fun w26 => ?_)
  refine V_aload_n (pc := 74) hk dX1_init_74 0 rfl ?_
  refine g_X1_9 (pc := 75) hk dX1_init_75 (fun v27 => ?_)
  refine V_iconst (pc := 78) (v := 3) hk dX1_init_78 rfl ?_
  refine V_iconst (pc := 79) (v := (-1)) hk dX1_init_79 (by decide +kernel) ?_
  refine V_iastore (pc := 80) hk dX1_init_80 (fun w28 => ?_)
  refine V_aload_n (pc := 81) hk dX1_init_81 0 rfl ?_
  refine g_X1_9 (pc := 82) hk dX1_init_82 (fun v29 => ?_)
  refine V_iconst (pc := 85) (v := 1) hk dX1_init_85 rfl ?_
  refine V_iconst (pc := 86) (v := 2) hk dX1_init_86 rfl ?_
  refine V_iastore (pc := 87) hk dX1_init_87 (fun w30 => ?_)
  refine V_aload_n (pc := 88) hk dX1_init_88 0 rfl ?_
  refine g_X1_15 (pc := 89) hk dX1_init_89 (fun v31 => ?_)
  refine V_iconst (pc := 92) (v := 4) hk dX1_init_92 rfl ?_
  refine V_iconst (pc := 93) (v := 5) hk dX1_init_93 rfl ?_
  refine V_iastore (pc := 94) hk dX1_init_94 (fun w32 => ?_)
  refine V_aload_n (pc := 95) hk dX1_init_95 0 rfl ?_
  refine g_X1_15 (pc := 96) hk dX1_init_96 (fun v33 => ?_)
  refine V_bipush (pc := 99) (v := 9) hk dX1_init_99 rfl ?_
  refine V_bipush (pc := 101) (v := 59) hk dX1_init_101 rfl ?_
  refine V_iastore (pc := 103) hk dX1_init_103 (fun w34 => ?_)
  refine V_aload_n (pc := 104) hk dX1_init_104 0 rfl ?_
  refine g_X1_15 (pc := 105) hk dX1_init_105 (fun v35 => ?_)
  refine V_bipush (pc := 108) (v := 10) hk dX1_init_108 rfl ?_
  refine V_iconst (pc := 110) (v := (-1)) hk dX1_init_110 (by decide +kernel) ?_
  refine V_iastore (pc := 111) hk dX1_init_111 (fun w36 => ?_)
  exact V_return (pc := 112) hk hR rfl dX1_init_112
theorem ctX1_init (l : Launch) (K : Kx) (hI : Ini K) (b : Nat) (w : Wd) : ∀ r, mX1_init b w = some r → Ct l K 2 60 yX1_init (ws_ yX1_init cX1_init 1 none) [.ref b] w (rvV r.1) r.2 := Ct_of rvV l K hI 2 60 [.ref b] w (by decide) (lc0 := [(0, .ref b)]) rfl (Nat.le_of_ble_eq_true rfl) (fun y hk hR _ _ hin => eX1_init hk hR hin b w)
noncomputable def mX1_copy (a0 : Option Nat) (a1 : Option Nat) (w : Wd) : Option (Unit × Wd) :=
(alen w a0).bind fun v1 =>
(acpI w a0 0 a1 0 v1).bind fun w2 =>
some ((), w2)
theorem eX1_copy {y : Fx (Unit × Wd)} (hk : OkF y RX1 cX1_copy 2 2 60) (hR : RetM y rvV none) (a0 : Option Nat) (a1 : Option Nat) (w : Wd) : V y w [(0, va_rf a0), (1, va_rf a1)] [] 0 (mX1_copy a0 a1 w) := by
  unfold mX1_copy
  refine V_aload_n (pc := 0) hk dX1_copy_0 0 rfl ?_
  refine V_iconst (pc := 1) (v := 0) hk dX1_copy_1 rfl ?_
  refine V_aload_n (pc := 2) hk dX1_copy_2 1 rfl ?_
  refine V_iconst (pc := 3) (v := 0) hk dX1_copy_3 rfl ?_
  refine V_aload_n (pc := 4) hk dX1_copy_4 0 rfl ?_
  refine V_alen (pc := 5) hk dX1_copy_5 (fun v1 => ?_)
  refine V_acpI (pc := 6) hk (acpW hk q220 q222 q221 q132) ⟨Nat.le_of_ble_eq_true rfl, Nat.le_of_ble_eq_true rfl⟩ (Nat.le_of_ble_eq_true rfl) dX1_copy_6 (fun w2 => ?_)
  exact V_return (pc := 9) hk hR rfl dX1_copy_9
theorem ctX1_copy (l : Launch) (K : Kx) (hI : Ini K) (a0 : Option Nat) (a1 : Option Nat) (w : Wd) : ∀ r, mX1_copy a0 a1 w = some r → Ct l K 2 60 yX1_copy (ws_ yX1_copy cX1_copy 2 none) [va_rf a0, va_rf a1] w (rvV r.1) r.2 := Ct_of rvV l K hI 2 60 [va_rf a0, va_rf a1] w (by decide) (lc0 := [(0, va_rf a0), (1, va_rf a1)]) (by simp [lv_args, rf_cat, cat_int, cat_long, cat_ref]) (lg_len _ _ (by simp [rf_cat, cat_int, cat_long, cat_ref])) (fun y hk hR _ _ hin => eX1_copy hk hR a0 a1 w)
noncomputable def mX1_copy_2_b2 (k2 : Wd → (Option Nat) → (Option Nat) → Int32 → Option (Unit × Wd)) (w : Wd) (l0 : Option Nat) (l1 : Option Nat) (l2 : Int32) : Option (Unit × Wd) :=
(alen w l0).bind fun v1 =>
if v1 ≤ l2 then (
some ((), w))
else (
(aa w l0 l2).bind fun v2 =>
(aa w l1 l2).bind fun v3 =>
(cal w (mX1_copy v2 v3 w)).bind fun r4 =>
k2 r4.2 l0 l1 (l2 + 1))
noncomputable def mX1_copy_2_l2 : Nat → Wd → (Option Nat) → (Option Nat) → Int32 → Option (Unit × Wd)
  | 0, _, _, _, _ => none
  | n + 1, w, l0, l1, l2 => mX1_copy_2_b2 (mX1_copy_2_l2 n) w l0 l1 l2
noncomputable def mX1_copy_2 (a0 : Option Nat) (a1 : Option Nat) (w : Wd) : Option (Unit × Wd) :=
mX1_copy_2_l2 FU w a0 a1 0
theorem eX1_copy_2_b2 {y : Fx (Unit × Wd)} (hk : OkF y RX1 cX1_copy_2 3 3 81) (hR : RetM y rvV none) {k2 : Wd → (Option Nat) → (Option Nat) → Int32 → Option (Unit × Wd)} (h2 : ∀ (w : Wd) (l0 : Option Nat) (l1 : Option Nat) (l2 : Int32), V y w [(0, va_rf l0), (1, va_rf l1), (2, .int l2)] [] 2 (k2 w l0 l1 l2)) (w : Wd) (l0 : Option Nat) (l1 : Option Nat) (l2 : Int32) : V y w [(0, va_rf l0), (1, va_rf l1), (2, .int l2)] [] 2 (mX1_copy_2_b2 k2 w l0 l1 l2) := by
  unfold mX1_copy_2_b2
  refine V_iload_n (pc := 2) hk dX1_copy_2_2 2 rfl ?_
  refine V_aload_n (pc := 3) hk dX1_copy_2_3 0 rfl ?_
  refine V_alen (pc := 4) hk dX1_copy_2_4 (fun v1 => ?_)
  refine V_icmp_ge (pc := 5) (tgt := 23) hk dX1_copy_2_5 rfl ?_ ?_
  · exact V_return (pc := 23) hk hR rfl dX1_copy_2_23
  · refine V_aload_n (pc := 8) hk dX1_copy_2_8 0 rfl ?_
    refine V_iload_n (pc := 9) hk dX1_copy_2_9 2 rfl ?_
    refine V_aaload (pc := 10) hk dX1_copy_2_10 (fun v2 => ?_)
    refine V_aload_n (pc := 11) hk dX1_copy_2_11 1 rfl ?_
    refine V_iload_n (pc := 12) hk dX1_copy_2_12 2 rfl ?_
    refine V_aaload (pc := 13) hk dX1_copy_2_13 (fun v3 => ?_)
    refine n_X1_44 (pc := 14) hk (fun r h => ctX1_copy (fl y) (fK y) hk.2.2.2.2.2.2.2.1 v2 v3 w r h) ⟨Nat.le_of_ble_eq_true rfl, Nat.le_of_ble_eq_true rfl⟩ (Nat.le_of_ble_eq_true rfl) dX1_copy_2_14 (fun r4 => ?_)
    refine V_iinc (pc := 17) (v := 1) (lc' := [(2, .int (l2 + 1)), (0, va_rf l0), (1, va_rf l1)]) hk dX1_copy_2_17 2 rfl rfl (Nat.le_of_ble_eq_true rfl) (by simp [rf_cat, cat_int, cat_long, cat_ref]) ?_
    refine V_goto (pc := 20) (tgt := 2) hk dX1_copy_2_20 rfl ?_
    refine V_pick (lc' := [(0, va_rf l0), (1, va_rf l1), (2, .int (l2 + 1))]) [1, 2, 0] rfl ?_
    exact h2 r4.2 l0 l1 (l2 + 1)
theorem eX1_copy_2_l2 {y : Fx (Unit × Wd)} (hk : OkF y RX1 cX1_copy_2 3 3 81) (hR : RetM y rvV none) : ∀ (n : Nat) (w : Wd) (l0 : Option Nat) (l1 : Option Nat) (l2 : Int32), V y w [(0, va_rf l0), (1, va_rf l1), (2, .int l2)] [] 2 (mX1_copy_2_l2 n w l0 l1 l2) := by
  intro n
  induction n with
  | zero => intro w l0 l1 l2; exact V_none
  | succ n ih => intro w l0 l1 l2; exact eX1_copy_2_b2 hk hR ih w l0 l1 l2
theorem eX1_copy_2 {y : Fx (Unit × Wd)} (hk : OkF y RX1 cX1_copy_2 3 3 81) (hR : RetM y rvV none) (a0 : Option Nat) (a1 : Option Nat) (w : Wd) : V y w [(0, va_rf a0), (1, va_rf a1)] [] 0 (mX1_copy_2 a0 a1 w) := by
  unfold mX1_copy_2
  refine V_iconst (pc := 0) (v := 0) hk dX1_copy_2_0 rfl ?_
  refine V_istore_n (pc := 1) (lc' := [(2, .int 0), (0, va_rf a0), (1, va_rf a1)]) (i := 2) hk dX1_copy_2_1 rfl (Nat.le_of_ble_eq_true rfl) (by simp [rf_cat, cat_int, cat_long, cat_ref]) ?_
  refine V_pick (lc' := [(0, va_rf a0), (1, va_rf a1), (2, .int 0)]) [1, 2, 0] rfl ?_
  exact eX1_copy_2_l2 hk hR FU w a0 a1 0
theorem ctX1_copy_2 (l : Launch) (K : Kx) (hI : Ini K) (a0 : Option Nat) (a1 : Option Nat) (w : Wd) : ∀ r, mX1_copy_2 a0 a1 w = some r → Ct l K 3 81 yX1_copy_2 (ws_ yX1_copy_2 cX1_copy_2 3 none) [va_rf a0, va_rf a1] w (rvV r.1) r.2 := Ct_of rvV l K hI 3 81 [va_rf a0, va_rf a1] w (by decide) (lc0 := [(0, va_rf a0), (1, va_rf a1)]) (by simp [lv_args, rf_cat, cat_int, cat_long, cat_ref]) (lg_len _ _ (by simp [rf_cat, cat_int, cat_long, cat_ref])) (fun y hk hR _ _ hin => eX1_copy_2 hk hR a0 a1 w)
noncomputable def mX1_be (this : Nat) (a0 : Option Nat) (w : Wd) : Option (Unit × Wd) :=
(gR w a0 1 0).bind fun v1 =>
(gR w ((some this)) 1 0).bind fun v2 =>
(cal w (mX1_copy v1 v2 w)).bind fun r3 =>
(gR r3.2 a0 1 1).bind fun v4 =>
(gR r3.2 ((some this)) 1 1).bind fun v5 =>
(cal r3.2 (mX1_copy v4 v5 r3.2)).bind fun r6 =>
(gR r6.2 a0 1 2).bind fun v7 =>
(gR r6.2 ((some this)) 1 2).bind fun v8 =>
(cal r6.2 (mX1_copy_2 v7 v8 r6.2)).bind fun r9 =>
(gR r9.2 a0 1 3).bind fun v10 =>
(gR r9.2 ((some this)) 1 3).bind fun v11 =>
(cal r9.2 (mX1_copy_2 v10 v11 r9.2)).bind fun r12 =>
(gR r12.2 a0 1 4).bind fun v13 =>
(gR r12.2 ((some this)) 1 4).bind fun v14 =>
(cal r12.2 (mX1_copy_2 v13 v14 r12.2)).bind fun r15 =>
(gR r15.2 a0 1 5).bind fun v16 =>
(gR r15.2 ((some this)) 1 5).bind fun v17 =>
(cal r15.2 (mX1_copy_2 v16 v17 r15.2)).bind fun r18 =>
(gR r18.2 a0 1 6).bind fun v19 =>
(gR r18.2 ((some this)) 1 6).bind fun v20 =>
(acpR r18.2 clText "HookSwings$Text" v19 0 v20 0 4).bind fun w21 =>
some ((), w21)
theorem eX1_be {y : Fx (Unit × Wd)} (hk : OkF y RX1 cX1_be 2 4 103) (hR : RetM y rvV none) (this : Nat) (a0 : Option Nat) (w : Wd) : V y w [(0, va_rf (some this)), (1, va_rf a0)] [] 0 (mX1_be this a0 w) := by
  unfold mX1_be
  refine V_aload_n (pc := 0) hk dX1_be_0 1 rfl ?_
  refine g_X1_9 (pc := 1) hk dX1_be_1 (fun v1 => ?_)
  refine V_aload_n (pc := 4) hk dX1_be_4 0 rfl ?_
  refine g_X1_9 (pc := 5) hk dX1_be_5 (fun v2 => ?_)
  refine n_X1_44 (pc := 8) hk (fun r h => ctX1_copy (fl y) (fK y) hk.2.2.2.2.2.2.2.1 v1 v2 w r h) ⟨Nat.le_of_ble_eq_true rfl, Nat.le_of_ble_eq_true rfl⟩ (Nat.le_of_ble_eq_true rfl) dX1_be_8 (fun r3 => ?_)
  refine V_aload_n (pc := 11) hk dX1_be_11 1 rfl ?_
  refine g_X1_15 (pc := 12) hk dX1_be_12 (fun v4 => ?_)
  refine V_aload_n (pc := 15) hk dX1_be_15 0 rfl ?_
  refine g_X1_15 (pc := 16) hk dX1_be_16 (fun v5 => ?_)
  refine n_X1_44 (pc := 19) hk (fun r h => ctX1_copy (fl y) (fK y) hk.2.2.2.2.2.2.2.1 v4 v5 r3.2 r h) ⟨Nat.le_of_ble_eq_true rfl, Nat.le_of_ble_eq_true rfl⟩ (Nat.le_of_ble_eq_true rfl) dX1_be_19 (fun r6 => ?_)
  refine V_aload_n (pc := 22) hk dX1_be_22 1 rfl ?_
  refine g_X1_20 (pc := 23) hk dX1_be_23 (fun v7 => ?_)
  refine V_aload_n (pc := 26) hk dX1_be_26 0 rfl ?_
  refine g_X1_20 (pc := 27) hk dX1_be_27 (fun v8 => ?_)
  refine n_X1_48 (pc := 30) hk (fun r h => ctX1_copy_2 (fl y) (fK y) hk.2.2.2.2.2.2.2.1 v7 v8 r6.2 r h) ⟨Nat.le_of_ble_eq_true rfl, Nat.le_of_ble_eq_true rfl⟩ (Nat.le_of_ble_eq_true rfl) dX1_be_30 (fun r9 => ?_)
  refine V_aload_n (pc := 33) hk dX1_be_33 1 rfl ?_
  refine g_X1_23 (pc := 34) hk dX1_be_34 (fun v10 => ?_)
  refine V_aload_n (pc := 37) hk dX1_be_37 0 rfl ?_
  refine g_X1_23 (pc := 38) hk dX1_be_38 (fun v11 => ?_)
  refine n_X1_48 (pc := 41) hk (fun r h => ctX1_copy_2 (fl y) (fK y) hk.2.2.2.2.2.2.2.1 v10 v11 r9.2 r h) ⟨Nat.le_of_ble_eq_true rfl, Nat.le_of_ble_eq_true rfl⟩ (Nat.le_of_ble_eq_true rfl) dX1_be_41 (fun r12 => ?_)
  refine V_aload_n (pc := 44) hk dX1_be_44 1 rfl ?_
  refine g_X1_26 (pc := 45) hk dX1_be_45 (fun v13 => ?_)
  refine V_aload_n (pc := 48) hk dX1_be_48 0 rfl ?_
  refine g_X1_26 (pc := 49) hk dX1_be_49 (fun v14 => ?_)
  refine n_X1_48 (pc := 52) hk (fun r h => ctX1_copy_2 (fl y) (fK y) hk.2.2.2.2.2.2.2.1 v13 v14 r12.2 r h) ⟨Nat.le_of_ble_eq_true rfl, Nat.le_of_ble_eq_true rfl⟩ (Nat.le_of_ble_eq_true rfl) dX1_be_52 (fun r15 => ?_)
  refine V_aload_n (pc := 55) hk dX1_be_55 1 rfl ?_
  refine g_X1_29 (pc := 56) hk dX1_be_56 (fun v16 => ?_)
  refine V_aload_n (pc := 59) hk dX1_be_59 0 rfl ?_
  refine g_X1_29 (pc := 60) hk dX1_be_60 (fun v17 => ?_)
  refine n_X1_48 (pc := 63) hk (fun r h => ctX1_copy_2 (fl y) (fK y) hk.2.2.2.2.2.2.2.1 v16 v17 r15.2 r h) ⟨Nat.le_of_ble_eq_true rfl, Nat.le_of_ble_eq_true rfl⟩ (Nat.le_of_ble_eq_true rfl) dX1_be_63 (fun r18 => ?_)
  refine V_aload_n (pc := 66) hk dX1_be_66 1 rfl ?_
  refine g_X1_34 (pc := 67) hk dX1_be_67 (fun v19 => ?_)
  refine V_iconst (pc := 70) (v := 0) hk dX1_be_70 rfl ?_
  refine V_aload_n (pc := 71) hk dX1_be_71 0 rfl ?_
  refine g_X1_34 (pc := 72) hk dX1_be_72 (fun v20 => ?_)
  refine V_iconst (pc := 75) (v := 0) hk dX1_be_75 rfl ?_
  refine V_iconst (pc := 76) (v := 4) hk dX1_be_76 rfl ?_
  refine V_acpR (pc := 77) hk cst_Text (acpW hk q220 q222 q221 q132) ⟨Nat.le_of_ble_eq_true rfl, Nat.le_of_ble_eq_true rfl⟩ (Nat.le_of_ble_eq_true rfl) dX1_be_77 (fun w21 => ?_)
  exact V_return (pc := 80) hk hR rfl dX1_be_80
theorem ctX1_be (l : Launch) (K : Kx) (hI : Ini K) (b : Nat) (a0 : Option Nat) (w : Wd) : ∀ r, mX1_be b a0 w = some r → Ct l K 4 103 yX1_be (ws_ yX1_be cX1_be 2 none) [.ref b, va_rf a0] w (rvV r.1) r.2 := Ct_of rvV l K hI 4 103 [.ref b, va_rf a0] w (by decide) (lc0 := [(0, .ref b), (1, va_rf a0)]) (by simp [lv_args, rf_cat, cat_int, cat_long, cat_ref]) (lg_len _ _ (by simp [rf_cat, cat_int, cat_long, cat_ref])) (fun y hk hR _ _ hin => eX1_be hk hR b a0 w)
noncomputable def mX1_keeps_p52 (w : Wd) (l0 : Option Nat) : Option (Unit × Wd) :=
(gR w l0 1 1).bind fun v1 =>
(gR w l0 1 5).bind fun v2 =>
(gR w l0 1 0).bind fun v3 =>
(ia w v3 4).bind fun v4 =>
(aa w v2 v4).bind fun v5 =>
(cal w (mX1_copy v1 v5 w)).bind fun r6 =>
(gR r6.2 l0 1 0).bind fun v7 =>
(ia r6.2 v7 4).bind fun v8 =>
(ias r6.2 v7 4 (v8 + 1)).bind fun w9 =>
some ((), w9)
noncomputable def mX1_keeps_b13 (k13 : Wd → (Option Nat) → Int32 → Option (Unit × Wd)) (w : Wd) (l0 : Option Nat) (l1 : Int32) : Option (Unit × Wd) :=
if 30 ≤ l1 then (
(gR w l0 1 0).bind fun v1 =>
(ia w v1 4).bind fun v2 =>
(ias w v1 4 (v2 - 1)).bind fun w3 =>
mX1_keeps_p52 w3 l0)
else (
(gR w l0 1 5).bind fun v4 =>
(aa w v4 l1).bind fun v5 =>
(gR w l0 1 5).bind fun v6 =>
(aa w v6 (l1 - 1)).bind fun v7 =>
(cal w (mX1_copy v5 v7 w)).bind fun r8 =>
k13 r8.2 l0 (l1 + 1))
noncomputable def mX1_keeps_l13 : Nat → Wd → (Option Nat) → Int32 → Option (Unit × Wd)
  | 0, _, _, _ => none
  | n + 1, w, l0, l1 => mX1_keeps_b13 (mX1_keeps_l13 n) w l0 l1
noncomputable def mX1_keeps (this : Nat) (w : Wd) : Option (Unit × Wd) :=
(gR w ((some this)) 1 0).bind fun v1 =>
(ia w v1 4).bind fun v2 =>
if ¬ v2 = 30 then (
mX1_keeps_p52 w ((some this)))
else (
mX1_keeps_l13 FU w ((some this)) 1)
theorem eX1_keeps_p52 {y : Fx (Unit × Wd)} (hk : OkF y RX1 cX1_keeps 2 3 81) (hR : RetM y rvV none) (w : Wd) (l0 : Option Nat) : V y w [(0, va_rf l0)] [] 52 (mX1_keeps_p52 w l0) := by
  unfold mX1_keeps_p52
  refine V_aload_n (pc := 52) hk dX1_keeps_52 0 rfl ?_
  refine g_X1_15 (pc := 53) hk dX1_keeps_53 (fun v1 => ?_)
  refine V_aload_n (pc := 56) hk dX1_keeps_56 0 rfl ?_
  refine g_X1_29 (pc := 57) hk dX1_keeps_57 (fun v2 => ?_)
  refine V_aload_n (pc := 60) hk dX1_keeps_60 0 rfl ?_
  refine g_X1_9 (pc := 61) hk dX1_keeps_61 (fun v3 => ?_)
  refine V_iconst (pc := 64) (v := 4) hk dX1_keeps_64 rfl ?_
  refine V_iaload (pc := 65) hk dX1_keeps_65 (fun v4 => ?_)
  refine V_aaload (pc := 66) hk dX1_keeps_66 (fun v5 => ?_)
  refine n_X1_44 (pc := 67) hk (fun r h => ctX1_copy (fl y) (fK y) hk.2.2.2.2.2.2.2.1 v1 v5 w r h) ⟨Nat.le_of_ble_eq_true rfl, Nat.le_of_ble_eq_true rfl⟩ (Nat.le_of_ble_eq_true rfl) dX1_keeps_67 (fun r6 => ?_)
  refine V_aload_n (pc := 70) hk dX1_keeps_70 0 rfl ?_
  refine g_X1_9 (pc := 71) hk dX1_keeps_71 (fun v7 => ?_)
  refine V_iconst (pc := 74) (v := 4) hk dX1_keeps_74 rfl ?_
  refine V_dup2 (pc := 75) hk dX1_keeps_75 rfl (rf_cat _) ?_
  refine V_iaload (pc := 76) hk dX1_keeps_76 (fun v8 => ?_)
  refine V_iconst (pc := 77) (v := 1) hk dX1_keeps_77 rfl ?_
  refine V_iadd (pc := 78) hk dX1_keeps_78 ?_
  refine V_iastore (pc := 79) hk dX1_keeps_79 (fun w9 => ?_)
  exact V_return (pc := 80) hk hR rfl dX1_keeps_80
theorem eX1_keeps_b13 {y : Fx (Unit × Wd)} (hk : OkF y RX1 cX1_keeps 2 3 81) (hR : RetM y rvV none) {k13 : Wd → (Option Nat) → Int32 → Option (Unit × Wd)} (h13 : ∀ (w : Wd) (l0 : Option Nat) (l1 : Int32), V y w [(0, va_rf l0), (1, .int l1)] [] 13 (k13 w l0 l1)) (w : Wd) (l0 : Option Nat) (l1 : Int32) : V y w [(0, va_rf l0), (1, .int l1)] [] 13 (mX1_keeps_b13 k13 w l0 l1) := by
  unfold mX1_keeps_b13
  refine V_iload_n (pc := 13) hk dX1_keeps_13 1 rfl ?_
  refine V_bipush (pc := 14) (v := 30) hk dX1_keeps_14 rfl ?_
  refine V_icmp_ge (pc := 16) (tgt := 42) hk dX1_keeps_16 rfl ?_ ?_
  · refine V_aload_n (pc := 42) hk dX1_keeps_42 0 rfl ?_
    refine g_X1_9 (pc := 43) hk dX1_keeps_43 (fun v1 => ?_)
    refine V_iconst (pc := 46) (v := 4) hk dX1_keeps_46 rfl ?_
    refine V_dup2 (pc := 47) hk dX1_keeps_47 rfl (rf_cat _) ?_
    refine V_iaload (pc := 48) hk dX1_keeps_48 (fun v2 => ?_)
    refine V_iconst (pc := 49) (v := 1) hk dX1_keeps_49 rfl ?_
    refine V_isub (pc := 50) hk dX1_keeps_50 ?_
    refine V_iastore (pc := 51) hk dX1_keeps_51 (fun w3 => ?_)
    refine V_pick (lc' := [(0, va_rf l0)]) [0] rfl ?_
    exact eX1_keeps_p52 hk hR w3 l0
  · refine V_aload_n (pc := 19) hk dX1_keeps_19 0 rfl ?_
    refine g_X1_29 (pc := 20) hk dX1_keeps_20 (fun v4 => ?_)
    refine V_iload_n (pc := 23) hk dX1_keeps_23 1 rfl ?_
    refine V_aaload (pc := 24) hk dX1_keeps_24 (fun v5 => ?_)
    refine V_aload_n (pc := 25) hk dX1_keeps_25 0 rfl ?_
    refine g_X1_29 (pc := 26) hk dX1_keeps_26 (fun v6 => ?_)
    refine V_iload_n (pc := 29) hk dX1_keeps_29 1 rfl ?_
    refine V_iconst (pc := 30) (v := 1) hk dX1_keeps_30 rfl ?_
    refine V_isub (pc := 31) hk dX1_keeps_31 ?_
    refine V_aaload (pc := 32) hk dX1_keeps_32 (fun v7 => ?_)
    refine n_X1_44 (pc := 33) hk (fun r h => ctX1_copy (fl y) (fK y) hk.2.2.2.2.2.2.2.1 v5 v7 w r h) ⟨Nat.le_of_ble_eq_true rfl, Nat.le_of_ble_eq_true rfl⟩ (Nat.le_of_ble_eq_true rfl) dX1_keeps_33 (fun r8 => ?_)
    refine V_iinc (pc := 36) (v := 1) (lc' := [(1, .int (l1 + 1)), (0, va_rf l0)]) hk dX1_keeps_36 1 rfl rfl (Nat.le_of_ble_eq_true rfl) (by simp [rf_cat, cat_int, cat_long, cat_ref]) ?_
    refine V_goto (pc := 39) (tgt := 13) hk dX1_keeps_39 rfl ?_
    refine V_pick (lc' := [(0, va_rf l0), (1, .int (l1 + 1))]) [1, 0] rfl ?_
    exact h13 r8.2 l0 (l1 + 1)
theorem eX1_keeps_l13 {y : Fx (Unit × Wd)} (hk : OkF y RX1 cX1_keeps 2 3 81) (hR : RetM y rvV none) : ∀ (n : Nat) (w : Wd) (l0 : Option Nat) (l1 : Int32), V y w [(0, va_rf l0), (1, .int l1)] [] 13 (mX1_keeps_l13 n w l0 l1) := by
  intro n
  induction n with
  | zero => intro w l0 l1; exact V_none
  | succ n ih => intro w l0 l1; exact eX1_keeps_b13 hk hR ih w l0 l1
theorem eX1_keeps {y : Fx (Unit × Wd)} (hk : OkF y RX1 cX1_keeps 2 3 81) (hR : RetM y rvV none) (this : Nat) (w : Wd) : V y w [(0, va_rf (some this))] [] 0 (mX1_keeps this w) := by
  unfold mX1_keeps
  refine V_aload_n (pc := 0) hk dX1_keeps_0 0 rfl ?_
  refine g_X1_9 (pc := 1) hk dX1_keeps_1 (fun v1 => ?_)
  refine V_iconst (pc := 4) (v := 4) hk dX1_keeps_4 rfl ?_
  refine V_iaload (pc := 5) hk dX1_keeps_5 (fun v2 => ?_)
  refine V_bipush (pc := 6) (v := 30) hk dX1_keeps_6 rfl ?_
  refine V_icmp_ne (pc := 8) (tgt := 52) hk dX1_keeps_8 rfl ?_ ?_
  · exact eX1_keeps_p52 hk hR w ((some this))
  · refine V_iconst (pc := 11) (v := 1) hk dX1_keeps_11 rfl ?_
    refine V_istore_n (pc := 12) (lc' := [(1, .int 1), (0, va_rf ((some this)))]) (i := 1) hk dX1_keeps_12 rfl (Nat.le_of_ble_eq_true rfl) (by simp [rf_cat, cat_int, cat_long, cat_ref]) ?_
    refine V_pick (lc' := [(0, va_rf ((some this))), (1, .int 1)]) [1, 0] rfl ?_
    exact eX1_keeps_l13 hk hR FU w ((some this)) 1
theorem ctX1_keeps (l : Launch) (K : Kx) (hI : Ini K) (b : Nat) (w : Wd) : ∀ r, mX1_keeps b w = some r → Ct l K 3 81 yX1_keeps (ws_ yX1_keeps cX1_keeps 2 none) [.ref b] w (rvV r.1) r.2 := Ct_of rvV l K hI 3 81 [.ref b] w (by decide) (lc0 := [(0, .ref b)]) rfl (Nat.le_of_ble_eq_true rfl) (fun y hk hR _ _ hin => eX1_keeps hk hR b w)
noncomputable def mX10_init (this : Nat) (a0 : Int32) (a1 : Option Nat) (a2 : Option Nat) (w : Wd) : Option (Unit × Wd) :=
(((some this))).bind fun b2 => (cal w (mJ10_init b2 w)).bind fun r1 =>
(pf r1.2 ((some this)) 10 0 (.int a0)).bind fun w3 =>
(pf w3 ((some this)) 10 1 (va_rf a1)).bind fun w4 =>
(pf w4 ((some this)) 10 2 (va_rf a2)).bind fun w5 =>
some ((), w5)
theorem eX10_init {y : Fx (Unit × Wd)} (hk : OkF y RX10 cX10_init 4 3 80) (hR : RetM y rvV none) (hin : (fmeth y).name = "<init>") (this : Nat) (a0 : Int32) (a1 : Option Nat) (a2 : Option Nat) (w : Wd) : V y w [(0, va_rf (some this)), (1, .int a0), (2, va_rf a1), (3, va_rf a2)] [] 0 (mX10_init this a0 a1 a2 w) := by
  unfold mX10_init
  refine V_aload_n (pc := 0) hk dX10_init_0 0 rfl ?_
  refine n_X10_1 (pc := 1) hk (fun b r h => ctJ10_init (fl y) (fK y) hk.2.2.2.2.2.2.2.1 b w r h) ⟨Nat.le_of_ble_eq_true rfl, Nat.le_of_ble_eq_true rfl⟩ (Nat.le_of_ble_eq_true rfl) dX10_init_1 (fun r1 => ?_)
  refine V_aload_n (pc := 4) hk dX10_init_4 0 rfl ?_
  refine V_iload_n (pc := 5) hk dX10_init_5 1 rfl ?_
  refine p_X10_7 (pc := 6) hk hin dX10_init_6 (fun w3 => ?_)
  refine V_aload_n (pc := 9) hk dX10_init_9 0 rfl ?_
  refine V_aload_n (pc := 10) hk dX10_init_10 2 rfl ?_
  refine p_X10_13 (pc := 11) hk hin dX10_init_11 (fun w4 => ?_)
  refine V_aload_n (pc := 14) hk dX10_init_14 0 rfl ?_
  refine V_aload_n (pc := 15) hk dX10_init_15 3 rfl ?_
  refine p_X10_17 (pc := 16) hk hin dX10_init_16 (fun w5 => ?_)
  exact V_return (pc := 19) hk hR rfl dX10_init_19
theorem ctX10_init (l : Launch) (K : Kx) (hI : Ini K) (b : Nat) (a0 : Int32) (a1 : Option Nat) (a2 : Option Nat) (w : Wd) : ∀ r, mX10_init b a0 a1 a2 w = some r → Ct l K 3 80 yX10_init (ws_ yX10_init cX10_init 4 none) [.ref b, .int a0, va_rf a1, va_rf a2] w (rvV r.1) r.2 := Ct_of rvV l K hI 3 80 [.ref b, .int a0, va_rf a1, va_rf a2] w (by decide) (lc0 := [(0, .ref b), (1, .int a0), (2, va_rf a1), (3, va_rf a2)]) (by simp [lv_args, rf_cat, cat_int, cat_long, cat_ref]) (lg_len _ _ (by simp [rf_cat, cat_int, cat_long, cat_ref])) (fun y hk hR _ _ hin => eX10_init hk hR hin b a0 a1 a2 w)
noncomputable def mX11_init (this : Nat) (a0 : Int32) (a1 : Option Nat) (w : Wd) : Option (Unit × Wd) :=
(((some this))).bind fun b2 => (cal w (mJ10_init b2 w)).bind fun r1 =>
(zok a0).bind fun _ => (pf r1.2 ((some this)) 11 0 (.int a0)).bind fun w3 =>
(pf w3 ((some this)) 11 1 (va_rf a1)).bind fun w4 =>
some ((), w4)
theorem eX11_init {y : Fx (Unit × Wd)} (hk : OkF y RX11 cX11_init 3 3 80) (hR : RetM y rvV none) (hin : (fmeth y).name = "<init>") (this : Nat) (a0 : Int32) (a1 : Option Nat) (w : Wd) : V y w [(0, va_rf (some this)), (1, .int a0), (2, va_rf a1)] [] 0 (mX11_init this a0 a1 w) := by
  unfold mX11_init
  refine V_aload_n (pc := 0) hk dX11_init_0 0 rfl ?_
  refine n_X11_1 (pc := 1) hk (fun b r h => ctJ10_init (fl y) (fK y) hk.2.2.2.2.2.2.2.1 b w r h) ⟨Nat.le_of_ble_eq_true rfl, Nat.le_of_ble_eq_true rfl⟩ (Nat.le_of_ble_eq_true rfl) dX11_init_1 (fun r1 => ?_)
  refine V_aload_n (pc := 4) hk dX11_init_4 0 rfl ?_
  refine V_iload_n (pc := 5) hk dX11_init_5 1 rfl ?_
  refine p_X11_7 (pc := 6) hk hin dX11_init_6 (fun w3 => ?_)
  refine V_aload_n (pc := 9) hk dX11_init_9 0 rfl ?_
  refine V_aload_n (pc := 10) hk dX11_init_10 2 rfl ?_
  refine p_X11_13 (pc := 11) hk hin dX11_init_11 (fun w4 => ?_)
  exact V_return (pc := 14) hk hR rfl dX11_init_14
theorem ctX11_init (l : Launch) (K : Kx) (hI : Ini K) (b : Nat) (a0 : Int32) (a1 : Option Nat) (w : Wd) : ∀ r, mX11_init b a0 a1 w = some r → Ct l K 3 80 yX11_init (ws_ yX11_init cX11_init 3 none) [.ref b, .int a0, va_rf a1] w (rvV r.1) r.2 := Ct_of rvV l K hI 3 80 [.ref b, .int a0, va_rf a1] w (by decide) (lc0 := [(0, .ref b), (1, .int a0), (2, va_rf a1)]) (by simp [lv_args, rf_cat, cat_int, cat_long, cat_ref]) (lg_len _ _ (by simp [rf_cat, cat_int, cat_long, cat_ref])) (fun y hk hR _ _ hin => eX11_init hk hR hin b a0 a1 w)
noncomputable def mX12_init (this : Nat) (a0 : Option Nat) (a1 : Option Nat) (a2 : Option Nat) (w : Wd) : Option (Unit × Wd) :=
(((some this))).bind fun b2 => (cal w (mJ10_init b2 w)).bind fun r1 =>
(pf r1.2 ((some this)) 12 0 (va_rf a0)).bind fun w3 =>
(pf w3 ((some this)) 12 1 (va_rf a1)).bind fun w4 =>
(pf w4 ((some this)) 12 2 (va_rf a2)).bind fun w5 =>
some ((), w5)
theorem eX12_init {y : Fx (Unit × Wd)} (hk : OkF y RX12 cX12_init 4 3 80) (hR : RetM y rvV none) (hin : (fmeth y).name = "<init>") (this : Nat) (a0 : Option Nat) (a1 : Option Nat) (a2 : Option Nat) (w : Wd) : V y w [(0, va_rf (some this)), (1, va_rf a0), (2, va_rf a1), (3, va_rf a2)] [] 0 (mX12_init this a0 a1 a2 w) := by
  unfold mX12_init
  refine V_aload_n (pc := 0) hk dX12_init_0 0 rfl ?_
  refine n_X12_1 (pc := 1) hk (fun b r h => ctJ10_init (fl y) (fK y) hk.2.2.2.2.2.2.2.1 b w r h) ⟨Nat.le_of_ble_eq_true rfl, Nat.le_of_ble_eq_true rfl⟩ (Nat.le_of_ble_eq_true rfl) dX12_init_1 (fun r1 => ?_)
  refine V_aload_n (pc := 4) hk dX12_init_4 0 rfl ?_
  refine V_aload_n (pc := 5) hk dX12_init_5 1 rfl ?_
  refine p_X12_7 (pc := 6) hk hin dX12_init_6 (fun w3 => ?_)
  refine V_aload_n (pc := 9) hk dX12_init_9 0 rfl ?_
  refine V_aload_n (pc := 10) hk dX12_init_10 2 rfl ?_
  refine p_X12_13 (pc := 11) hk hin dX12_init_11 (fun w4 => ?_)
  refine V_aload_n (pc := 14) hk dX12_init_14 0 rfl ?_
  refine V_aload_n (pc := 15) hk dX12_init_15 3 rfl ?_
  refine p_X12_17 (pc := 16) hk hin dX12_init_16 (fun w5 => ?_)
  exact V_return (pc := 19) hk hR rfl dX12_init_19
theorem ctX12_init (l : Launch) (K : Kx) (hI : Ini K) (b : Nat) (a0 : Option Nat) (a1 : Option Nat) (a2 : Option Nat) (w : Wd) : ∀ r, mX12_init b a0 a1 a2 w = some r → Ct l K 3 80 yX12_init (ws_ yX12_init cX12_init 4 none) [.ref b, va_rf a0, va_rf a1, va_rf a2] w (rvV r.1) r.2 := Ct_of rvV l K hI 3 80 [.ref b, va_rf a0, va_rf a1, va_rf a2] w (by decide) (lc0 := [(0, .ref b), (1, va_rf a0), (2, va_rf a1), (3, va_rf a2)]) (by simp [lv_args, rf_cat, cat_int, cat_long, cat_ref]) (lg_len _ _ (by simp [rf_cat, cat_int, cat_long, cat_ref])) (fun y hk hR _ _ hin => eX12_init hk hR hin b a0 a1 a2 w)
noncomputable def mX13_init (this : Nat) (a0 : Option Nat) (w : Wd) : Option (Unit × Wd) :=
(((some this))).bind fun b2 => (cal w (mJ10_init b2 w)).bind fun r1 =>
(pf r1.2 ((some this)) 13 0 (va_rf a0)).bind fun w3 =>
some ((), w3)
theorem eX13_init {y : Fx (Unit × Wd)} (hk : OkF y RX13 cX13_init 2 3 80) (hR : RetM y rvV none) (hin : (fmeth y).name = "<init>") (this : Nat) (a0 : Option Nat) (w : Wd) : V y w [(0, va_rf (some this)), (1, va_rf a0)] [] 0 (mX13_init this a0 w) := by
  unfold mX13_init
  refine V_aload_n (pc := 0) hk dX13_init_0 0 rfl ?_
  refine n_X13_1 (pc := 1) hk (fun b r h => ctJ10_init (fl y) (fK y) hk.2.2.2.2.2.2.2.1 b w r h) ⟨Nat.le_of_ble_eq_true rfl, Nat.le_of_ble_eq_true rfl⟩ (Nat.le_of_ble_eq_true rfl) dX13_init_1 (fun r1 => ?_)
  refine V_aload_n (pc := 4) hk dX13_init_4 0 rfl ?_
  refine V_aload_n (pc := 5) hk dX13_init_5 1 rfl ?_
  refine p_X13_7 (pc := 6) hk hin dX13_init_6 (fun w3 => ?_)
  exact V_return (pc := 9) hk hR rfl dX13_init_9
theorem ctX13_init (l : Launch) (K : Kx) (hI : Ini K) (b : Nat) (a0 : Option Nat) (w : Wd) : ∀ r, mX13_init b a0 w = some r → Ct l K 3 80 yX13_init (ws_ yX13_init cX13_init 2 none) [.ref b, va_rf a0] w (rvV r.1) r.2 := Ct_of rvV l K hI 3 80 [.ref b, va_rf a0] w (by decide) (lc0 := [(0, .ref b), (1, va_rf a0)]) (by simp [lv_args, rf_cat, cat_int, cat_long, cat_ref]) (lg_len _ _ (by simp [rf_cat, cat_int, cat_long, cat_ref])) (fun y hk hR _ _ hin => eX13_init hk hR hin b a0 w)
noncomputable def mX14_init (this : Nat) (a0 : Option Nat) (w : Wd) : Option (Unit × Wd) :=
(((some this))).bind fun b2 => (cal w (mJ10_init b2 w)).bind fun r1 =>
(pf r1.2 ((some this)) 14 0 (va_rf a0)).bind fun w3 =>
some ((), w3)
theorem eX14_init {y : Fx (Unit × Wd)} (hk : OkF y RX14 cX14_init 2 3 80) (hR : RetM y rvV none) (hin : (fmeth y).name = "<init>") (this : Nat) (a0 : Option Nat) (w : Wd) : V y w [(0, va_rf (some this)), (1, va_rf a0)] [] 0 (mX14_init this a0 w) := by
  unfold mX14_init
  refine V_aload_n (pc := 0) hk dX14_init_0 0 rfl ?_
  refine n_X14_1 (pc := 1) hk (fun b r h => ctJ10_init (fl y) (fK y) hk.2.2.2.2.2.2.2.1 b w r h) ⟨Nat.le_of_ble_eq_true rfl, Nat.le_of_ble_eq_true rfl⟩ (Nat.le_of_ble_eq_true rfl) dX14_init_1 (fun r1 => ?_)
  refine V_aload_n (pc := 4) hk dX14_init_4 0 rfl ?_
  refine V_aload_n (pc := 5) hk dX14_init_5 1 rfl ?_
  refine p_X14_7 (pc := 6) hk hin dX14_init_6 (fun w3 => ?_)
  exact V_return (pc := 9) hk hR rfl dX14_init_9
theorem ctX14_init (l : Launch) (K : Kx) (hI : Ini K) (b : Nat) (a0 : Option Nat) (w : Wd) : ∀ r, mX14_init b a0 w = some r → Ct l K 3 80 yX14_init (ws_ yX14_init cX14_init 2 none) [.ref b, va_rf a0] w (rvV r.1) r.2 := Ct_of rvV l K hI 3 80 [.ref b, va_rf a0] w (by decide) (lc0 := [(0, .ref b), (1, va_rf a0)]) (by simp [lv_args, rf_cat, cat_int, cat_long, cat_ref]) (lg_len _ _ (by simp [rf_cat, cat_int, cat_long, cat_ref])) (fun y hk hR _ _ hin => eX14_init hk hR hin b a0 w)
noncomputable def mX15_init (this : Nat) (a0 : Int32) (a1 : Int32) (a2 : Int32) (a3 : Int32) (a4 : Int32) (a5 : Int32) (a6 : Int32) (w : Wd) : Option (Unit × Wd) :=
(((some this))).bind fun b2 => (cal w (mJ10_init b2 w)).bind fun r1 =>
(pf r1.2 ((some this)) 15 0 (.int a0)).bind fun w3 =>
(pf w3 ((some this)) 15 1 (.int a1)).bind fun w4 =>
(pf w4 ((some this)) 15 2 (.int a2)).bind fun w5 =>
(pf w5 ((some this)) 15 3 (.int a3)).bind fun w6 =>
(pf w6 ((some this)) 15 4 (.int a4)).bind fun w7 =>
(pf w7 ((some this)) 15 5 (.int a5)).bind fun w8 =>
(pf w8 ((some this)) 15 6 (.int a6)).bind fun w9 =>
some ((), w9)
theorem eX15_init {y : Fx (Unit × Wd)} (hk : OkF y RX15 cX15_init 8 3 80) (hR : RetM y rvV none) (hin : (fmeth y).name = "<init>") (this : Nat) (a0 : Int32) (a1 : Int32) (a2 : Int32) (a3 : Int32) (a4 : Int32) (a5 : Int32) (a6 : Int32) (w : Wd) : V y w [(0, va_rf (some this)), (1, .int a0), (2, .int a1), (3, .int a2), (4, .int a3), (5, .int a4), (6, .int a5), (7, .int a6)] [] 0 (mX15_init this a0 a1 a2 a3 a4 a5 a6 w) := by
  unfold mX15_init
  refine V_aload_n (pc := 0) hk dX15_init_0 0 rfl ?_
  refine n_X15_1 (pc := 1) hk (fun b r h => ctJ10_init (fl y) (fK y) hk.2.2.2.2.2.2.2.1 b w r h) ⟨Nat.le_of_ble_eq_true rfl, Nat.le_of_ble_eq_true rfl⟩ (Nat.le_of_ble_eq_true rfl) dX15_init_1 (fun r1 => ?_)
  refine V_aload_n (pc := 4) hk dX15_init_4 0 rfl ?_
  refine V_iload_n (pc := 5) hk dX15_init_5 1 rfl ?_
  refine p_X15_7 (pc := 6) hk hin dX15_init_6 (fun w3 => ?_)
  refine V_aload_n (pc := 9) hk dX15_init_9 0 rfl ?_
  refine V_iload_n (pc := 10) hk dX15_init_10 2 rfl ?_
  refine p_X15_13 (pc := 11) hk hin dX15_init_11 (fun w4 => ?_)
  refine V_aload_n (pc := 14) hk dX15_init_14 0 rfl ?_
  refine V_iload_n (pc := 15) hk dX15_init_15 3 rfl ?_
  refine p_X15_16 (pc := 16) hk hin dX15_init_16 (fun w5 => ?_)
  refine V_aload_n (pc := 19) hk dX15_init_19 0 rfl ?_
  refine V_iload (pc := 20) hk dX15_init_20 4 rfl ?_
  refine p_X15_19 (pc := 22) hk hin dX15_init_22 (fun w6 => ?_)
  refine V_aload_n (pc := 25) hk dX15_init_25 0 rfl ?_
  refine V_iload (pc := 26) hk dX15_init_26 5 rfl ?_
  refine p_X15_22 (pc := 28) hk hin dX15_init_28 (fun w7 => ?_)
  refine V_aload_n (pc := 31) hk dX15_init_31 0 rfl ?_
  refine V_iload (pc := 32) hk dX15_init_32 6 rfl ?_
  refine p_X15_25 (pc := 34) hk hin dX15_init_34 (fun w8 => ?_)
  refine V_aload_n (pc := 37) hk dX15_init_37 0 rfl ?_
  refine V_iload (pc := 38) hk dX15_init_38 7 rfl ?_
  refine p_X15_28 (pc := 40) hk hin dX15_init_40 (fun w9 => ?_)
  exact V_return (pc := 43) hk hR rfl dX15_init_43
theorem ctX15_init (l : Launch) (K : Kx) (hI : Ini K) (b : Nat) (a0 : Int32) (a1 : Int32) (a2 : Int32) (a3 : Int32) (a4 : Int32) (a5 : Int32) (a6 : Int32) (w : Wd) : ∀ r, mX15_init b a0 a1 a2 a3 a4 a5 a6 w = some r → Ct l K 3 80 yX15_init (ws_ yX15_init cX15_init 8 none) [.ref b, .int a0, .int a1, .int a2, .int a3, .int a4, .int a5, .int a6] w (rvV r.1) r.2 := Ct_of rvV l K hI 3 80 [.ref b, .int a0, .int a1, .int a2, .int a3, .int a4, .int a5, .int a6] w (by decide) (lc0 := [(0, .ref b), (1, .int a0), (2, .int a1), (3, .int a2), (4, .int a3), (5, .int a4), (6, .int a5), (7, .int a6)]) rfl (Nat.le_of_ble_eq_true rfl) (fun y hk hR _ _ hin => eX15_init hk hR hin b a0 a1 a2 a3 a4 a5 a6 w)
noncomputable def mX15_sort (this : Nat) (w : Wd) : Option (Int32 × Wd) :=
(gI w ((some this)) 15 0).bind fun v1 =>
some (v1, w)
theorem eX15_sort {y : Fx (Int32 × Wd)} (hk : OkF y RX15 cX15_sort 1 2 60) (hR : RetM y rvI (some (.int))) (this : Nat) (w : Wd) : V y w [(0, va_rf (some this))] [] 0 (mX15_sort this w) := by
  unfold mX15_sort
  refine V_aload_n (pc := 0) hk dX15_sort_0 0 rfl ?_
  refine g_X15_7 (pc := 1) hk dX15_sort_1 (fun v1 => ?_)
  exact V_ireturn (pc := 4) hk hR rfl dX15_sort_4
theorem ctX15_sort (l : Launch) (K : Kx) (hI : Ini K) (b : Nat) (w : Wd) : ∀ r, mX15_sort b w = some r → Ct l K 2 60 yX15_sort (ws_ yX15_sort cX15_sort 1 (some (.int))) [.ref b] w (rvI r.1) r.2 := Ct_of rvI l K hI 2 60 [.ref b] w (by decide) (lc0 := [(0, .ref b)]) rfl (Nat.le_of_ble_eq_true rfl) (fun y hk hR _ _ hin => eX15_sort hk hR b w)
noncomputable def mX15_a (this : Nat) (w : Wd) : Option (Int32 × Wd) :=
(gI w ((some this)) 15 1).bind fun v1 =>
some (v1, w)
theorem eX15_a {y : Fx (Int32 × Wd)} (hk : OkF y RX15 cX15_a 1 2 60) (hR : RetM y rvI (some (.int))) (this : Nat) (w : Wd) : V y w [(0, va_rf (some this))] [] 0 (mX15_a this w) := by
  unfold mX15_a
  refine V_aload_n (pc := 0) hk dX15_a_0 0 rfl ?_
  refine g_X15_13 (pc := 1) hk dX15_a_1 (fun v1 => ?_)
  exact V_ireturn (pc := 4) hk hR rfl dX15_a_4
theorem ctX15_a (l : Launch) (K : Kx) (hI : Ini K) (b : Nat) (w : Wd) : ∀ r, mX15_a b w = some r → Ct l K 2 60 yX15_a (ws_ yX15_a cX15_a 1 (some (.int))) [.ref b] w (rvI r.1) r.2 := Ct_of rvI l K hI 2 60 [.ref b] w (by decide) (lc0 := [(0, .ref b)]) rfl (Nat.le_of_ble_eq_true rfl) (fun y hk hR _ _ hin => eX15_a hk hR b w)
noncomputable def mX15_b (this : Nat) (w : Wd) : Option (Int32 × Wd) :=
(gI w ((some this)) 15 2).bind fun v1 =>
some (v1, w)
theorem eX15_b {y : Fx (Int32 × Wd)} (hk : OkF y RX15 cX15_b 1 2 60) (hR : RetM y rvI (some (.int))) (this : Nat) (w : Wd) : V y w [(0, va_rf (some this))] [] 0 (mX15_b this w) := by
  unfold mX15_b
  refine V_aload_n (pc := 0) hk dX15_b_0 0 rfl ?_
  refine g_X15_16 (pc := 1) hk dX15_b_1 (fun v1 => ?_)
  exact V_ireturn (pc := 4) hk hR rfl dX15_b_4
theorem ctX15_b (l : Launch) (K : Kx) (hI : Ini K) (b : Nat) (w : Wd) : ∀ r, mX15_b b w = some r → Ct l K 2 60 yX15_b (ws_ yX15_b cX15_b 1 (some (.int))) [.ref b] w (rvI r.1) r.2 := Ct_of rvI l K hI 2 60 [.ref b] w (by decide) (lc0 := [(0, .ref b)]) rfl (Nat.le_of_ble_eq_true rfl) (fun y hk hR _ _ hin => eX15_b hk hR b w)
noncomputable def mX15_c (this : Nat) (w : Wd) : Option (Int32 × Wd) :=
(gI w ((some this)) 15 3).bind fun v1 =>
some (v1, w)
theorem eX15_c {y : Fx (Int32 × Wd)} (hk : OkF y RX15 cX15_c 1 2 60) (hR : RetM y rvI (some (.int))) (this : Nat) (w : Wd) : V y w [(0, va_rf (some this))] [] 0 (mX15_c this w) := by
  unfold mX15_c
  refine V_aload_n (pc := 0) hk dX15_c_0 0 rfl ?_
  refine g_X15_19 (pc := 1) hk dX15_c_1 (fun v1 => ?_)
  exact V_ireturn (pc := 4) hk hR rfl dX15_c_4
theorem ctX15_c (l : Launch) (K : Kx) (hI : Ini K) (b : Nat) (w : Wd) : ∀ r, mX15_c b w = some r → Ct l K 2 60 yX15_c (ws_ yX15_c cX15_c 1 (some (.int))) [.ref b] w (rvI r.1) r.2 := Ct_of rvI l K hI 2 60 [.ref b] w (by decide) (lc0 := [(0, .ref b)]) rfl (Nat.le_of_ble_eq_true rfl) (fun y hk hR _ _ hin => eX15_c hk hR b w)
noncomputable def mX15_d (this : Nat) (w : Wd) : Option (Int32 × Wd) :=
(gI w ((some this)) 15 4).bind fun v1 =>
some (v1, w)
theorem eX15_d {y : Fx (Int32 × Wd)} (hk : OkF y RX15 cX15_d 1 2 60) (hR : RetM y rvI (some (.int))) (this : Nat) (w : Wd) : V y w [(0, va_rf (some this))] [] 0 (mX15_d this w) := by
  unfold mX15_d
  refine V_aload_n (pc := 0) hk dX15_d_0 0 rfl ?_
  refine g_X15_22 (pc := 1) hk dX15_d_1 (fun v1 => ?_)
  exact V_ireturn (pc := 4) hk hR rfl dX15_d_4
theorem ctX15_d (l : Launch) (K : Kx) (hI : Ini K) (b : Nat) (w : Wd) : ∀ r, mX15_d b w = some r → Ct l K 2 60 yX15_d (ws_ yX15_d cX15_d 1 (some (.int))) [.ref b] w (rvI r.1) r.2 := Ct_of rvI l K hI 2 60 [.ref b] w (by decide) (lc0 := [(0, .ref b)]) rfl (Nat.le_of_ble_eq_true rfl) (fun y hk hR _ _ hin => eX15_d hk hR b w)
noncomputable def mX15_e (this : Nat) (w : Wd) : Option (Int32 × Wd) :=
(gI w ((some this)) 15 5).bind fun v1 =>
some (v1, w)
theorem eX15_e {y : Fx (Int32 × Wd)} (hk : OkF y RX15 cX15_e 1 2 60) (hR : RetM y rvI (some (.int))) (this : Nat) (w : Wd) : V y w [(0, va_rf (some this))] [] 0 (mX15_e this w) := by
  unfold mX15_e
  refine V_aload_n (pc := 0) hk dX15_e_0 0 rfl ?_
  refine g_X15_25 (pc := 1) hk dX15_e_1 (fun v1 => ?_)
  exact V_ireturn (pc := 4) hk hR rfl dX15_e_4
theorem ctX15_e (l : Launch) (K : Kx) (hI : Ini K) (b : Nat) (w : Wd) : ∀ r, mX15_e b w = some r → Ct l K 2 60 yX15_e (ws_ yX15_e cX15_e 1 (some (.int))) [.ref b] w (rvI r.1) r.2 := Ct_of rvI l K hI 2 60 [.ref b] w (by decide) (lc0 := [(0, .ref b)]) rfl (Nat.le_of_ble_eq_true rfl) (fun y hk hR _ _ hin => eX15_e hk hR b w)
noncomputable def mX15_number (this : Nat) (w : Wd) : Option (Int32 × Wd) :=
(gI w ((some this)) 15 6).bind fun v1 =>
some (v1, w)
theorem eX15_number {y : Fx (Int32 × Wd)} (hk : OkF y RX15 cX15_number 1 2 60) (hR : RetM y rvI (some (.int))) (this : Nat) (w : Wd) : V y w [(0, va_rf (some this))] [] 0 (mX15_number this w) := by
  unfold mX15_number
  refine V_aload_n (pc := 0) hk dX15_number_0 0 rfl ?_
  refine g_X15_28 (pc := 1) hk dX15_number_1 (fun v1 => ?_)
  exact V_ireturn (pc := 4) hk hR rfl dX15_number_4
theorem ctX15_number (l : Launch) (K : Kx) (hI : Ini K) (b : Nat) (w : Wd) : ∀ r, mX15_number b w = some r → Ct l K 2 60 yX15_number (ws_ yX15_number cX15_number 1 (some (.int))) [.ref b] w (rvI r.1) r.2 := Ct_of rvI l K hI 2 60 [.ref b] w (by decide) (lc0 := [(0, .ref b)]) rfl (Nat.le_of_ble_eq_true rfl) (fun y hk hR _ _ hin => eX15_number hk hR b w)
noncomputable def mX4_init (this : Nat) (w : Wd) : Option (Unit × Wd) :=
(((some this))).bind fun b1 =>
(nchk 5).bind fun n2 => (some (wnew w (.inl (.object "HookSwings$Sum", n2, .inr (.inr (.inr (.inr (fun _ => none)))))) n2)).bind fun (w3 : Wd) =>
(pf w3 ((some this)) 4 0 (va_rf ((some (wnx w))))).bind fun w4 =>
(some (wnew w4 (.inr (16, df9_J2)) 3)).bind fun (w5 : Wd) =>
(((some (wnx w4)))).bind fun b7 => (cal w5 (mJ2_init b7 w5)).bind fun r6 =>
(pf r6.2 ((some this)) 4 2 (va_rf ((some (wnx w4))))).bind fun w8 =>
some ((), w8)
theorem eX4_init {y : Fx (Unit × Wd)} (hk : OkF y RX4 cX4_init 1 5 120) (hR : RetM y rvV none) (hin : (fmeth y).name = "<init>") (this : Nat) (w : Wd) : V y w [(0, va_rf (some this))] [] 0 (mX4_init this w) := by
  unfold mX4_init
  refine V_aload_n (pc := 0) hk dX4_init_0 0 rfl ?_
  refine V_objInit (pc := 1) hk q363 q170 q171 ⟨Nat.le_of_ble_eq_true rfl, Nat.le_of_ble_eq_true rfl⟩ (Nat.le_of_ble_eq_true rfl) dX4_init_1 (fun b1 => ?_)
  refine V_aload_n (pc := 4) hk dX4_init_4 0 rfl ?_
  refine V_iconst (pc := 5) (v := 5) hk dX4_init_5 rfl ?_
  refine V_anewA (pc := 6) (C := "HookSwings$Sum") hk (by decide) q364 q365 dX4_init_6 (fun n2 => ?_)
  refine V_nmW (fun w3 => ?_)
  refine p_X4_9 (pc := 9) hk hin dX4_init_9 (fun w4 => ?_)
  refine V_aload_n (pc := 12) hk dX4_init_12 0 rfl ?_
  refine o_X4_15 (pc := 13) hk dX4_init_13 ?_
  refine V_nmW (fun w5 => ?_)
  refine V_dup (pc := 16) hk dX4_init_16 (rf_cat _) ?_
  refine n_X4_17 (pc := 17) hk (fun b r h => ctJ2_init (fl y) (fK y) hk.2.2.2.2.2.2.2.1 b w5 r h) ⟨Nat.le_of_ble_eq_true rfl, Nat.le_of_ble_eq_true rfl⟩ (by simp [rf_cat, cat_int, cat_long, cat_ref]) dX4_init_17 (fun r6 => ?_)
  refine p_X4_18 (pc := 20) hk hin dX4_init_20 (fun w8 => ?_)
  exact V_return (pc := 23) hk hR rfl dX4_init_23
theorem ctX4_init (l : Launch) (K : Kx) (hI : Ini K) (b : Nat) (w : Wd) : ∀ r, mX4_init b w = some r → Ct l K 5 120 yX4_init (ws_ yX4_init cX4_init 1 none) [.ref b] w (rvV r.1) r.2 := Ct_of rvV l K hI 5 120 [.ref b] w (by decide) (lc0 := [(0, .ref b)]) rfl (Nat.le_of_ble_eq_true rfl) (fun y hk hR _ _ hin => eX4_init hk hR hin b w)
noncomputable def mX6_init (this : Nat) (a0 : Option Nat) (w : Wd) : Option (Unit × Wd) :=
(((some this))).bind fun b1 =>
(some (wnew w (.inr (16, df9_J2)) 3)).bind fun (w2 : Wd) =>
(((some (wnx w)))).bind fun b4 => (cal w2 (mJ2_init b4 w2)).bind fun r3 =>
(pf r3.2 ((some this)) 6 1 (va_rf ((some (wnx w))))).bind fun w5 =>
(some (wnew w5 (.inr (16, df9_J2)) 3)).bind fun (w6 : Wd) =>
(((some (wnx w5)))).bind fun b8 => (cal w6 (mJ2_init b8 w6)).bind fun r7 =>
(pf r7.2 ((some this)) 6 2 (va_rf ((some (wnx w5))))).bind fun w9 =>
(pf w9 ((some this)) 6 0 (va_rf a0)).bind fun w10 =>
some ((), w10)
theorem eX6_init {y : Fx (Unit × Wd)} (hk : OkF y RX6 cX6_init 2 5 120) (hR : RetM y rvV none) (hin : (fmeth y).name = "<init>") (this : Nat) (a0 : Option Nat) (w : Wd) : V y w [(0, va_rf (some this)), (1, va_rf a0)] [] 0 (mX6_init this a0 w) := by
  unfold mX6_init
  refine V_aload_n (pc := 0) hk dX6_init_0 0 rfl ?_
  refine V_objInit (pc := 1) hk q778 q170 q171 ⟨Nat.le_of_ble_eq_true rfl, Nat.le_of_ble_eq_true rfl⟩ (Nat.le_of_ble_eq_true rfl) dX6_init_1 (fun b1 => ?_)
  refine V_aload_n (pc := 4) hk dX6_init_4 0 rfl ?_
  refine o_X6_9 (pc := 5) hk dX6_init_5 ?_
  refine V_nmW (fun w2 => ?_)
  refine V_dup (pc := 8) hk dX6_init_8 (rf_cat _) ?_
  refine n_X6_11 (pc := 9) hk (fun b r h => ctJ2_init (fl y) (fK y) hk.2.2.2.2.2.2.2.1 b w2 r h) ⟨Nat.le_of_ble_eq_true rfl, Nat.le_of_ble_eq_true rfl⟩ (by simp [rf_cat, cat_int, cat_long, cat_ref]) dX6_init_9 (fun r3 => ?_)
  refine p_X6_12 (pc := 12) hk hin dX6_init_12 (fun w5 => ?_)
  refine V_aload_n (pc := 15) hk dX6_init_15 0 rfl ?_
  refine o_X6_9 (pc := 16) hk dX6_init_16 ?_
  refine V_nmW (fun w6 => ?_)
  refine V_dup (pc := 19) hk dX6_init_19 (rf_cat _) ?_
  refine n_X6_11 (pc := 20) hk (fun b r h => ctJ2_init (fl y) (fK y) hk.2.2.2.2.2.2.2.1 b w6 r h) ⟨Nat.le_of_ble_eq_true rfl, Nat.le_of_ble_eq_true rfl⟩ (by simp [rf_cat, cat_int, cat_long, cat_ref]) dX6_init_20 (fun r7 => ?_)
  refine p_X6_18 (pc := 23) hk hin dX6_init_23 (fun w9 => ?_)
  refine V_aload_n (pc := 26) hk dX6_init_26 0 rfl ?_
  refine V_aload_n (pc := 27) hk dX6_init_27 1 rfl ?_
  refine p_X6_21 (pc := 28) hk hin dX6_init_28 (fun w10 => ?_)
  exact V_return (pc := 31) hk hR rfl dX6_init_31
theorem ctX6_init (l : Launch) (K : Kx) (hI : Ini K) (b : Nat) (a0 : Option Nat) (w : Wd) : ∀ r, mX6_init b a0 w = some r → Ct l K 5 120 yX6_init (ws_ yX6_init cX6_init 2 none) [.ref b, va_rf a0] w (rvV r.1) r.2 := Ct_of rvV l K hI 5 120 [.ref b, va_rf a0] w (by decide) (lc0 := [(0, .ref b), (1, va_rf a0)]) (by simp [lv_args, rf_cat, cat_int, cat_long, cat_ref]) (lg_len _ _ (by simp [rf_cat, cat_int, cat_long, cat_ref])) (fun y hk hR _ _ hin => eX6_init hk hR hin b a0 w)
noncomputable def mX6_add (this : Nat) (a0 : Int32) (a1 : Option Nat) (w : Wd) : Option (Unit × Wd) :=
(gR w ((some this)) 6 2).bind fun v1 =>
(cal w (mJ15_valueOf a0 w)).bind fun r2 =>
(recv r2.2 v1 16).bind fun b4 => (cal r2.2 (mJ2_add b4 r2.1 r2.2)).bind fun r3 =>
(gR r3.2 ((some this)) 6 1).bind fun v5 =>
(recv r3.2 v5 16).bind fun b7 => (cal r3.2 (mJ2_add b7 a1 r3.2)).bind fun r6 =>
some ((), r6.2)
theorem eX6_add {y : Fx (Unit × Wd)} (hk : OkF y RX6 cX6_add 3 8 192) (hR : RetM y rvV none) (this : Nat) (a0 : Int32) (a1 : Option Nat) (w : Wd) : V y w [(0, va_rf (some this)), (1, .int a0), (2, va_rf a1)] [] 0 (mX6_add this a0 a1 w) := by
  unfold mX6_add
  refine V_aload_n (pc := 0) hk dX6_add_0 0 rfl ?_
  refine g_X6_18 (pc := 1) hk dX6_add_1 (fun v1 => ?_)
  refine V_iload_n (pc := 4) hk dX6_add_4 1 rfl ?_
  refine n_X6_25 (pc := 5) hk (fun r h => ctJ15_valueOf (fl y) (fK y) hk.2.2.2.2.2.2.2.1 a0 w r h) ⟨Nat.le_of_ble_eq_true rfl, Nat.le_of_ble_eq_true rfl⟩ (by simp [rf_cat, cat_int, cat_long, cat_ref]) dX6_add_5 (fun r2 => ?_)
  refine n_X6_31 (pc := 8) hk (fun b r h => ctJ2_add (fl y) (fK y) hk.2.2.2.2.2.2.2.1 b r2.1 r2.2 r h) ⟨Nat.le_of_ble_eq_true rfl, Nat.le_of_ble_eq_true rfl⟩ (Nat.le_of_ble_eq_true rfl) dX6_add_8 (fun r3 => ?_)
  refine V_pop (pc := 11) hk dX6_add_11 rfl ?_
  refine V_aload_n (pc := 12) hk dX6_add_12 0 rfl ?_
  refine g_X6_12 (pc := 13) hk dX6_add_13 (fun v5 => ?_)
  refine V_aload_n (pc := 16) hk dX6_add_16 2 rfl ?_
  refine n_X6_31 (pc := 17) hk (fun b r h => ctJ2_add (fl y) (fK y) hk.2.2.2.2.2.2.2.1 b a1 r3.2 r h) ⟨Nat.le_of_ble_eq_true rfl, Nat.le_of_ble_eq_true rfl⟩ (Nat.le_of_ble_eq_true rfl) dX6_add_17 (fun r6 => ?_)
  refine V_pop (pc := 20) hk dX6_add_20 rfl ?_
  exact V_return (pc := 21) hk hR rfl dX6_add_21
theorem ctX6_add (l : Launch) (K : Kx) (hI : Ini K) (b : Nat) (a0 : Int32) (a1 : Option Nat) (w : Wd) : ∀ r, mX6_add b a0 a1 w = some r → Ct l K 8 192 yX6_add (ws_ yX6_add cX6_add 3 none) [.ref b, .int a0, va_rf a1] w (rvV r.1) r.2 := Ct_of rvV l K hI 8 192 [.ref b, .int a0, va_rf a1] w (by decide) (lc0 := [(0, .ref b), (1, .int a0), (2, va_rf a1)]) (by simp [lv_args, rf_cat, cat_int, cat_long, cat_ref]) (lg_len _ _ (by simp [rf_cat, cat_int, cat_long, cat_ref])) (fun y hk hR _ _ hin => eX6_add hk hR b a0 a1 w)
noncomputable def mX6_itself (this : Nat) (w : Wd) : Option (Option Nat × Wd) :=
(gR w ((some this)) 6 1).bind fun v1 =>
(recv w v1 16).bind fun b3 => (cal w (mJ2_isEmpty b3 w)).bind fun r2 =>
if r2.1 = 0 then (
some ((some this), r2.2))
else (
(gR r2.2 ((some this)) 6 0).bind fun v4 =>
some (v4, r2.2))
theorem eX6_itself {y : Fx (Option Nat × Wd)} (hk : OkF y RX6 cX6_itself 1 3 80) (hR : RetM y rvR (some (.object "HookSwings$Sum"))) (this : Nat) (w : Wd) : V y w [(0, va_rf (some this))] [] 0 (mX6_itself this w) := by
  unfold mX6_itself
  refine V_aload_n (pc := 0) hk dX6_itself_0 0 rfl ?_
  refine g_X6_12 (pc := 1) hk dX6_itself_1 (fun v1 => ?_)
  refine n_X6_35 (pc := 4) hk (fun b r h => ctJ2_isEmpty (fl y) (fK y) hk.2.2.2.2.2.2.2.1 b w r h) ⟨Nat.le_of_ble_eq_true rfl, Nat.le_of_ble_eq_true rfl⟩ (Nat.le_of_ble_eq_true rfl) dX6_itself_4 (fun r2 => ?_)
  refine V_if_eq (pc := 7) (tgt := 17) hk dX6_itself_7 rfl ?_ ?_
  · refine V_aload_n (pc := 17) hk dX6_itself_17 0 rfl ?_
    exact V_areturn (pc := 18) hk (Or.inl ⟨_, rfl⟩) hR rfl dX6_itself_18
  · refine V_aload_n (pc := 10) hk dX6_itself_10 0 rfl ?_
    refine g_X6_21 (pc := 11) hk dX6_itself_11 (fun v4 => ?_)
    refine V_goto (pc := 14) (tgt := 18) hk dX6_itself_14 rfl ?_
    exact V_areturn (pc := 18) hk (Or.inl ⟨_, rfl⟩) hR rfl dX6_itself_18
theorem ctX6_itself (l : Launch) (K : Kx) (hI : Ini K) (b : Nat) (w : Wd) : ∀ r, mX6_itself b w = some r → Ct l K 3 80 yX6_itself (ws_ yX6_itself cX6_itself 1 (some (.object "HookSwings$Sum"))) [.ref b] w (rvR r.1) r.2 := Ct_of rvR l K hI 3 80 [.ref b] w (by decide) (lc0 := [(0, .ref b)]) rfl (Nat.le_of_ble_eq_true rfl) (fun y hk hR _ _ hin => eX6_itself hk hR b w)
noncomputable def mX7_init (this : Nat) (a0 : Int32) (w : Wd) : Option (Unit × Wd) :=
(((some this))).bind fun b2 => (cal w (mJ10_init b2 w)).bind fun r1 =>
(pf r1.2 ((some this)) 7 0 (.int a0)).bind fun w3 =>
some ((), w3)
theorem eX7_init {y : Fx (Unit × Wd)} (hk : OkF y RX7 cX7_init 2 3 80) (hR : RetM y rvV none) (hin : (fmeth y).name = "<init>") (this : Nat) (a0 : Int32) (w : Wd) : V y w [(0, va_rf (some this)), (1, .int a0)] [] 0 (mX7_init this a0 w) := by
  unfold mX7_init
  refine V_aload_n (pc := 0) hk dX7_init_0 0 rfl ?_
  refine n_X7_1 (pc := 1) hk (fun b r h => ctJ10_init (fl y) (fK y) hk.2.2.2.2.2.2.2.1 b w r h) ⟨Nat.le_of_ble_eq_true rfl, Nat.le_of_ble_eq_true rfl⟩ (Nat.le_of_ble_eq_true rfl) dX7_init_1 (fun r1 => ?_)
  refine V_aload_n (pc := 4) hk dX7_init_4 0 rfl ?_
  refine V_iload_n (pc := 5) hk dX7_init_5 1 rfl ?_
  refine p_X7_7 (pc := 6) hk hin dX7_init_6 (fun w3 => ?_)
  exact V_return (pc := 9) hk hR rfl dX7_init_9
theorem ctX7_init (l : Launch) (K : Kx) (hI : Ini K) (b : Nat) (a0 : Int32) (w : Wd) : ∀ r, mX7_init b a0 w = some r → Ct l K 3 80 yX7_init (ws_ yX7_init cX7_init 2 none) [.ref b, .int a0] w (rvV r.1) r.2 := Ct_of rvV l K hI 3 80 [.ref b, .int a0] w (by decide) (lc0 := [(0, .ref b), (1, .int a0)]) rfl (Nat.le_of_ble_eq_true rfl) (fun y hk hR _ _ hin => eX7_init hk hR hin b a0 w)
noncomputable def mX8_init (this : Nat) (a0 : Int32) (w : Wd) : Option (Unit × Wd) :=
(((some this))).bind fun b2 => (cal w (mJ10_init b2 w)).bind fun r1 =>
(pf r1.2 ((some this)) 8 0 (.int a0)).bind fun w3 =>
some ((), w3)
theorem eX8_init {y : Fx (Unit × Wd)} (hk : OkF y RX8 cX8_init 2 3 80) (hR : RetM y rvV none) (hin : (fmeth y).name = "<init>") (this : Nat) (a0 : Int32) (w : Wd) : V y w [(0, va_rf (some this)), (1, .int a0)] [] 0 (mX8_init this a0 w) := by
  unfold mX8_init
  refine V_aload_n (pc := 0) hk dX8_init_0 0 rfl ?_
  refine n_X8_1 (pc := 1) hk (fun b r h => ctJ10_init (fl y) (fK y) hk.2.2.2.2.2.2.2.1 b w r h) ⟨Nat.le_of_ble_eq_true rfl, Nat.le_of_ble_eq_true rfl⟩ (Nat.le_of_ble_eq_true rfl) dX8_init_1 (fun r1 => ?_)
  refine V_aload_n (pc := 4) hk dX8_init_4 0 rfl ?_
  refine V_iload_n (pc := 5) hk dX8_init_5 1 rfl ?_
  refine p_X8_7 (pc := 6) hk hin dX8_init_6 (fun w3 => ?_)
  exact V_return (pc := 9) hk hR rfl dX8_init_9
theorem ctX8_init (l : Launch) (K : Kx) (hI : Ini K) (b : Nat) (a0 : Int32) (w : Wd) : ∀ r, mX8_init b a0 w = some r → Ct l K 3 80 yX8_init (ws_ yX8_init cX8_init 2 none) [.ref b, .int a0] w (rvV r.1) r.2 := Ct_of rvV l K hI 3 80 [.ref b, .int a0] w (by decide) (lc0 := [(0, .ref b), (1, .int a0)]) rfl (Nat.le_of_ble_eq_true rfl) (fun y hk hR _ _ hin => eX8_init hk hR hin b a0 w)
noncomputable def mX9_init (this : Nat) (a0 : Option Nat) (w : Wd) : Option (Unit × Wd) :=
(((some this))).bind fun b2 => (cal w (mJ10_init b2 w)).bind fun r1 =>
(pf r1.2 ((some this)) 9 0 (va_rf a0)).bind fun w3 =>
some ((), w3)
theorem eX9_init {y : Fx (Unit × Wd)} (hk : OkF y RX9 cX9_init 2 3 80) (hR : RetM y rvV none) (hin : (fmeth y).name = "<init>") (this : Nat) (a0 : Option Nat) (w : Wd) : V y w [(0, va_rf (some this)), (1, va_rf a0)] [] 0 (mX9_init this a0 w) := by
  unfold mX9_init
  refine V_aload_n (pc := 0) hk dX9_init_0 0 rfl ?_
  refine n_X9_1 (pc := 1) hk (fun b r h => ctJ10_init (fl y) (fK y) hk.2.2.2.2.2.2.2.1 b w r h) ⟨Nat.le_of_ble_eq_true rfl, Nat.le_of_ble_eq_true rfl⟩ (Nat.le_of_ble_eq_true rfl) dX9_init_1 (fun r1 => ?_)
  refine V_aload_n (pc := 4) hk dX9_init_4 0 rfl ?_
  refine V_aload_n (pc := 5) hk dX9_init_5 1 rfl ?_
  refine p_X9_7 (pc := 6) hk hin dX9_init_6 (fun w3 => ?_)
  exact V_return (pc := 9) hk hR rfl dX9_init_9
theorem ctX9_init (l : Launch) (K : Kx) (hI : Ini K) (b : Nat) (a0 : Option Nat) (w : Wd) : ∀ r, mX9_init b a0 w = some r → Ct l K 3 80 yX9_init (ws_ yX9_init cX9_init 2 none) [.ref b, va_rf a0] w (rvV r.1) r.2 := Ct_of rvV l K hI 3 80 [.ref b, va_rf a0] w (by decide) (lc0 := [(0, .ref b), (1, va_rf a0)]) (by simp [lv_args, rf_cat, cat_int, cat_long, cat_ref]) (lg_len _ _ (by simp [rf_cat, cat_int, cat_long, cat_ref])) (fun y hk hR _ _ hin => eX9_init hk hR hin b a0 w)
noncomputable def mX6_of_p120 (sS : TySum) (k14 : Wd → (Option Nat) → (Option Nat) → Int64 → Int32 → Option (Int64 × Wd)) (w : Wd) (l0 : Option Nat) (l1 : Option Nat) (l4 : Int32) (t0 : Int64) : Option (Int64 × Wd) :=
(some (jmaxJ (-1000000) (jminJ 1000000 t0))).bind fun (x1 : Int64) =>
k14 w l0 l1 x1 (l4 + 1)
noncomputable def mX6_of_b14 (sS : TySum) (k14 : Wd → (Option Nat) → (Option Nat) → Int64 → Int32 → Option (Int64 × Wd)) (w : Wd) (l0 : Option Nat) (l1 : Option Nat) (l2 : Int64) (l4 : Int32) : Option (Int64 × Wd) :=
(gR w l0 6 1).bind fun v1 =>
(recv w v1 16).bind fun b3 => (cal w (mJ2_size b3 w)).bind fun r2 =>
if r2.1 ≤ l4 then (
some (l2, r2.2))
else (
(gR r2.2 l0 6 1).bind fun v4 =>
(recv r2.2 v4 16).bind fun b6 => (cal r2.2 (mJ2_get b6 l4 r2.2)).bind fun r5 =>
(ccast r5.2 clSum r5.1).bind fun _ =>
(r5.1).bind fun b8 => (cal r5.2 (dSum sS b8 l1 r5.2)).bind fun r9 =>
(gR r9.2 l0 6 2).bind fun v10 =>
(recv r9.2 v10 16).bind fun b12 => (cal r9.2 (mJ2_get b12 l4 r9.2)).bind fun r11 =>
(ccast r11.2 clInt r11.1).bind fun _ =>
(recv r11.2 r11.1 17).bind fun b15 => (cal r11.2 (mJ15_intValue b15 r11.2)).bind fun r14 =>
if ¬ r14.1 = 43 then (
if ¬ r14.1 = 45 then (
if ¬ r14.1 = 42 then (
if ¬ (lg_cmp r9.1 0) = 0 then (
(ldv l2 r9.1).bind fun v16 =>
mX6_of_p120 sS k14 r14.2 l0 l1 l4 v16)
else (
mX6_of_p120 sS k14 r14.2 l0 l1 l4 0))
else (
mX6_of_p120 sS k14 r14.2 l0 l1 l4 (l2 * r9.1)))
else (
mX6_of_p120 sS k14 r14.2 l0 l1 l4 (l2 - r9.1)))
else (
mX6_of_p120 sS k14 r14.2 l0 l1 l4 (l2 + r9.1)))
noncomputable def mX6_of_l14 (sS : TySum) : Nat → Wd → (Option Nat) → (Option Nat) → Int64 → Int32 → Option (Int64 × Wd)
  | 0, _, _, _, _, _ => none
  | n + 1, w, l0, l1, l2, l4 => mX6_of_b14 sS (mX6_of_l14 sS n) w l0 l1 l2 l4
noncomputable def mX6_of (sS : TySum) (this : Nat) (a0 : Option Nat) (w : Wd) : Option (Int64 × Wd) :=
(gR w ((some this)) 6 0).bind fun v1 =>
(v1).bind fun b2 => (cal w (dSum sS b2 a0 w)).bind fun r3 =>
mX6_of_l14 sS FU r3.2 ((some this)) a0 r3.1 0
theorem eX6_of_p120 {y : Fx (Int64 × Wd)} {F L F9 L9 : Nat} (hk : OkF y RX6 cX6_of 10 F L) (hR : RetM y rvJ (some (.long))) (hF1 : F9 + 1 ≤ F ∧ 60 + L9 ≤ L) (hF2 : 5 ≤ F ∧ 124 ≤ L) {sS : TySum} (hsS : HsSum (fl y) (fK y) F9 L9 sS) {k14 : Wd → (Option Nat) → (Option Nat) → Int64 → Int32 → Option (Int64 × Wd)} (h14 : ∀ (w : Wd) (l0 : Option Nat) (l1 : Option Nat) (l2 : Int64) (l4 : Int32), V y w [(0, va_rf l0), (1, va_rf l1), (2, .long l2), (4, .int l4)] [] 14 (k14 w l0 l1 l2 l4)) (w : Wd) (l0 : Option Nat) (l1 : Option Nat) (l4 : Int32) (t0 : Int64) : V y w [(0, va_rf l0), (1, va_rf l1), (4, .int l4)] [.long t0] 120 (mX6_of_p120 sS k14 w l0 l1 l4 t0) := by
  unfold mX6_of_p120
  refine V_lstore (pc := 120) (lc' := [(8, .long t0), (0, va_rf l0), (1, va_rf l1), (4, .int l4)]) (i := 8) hk dX6_of_120 (Nat.le_of_ble_eq_true rfl) rfl ?_
  refine V_ldc2 (pc := 122) (v := (-1000000)) hk dX6_of_122 q1010 ?_
  refine V_ldc2 (pc := 125) (v := 1000000) hk dX6_of_125 q1011 ?_
  refine V_lload (pc := 128) hk dX6_of_128 0 rfl ?_
  refine V_mminJ (pc := 130) hk q1012 ⟨by omega, by omega⟩ (Nat.le_of_ble_eq_true rfl) dX6_of_130 ?_
  refine V_mmaxJ (pc := 133) hk q1015 ⟨by omega, by omega⟩ (Nat.le_of_ble_eq_true rfl) dX6_of_133 ?_
  refine V_nmJ (fun x1 => ?_)
  refine V_lstore_n (pc := 136) (lc' := [(2, .long x1), (8, .long t0), (0, va_rf l0), (1, va_rf l1), (4, .int l4)]) (i := 2) hk dX6_of_136 rfl (Nat.le_of_ble_eq_true rfl) (by simp [rf_cat, cat_int, cat_long, cat_ref]) ?_
  refine V_iinc (pc := 137) (v := 1) (lc' := [(4, .int (l4 + 1)), (2, .long x1), (8, .long t0), (0, va_rf l0), (1, va_rf l1)]) hk dX6_of_137 4 rfl rfl (Nat.le_of_ble_eq_true rfl) rfl ?_
  refine V_goto (pc := 140) (tgt := 14) hk dX6_of_140 rfl ?_
  refine V_pick (lc' := [(0, va_rf l0), (1, va_rf l1), (2, .long x1), (4, .int (l4 + 1))]) [3, 4, 1, 0] rfl ?_
  exact h14 w l0 l1 x1 (l4 + 1)
theorem eX6_of_b14 {y : Fx (Int64 × Wd)} {F L F9 L9 : Nat} (hk : OkF y RX6 cX6_of 10 F L) (hR : RetM y rvJ (some (.long))) (hF1 : F9 + 1 ≤ F ∧ 60 + L9 ≤ L) (hF2 : 5 ≤ F ∧ 124 ≤ L) {sS : TySum} (hsS : HsSum (fl y) (fK y) F9 L9 sS) {k14 : Wd → (Option Nat) → (Option Nat) → Int64 → Int32 → Option (Int64 × Wd)} (h14 : ∀ (w : Wd) (l0 : Option Nat) (l1 : Option Nat) (l2 : Int64) (l4 : Int32), V y w [(0, va_rf l0), (1, va_rf l1), (2, .long l2), (4, .int l4)] [] 14 (k14 w l0 l1 l2 l4)) (w : Wd) (l0 : Option Nat) (l1 : Option Nat) (l2 : Int64) (l4 : Int32) : V y w [(0, va_rf l0), (1, va_rf l1), (2, .long l2), (4, .int l4)] [] 14 (mX6_of_b14 sS k14 w l0 l1 l2 l4) := by
  unfold mX6_of_b14
  refine V_iload (pc := 14) hk dX6_of_14 3 rfl ?_
  refine V_aload_n (pc := 16) hk dX6_of_16 0 rfl ?_
  refine g_X6_12 (pc := 17) hk dX6_of_17 (fun v1 => ?_)
  refine n_X6_45 (pc := 20) hk (fun b r h => ctJ2_size (fl y) (fK y) hk.2.2.2.2.2.2.2.1 b w r h) ⟨by omega, by omega⟩ (Nat.le_of_ble_eq_true rfl) dX6_of_20 (fun r2 => ?_)
  refine V_icmp_ge (pc := 23) (tgt := 143) hk dX6_of_23 rfl ?_ ?_
  · refine V_lload_n (pc := 143) hk dX6_of_143 2 rfl ?_
    exact V_lreturn (pc := 144) hk hR rfl dX6_of_144
  · refine V_aload_n (pc := 26) hk dX6_of_26 0 rfl ?_
    refine g_X6_12 (pc := 27) hk dX6_of_27 (fun v4 => ?_)
    refine V_iload (pc := 30) hk dX6_of_30 3 rfl ?_
    refine n_X6_49 (pc := 32) hk (fun b r h => ctJ2_get (fl y) (fK y) hk.2.2.2.2.2.2.2.1 b l4 r2.2 r h) ⟨by omega, by omega⟩ (Nat.le_of_ble_eq_true rfl) dX6_of_32 (fun r5 => ?_)
    refine V_cast (pc := 35) hk cst_Sum q1004 dX6_of_35 ?_
    refine V_aload_n (pc := 38) hk dX6_of_38 1 rfl ?_
    refine V_ifSum (pc := 39) hk q931 hsS ⟨by omega, by omega⟩ (Nat.le_of_ble_eq_true rfl) dX6_of_39 (fun r9 => ?_)
    refine V_lstore (pc := 44) (lc' := [(5, .long r9.1), (0, va_rf l0), (1, va_rf l1), (2, .long l2), (4, .int l4)]) (i := 5) hk dX6_of_44 (Nat.le_of_ble_eq_true rfl) rfl ?_
    refine V_aload_n (pc := 46) hk dX6_of_46 1 rfl ?_
    refine g_X6_18 (pc := 47) hk dX6_of_47 (fun v10 => ?_)
    refine V_iload (pc := 50) hk dX6_of_50 4 rfl ?_
    refine n_X6_49 (pc := 52) hk (fun b r h => ctJ2_get (fl y) (fK y) hk.2.2.2.2.2.2.2.1 b l4 r9.2 r h) ⟨by omega, by omega⟩ (Nat.le_of_ble_eq_true rfl) dX6_of_52 (fun r11 => ?_)
    refine V_cast (pc := 55) hk cst_Int q1005 dX6_of_55 ?_
    refine n_X6_53 (pc := 58) hk (fun b r h => ctJ15_intValue (fl y) (fK y) hk.2.2.2.2.2.2.2.1 b r11.2 r h) ⟨by omega, by omega⟩ (Nat.le_of_ble_eq_true rfl) dX6_of_58 (fun r14 => ?_)
    refine V_istore (pc := 61) (lc' := [(7, .int r14.1), (5, .long r9.1), (0, va_rf l0), (1, va_rf l1), (2, .long l2), (4, .int l4)]) (i := 7) hk dX6_of_61 (Nat.le_of_ble_eq_true rfl) rfl ?_
    refine V_iload (pc := 63) hk dX6_of_63 0 rfl ?_
    refine V_bipush (pc := 65) (v := 43) hk dX6_of_65 rfl ?_
    refine V_icmp_ne (pc := 67) (tgt := 77) hk dX6_of_67 rfl ?_ ?_
    · refine V_iload (pc := 77) hk dX6_of_77 0 rfl ?_
      refine V_bipush (pc := 79) (v := 45) hk dX6_of_79 rfl ?_
      refine V_icmp_ne (pc := 81) (tgt := 91) hk dX6_of_81 rfl ?_ ?_
      · refine V_iload (pc := 91) hk dX6_of_91 0 rfl ?_
        refine V_bipush (pc := 93) (v := 42) hk dX6_of_93 rfl ?_
        refine V_icmp_ne (pc := 95) (tgt := 105) hk dX6_of_95 rfl ?_ ?_
        · refine V_lload (pc := 105) hk dX6_of_105 1 rfl ?_
          refine V_lconst (pc := 107) (v := 0) hk dX6_of_107 rfl ?_
          refine V_lcmp (pc := 108) hk dX6_of_108 ?_
          refine V_if_ne (pc := 109) (tgt := 116) hk dX6_of_109 rfl ?_ ?_
          · refine V_lload_n (pc := 116) hk dX6_of_116 4 rfl ?_
            refine V_lload (pc := 117) hk dX6_of_117 1 rfl ?_
            refine V_ldiv (pc := 119) hk dX6_of_119 (fun v16 => ?_)
            refine V_pick (lc' := [(0, va_rf l0), (1, va_rf l1), (4, .int l4)]) [2, 3, 5] rfl ?_
            exact eX6_of_p120 hk hR hF1 hF2 hsS h14 r14.2 l0 l1 l4 v16
          · refine V_lconst (pc := 112) (v := 0) hk dX6_of_112 rfl ?_
            refine V_goto (pc := 113) (tgt := 120) hk dX6_of_113 rfl ?_
            refine V_pick (lc' := [(0, va_rf l0), (1, va_rf l1), (4, .int l4)]) [2, 3, 5] rfl ?_
            exact eX6_of_p120 hk hR hF1 hF2 hsS h14 r14.2 l0 l1 l4 0
        · refine V_lload_n (pc := 98) hk dX6_of_98 4 rfl ?_
          refine V_lload (pc := 99) hk dX6_of_99 1 rfl ?_
          refine V_lmul (pc := 101) hk dX6_of_101 ?_
          refine V_goto (pc := 102) (tgt := 120) hk dX6_of_102 rfl ?_
          refine V_pick (lc' := [(0, va_rf l0), (1, va_rf l1), (4, .int l4)]) [2, 3, 5] rfl ?_
          exact eX6_of_p120 hk hR hF1 hF2 hsS h14 r14.2 l0 l1 l4 (l2 * r9.1)
      · refine V_lload_n (pc := 84) hk dX6_of_84 4 rfl ?_
        refine V_lload (pc := 85) hk dX6_of_85 1 rfl ?_
        refine V_lsub (pc := 87) hk dX6_of_87 ?_
        refine V_goto (pc := 88) (tgt := 120) hk dX6_of_88 rfl ?_
        refine V_pick (lc' := [(0, va_rf l0), (1, va_rf l1), (4, .int l4)]) [2, 3, 5] rfl ?_
        exact eX6_of_p120 hk hR hF1 hF2 hsS h14 r14.2 l0 l1 l4 (l2 - r9.1)
    · refine V_lload_n (pc := 70) hk dX6_of_70 4 rfl ?_
      refine V_lload (pc := 71) hk dX6_of_71 1 rfl ?_
      refine V_ladd (pc := 73) hk dX6_of_73 ?_
      refine V_goto (pc := 74) (tgt := 120) hk dX6_of_74 rfl ?_
      refine V_pick (lc' := [(0, va_rf l0), (1, va_rf l1), (4, .int l4)]) [2, 3, 5] rfl ?_
      exact eX6_of_p120 hk hR hF1 hF2 hsS h14 r14.2 l0 l1 l4 (l2 + r9.1)
theorem eX6_of_l14 {y : Fx (Int64 × Wd)} {F L F9 L9 : Nat} (hk : OkF y RX6 cX6_of 10 F L) (hR : RetM y rvJ (some (.long))) (hF1 : F9 + 1 ≤ F ∧ 60 + L9 ≤ L) (hF2 : 5 ≤ F ∧ 124 ≤ L) {sS : TySum} (hsS : HsSum (fl y) (fK y) F9 L9 sS) : ∀ (n : Nat) (w : Wd) (l0 : Option Nat) (l1 : Option Nat) (l2 : Int64) (l4 : Int32), V y w [(0, va_rf l0), (1, va_rf l1), (2, .long l2), (4, .int l4)] [] 14 (mX6_of_l14 sS n w l0 l1 l2 l4) := by
  intro n
  induction n with
  | zero => intro w l0 l1 l2 l4; exact V_none
  | succ n ih => intro w l0 l1 l2 l4; exact eX6_of_b14 hk hR hF1 hF2 hsS ih w l0 l1 l2 l4
theorem eX6_of {y : Fx (Int64 × Wd)} {F L F9 L9 : Nat} (hk : OkF y RX6 cX6_of 10 F L) (hR : RetM y rvJ (some (.long))) (hF1 : F9 + 1 ≤ F ∧ 60 + L9 ≤ L) (hF2 : 5 ≤ F ∧ 124 ≤ L) {sS : TySum} (hsS : HsSum (fl y) (fK y) F9 L9 sS) (this : Nat) (a0 : Option Nat) (w : Wd) : V y w [(0, va_rf (some this)), (1, va_rf a0)] [] 0 (mX6_of sS this a0 w) := by
  unfold mX6_of
  refine V_aload_n (pc := 0) hk dX6_of_0 0 rfl ?_
  refine g_X6_21 (pc := 1) hk dX6_of_1 (fun v1 => ?_)
  refine V_aload_n (pc := 4) hk dX6_of_4 1 rfl ?_
  refine V_ifSum (pc := 5) hk q931 hsS ⟨by omega, by omega⟩ (Nat.le_of_ble_eq_true rfl) dX6_of_5 (fun r3 => ?_)
  refine V_lstore_n (pc := 10) (lc' := [(2, .long r3.1), (0, va_rf ((some this))), (1, va_rf a0)]) (i := 2) hk dX6_of_10 rfl (Nat.le_of_ble_eq_true rfl) (by simp [rf_cat, cat_int, cat_long, cat_ref]) ?_
  refine V_iconst (pc := 11) (v := 0) hk dX6_of_11 rfl ?_
  refine V_istore (pc := 12) (lc' := [(4, .int 0), (2, .long r3.1), (0, va_rf ((some this))), (1, va_rf a0)]) (i := 4) hk dX6_of_12 (Nat.le_of_ble_eq_true rfl) rfl ?_
  refine V_pick (lc' := [(0, va_rf ((some this))), (1, va_rf a0), (2, .long r3.1), (4, .int 0)]) [2, 3, 1, 0] rfl ?_
  exact eX6_of_l14 hk hR hF1 hF2 hsS FU r3.2 ((some this)) a0 r3.1 0
noncomputable def mX7_of (this : Nat) (a0 : Option Nat) (w : Wd) : Option (Int64 × Wd) :=
(gI w ((some this)) 7 0).bind fun v1 =>
some ((v1 : Int32).toInt64, w)
theorem eX7_of {y : Fx (Int64 × Wd)} {F L F9 L9 : Nat} (hk : OkF y RX7 cX7_of 2 F L) (hR : RetM y rvJ (some (.long))) (hF1 : F9 + 1 ≤ F ∧ 60 + L9 ≤ L) (hF2 : 2 ≤ F ∧ 60 ≤ L) (this : Nat) (a0 : Option Nat) (w : Wd) : V y w [(0, va_rf (some this)), (1, va_rf a0)] [] 0 (mX7_of this a0 w) := by
  unfold mX7_of
  refine V_aload_n (pc := 0) hk dX7_of_0 0 rfl ?_
  refine g_X7_7 (pc := 1) hk dX7_of_1 (fun v1 => ?_)
  refine V_i2l (pc := 4) hk dX7_of_4 ?_
  exact V_lreturn (pc := 5) hk hR rfl dX7_of_5
noncomputable def mX8_of (this : Nat) (a0 : Option Nat) (w : Wd) : Option (Int64 × Wd) :=
(gI w ((some this)) 8 0).bind fun v1 =>
(ia w a0 v1).bind fun v2 =>
some ((v2 : Int32).toInt64, w)
theorem eX8_of {y : Fx (Int64 × Wd)} {F L F9 L9 : Nat} (hk : OkF y RX8 cX8_of 2 F L) (hR : RetM y rvJ (some (.long))) (hF1 : F9 + 1 ≤ F ∧ 60 + L9 ≤ L) (hF2 : 2 ≤ F ∧ 60 ≤ L) (this : Nat) (a0 : Option Nat) (w : Wd) : V y w [(0, va_rf (some this)), (1, va_rf a0)] [] 0 (mX8_of this a0 w) := by
  unfold mX8_of
  refine V_aload_n (pc := 0) hk dX8_of_0 1 rfl ?_
  refine V_aload_n (pc := 1) hk dX8_of_1 0 rfl ?_
  refine g_X8_7 (pc := 2) hk dX8_of_2 (fun v1 => ?_)
  refine V_iaload (pc := 5) hk dX8_of_5 (fun v2 => ?_)
  refine V_i2l (pc := 6) hk dX8_of_6 ?_
  exact V_lreturn (pc := 7) hk hR rfl dX8_of_7
noncomputable def mX12_of (sS : TySum) (sA : TyAsk) (this : Nat) (a0 : Option Nat) (w : Wd) : Option (Int64 × Wd) :=
(gR w ((some this)) 12 0).bind fun v1 =>
(v1).bind fun b2 => (cal w (dAsk sA b2 a0 w)).bind fun r3 =>
if r3.1 = 0 then (
(gR r3.2 ((some this)) 12 2).bind fun v4 =>
(v4).bind fun b5 => (cal r3.2 (dSum sS b5 a0 r3.2)).bind fun r6 =>
some (r6.1, r6.2))
else (
(gR r3.2 ((some this)) 12 1).bind fun v7 =>
(v7).bind fun b8 => (cal r3.2 (dSum sS b8 a0 r3.2)).bind fun r9 =>
some (r9.1, r9.2))
theorem eX12_of {y : Fx (Int64 × Wd)} {F L F9 L9 : Nat} (hk : OkF y RX12 cX12_of 2 F L) (hR : RetM y rvJ (some (.long))) (hF1 : F9 + 1 ≤ F ∧ 60 + L9 ≤ L) (hF2 : 2 ≤ F ∧ 60 ≤ L) {sS : TySum} (hsS : HsSum (fl y) (fK y) F9 L9 sS) {sA : TyAsk} (hsA : HsAsk (fl y) (fK y) F9 L9 sA) (this : Nat) (a0 : Option Nat) (w : Wd) : V y w [(0, va_rf (some this)), (1, va_rf a0)] [] 0 (mX12_of sS sA this a0 w) := by
  unfold mX12_of
  refine V_aload_n (pc := 0) hk dX12_of_0 0 rfl ?_
  refine g_X12_7 (pc := 1) hk dX12_of_1 (fun v1 => ?_)
  refine V_aload_n (pc := 4) hk dX12_of_4 1 rfl ?_
  refine V_ifAsk (pc := 5) hk q939 hsA ⟨by omega, by omega⟩ (Nat.le_of_ble_eq_true rfl) dX12_of_5 (fun r3 => ?_)
  refine V_if_eq (pc := 10) (tgt := 26) hk dX12_of_10 rfl ?_ ?_
  · refine V_aload_n (pc := 26) hk dX12_of_26 0 rfl ?_
    refine g_X12_17 (pc := 27) hk dX12_of_27 (fun v4 => ?_)
    refine V_aload_n (pc := 30) hk dX12_of_30 1 rfl ?_
    refine V_ifSum (pc := 31) hk q1001 hsS ⟨by omega, by omega⟩ (Nat.le_of_ble_eq_true rfl) dX12_of_31 (fun r6 => ?_)
    exact V_lreturn (pc := 36) hk hR rfl dX12_of_36
  · refine V_aload_n (pc := 13) hk dX12_of_13 0 rfl ?_
    refine g_X12_13 (pc := 14) hk dX12_of_14 (fun v7 => ?_)
    refine V_aload_n (pc := 17) hk dX12_of_17 1 rfl ?_
    refine V_ifSum (pc := 18) hk q1001 hsS ⟨by omega, by omega⟩ (Nat.le_of_ble_eq_true rfl) dX12_of_18 (fun r9 => ?_)
    refine V_goto (pc := 23) (tgt := 36) hk dX12_of_23 rfl ?_
    exact V_lreturn (pc := 36) hk hR rfl dX12_of_36
noncomputable def mX13_of (sS : TySum) (this : Nat) (a0 : Option Nat) (w : Wd) : Option (Int64 × Wd) :=
(gR w ((some this)) 13 0).bind fun v1 =>
(v1).bind fun b2 => (cal w (dSum sS b2 a0 w)).bind fun r3 =>
some (-r3.1, r3.2)
theorem eX13_of {y : Fx (Int64 × Wd)} {F L F9 L9 : Nat} (hk : OkF y RX13 cX13_of 2 F L) (hR : RetM y rvJ (some (.long))) (hF1 : F9 + 1 ≤ F ∧ 60 + L9 ≤ L) (hF2 : 2 ≤ F ∧ 60 ≤ L) {sS : TySum} (hsS : HsSum (fl y) (fK y) F9 L9 sS) (this : Nat) (a0 : Option Nat) (w : Wd) : V y w [(0, va_rf (some this)), (1, va_rf a0)] [] 0 (mX13_of sS this a0 w) := by
  unfold mX13_of
  refine V_aload_n (pc := 0) hk dX13_of_0 0 rfl ?_
  refine g_X13_7 (pc := 1) hk dX13_of_1 (fun v1 => ?_)
  refine V_aload_n (pc := 4) hk dX13_of_4 1 rfl ?_
  refine V_ifSum (pc := 5) hk q968 hsS ⟨by omega, by omega⟩ (Nat.le_of_ble_eq_true rfl) dX13_of_5 (fun r3 => ?_)
  refine V_lneg (pc := 10) hk dX13_of_10 ?_
  exact V_lreturn (pc := 11) hk hR rfl dX13_of_11
noncomputable def mX14_of (sS : TySum) (this : Nat) (a0 : Option Nat) (w : Wd) : Option (Int64 × Wd) :=
(gR w ((some this)) 14 0).bind fun v1 =>
(v1).bind fun b2 => (cal w (dSum sS b2 a0 w)).bind fun r3 =>
some (jabsJ r3.1, r3.2)
theorem eX14_of {y : Fx (Int64 × Wd)} {F L F9 L9 : Nat} (hk : OkF y RX14 cX14_of 2 F L) (hR : RetM y rvJ (some (.long))) (hF1 : F9 + 1 ≤ F ∧ 60 + L9 ≤ L) (hF2 : 2 ≤ F ∧ 60 ≤ L) {sS : TySum} (hsS : HsSum (fl y) (fK y) F9 L9 sS) (this : Nat) (a0 : Option Nat) (w : Wd) : V y w [(0, va_rf (some this)), (1, va_rf a0)] [] 0 (mX14_of sS this a0 w) := by
  unfold mX14_of
  refine V_aload_n (pc := 0) hk dX14_of_0 0 rfl ?_
  refine g_X14_7 (pc := 1) hk dX14_of_1 (fun v1 => ?_)
  refine V_aload_n (pc := 4) hk dX14_of_4 1 rfl ?_
  refine V_ifSum (pc := 5) hk q988 hsS ⟨by omega, by omega⟩ (Nat.le_of_ble_eq_true rfl) dX14_of_5 (fun r3 => ?_)
  refine V_mabsJ (pc := 10) hk q989 ⟨by omega, by omega⟩ (Nat.le_of_ble_eq_true rfl) dX14_of_10 ?_
  exact V_lreturn (pc := 13) hk hR rfl dX14_of_13
noncomputable def mX9_is (sA : TyAsk) (this : Nat) (a0 : Option Nat) (w : Wd) : Option (Int32 × Wd) :=
(gR w ((some this)) 9 0).bind fun v1 =>
(v1).bind fun b2 => (cal w (dAsk sA b2 a0 w)).bind fun r3 =>
if ¬ r3.1 = 0 then (
(nok (.boolean) 0).bind fun _ => some (0, r3.2))
else (
(nok (.boolean) 1).bind fun _ => some (1, r3.2))
theorem eX9_is {y : Fx (Int32 × Wd)} {F L F9 L9 : Nat} (hk : OkF y RX9 cX9_is 2 F L) (hR : RetM y rvI (some (.boolean))) (hF1 : F9 + 1 ≤ F ∧ 60 + L9 ≤ L) (hF2 : 2 ≤ F ∧ 60 ≤ L) {sA : TyAsk} (hsA : HsAsk (fl y) (fK y) F9 L9 sA) (this : Nat) (a0 : Option Nat) (w : Wd) : V y w [(0, va_rf (some this)), (1, va_rf a0)] [] 0 (mX9_is sA this a0 w) := by
  unfold mX9_is
  refine V_aload_n (pc := 0) hk dX9_is_0 0 rfl ?_
  refine g_X9_7 (pc := 1) hk dX9_is_1 (fun v1 => ?_)
  refine V_aload_n (pc := 4) hk dX9_is_4 1 rfl ?_
  refine V_ifAsk (pc := 5) hk q999 hsA ⟨by omega, by omega⟩ (Nat.le_of_ble_eq_true rfl) dX9_is_5 (fun r3 => ?_)
  refine V_if_ne (pc := 10) (tgt := 17) hk dX9_is_10 rfl ?_ ?_
  · refine V_iconst (pc := 17) (v := 0) hk dX9_is_17 rfl ?_
    exact V_zreturn (pc := 18) hk hR rfl dX9_is_18
  · refine V_iconst (pc := 13) (v := 1) hk dX9_is_13 rfl ?_
    refine V_goto (pc := 14) (tgt := 18) hk dX9_is_14 rfl ?_
    exact V_zreturn (pc := 18) hk hR rfl dX9_is_18
noncomputable def mX10_is (sS : TySum) (this : Nat) (a0 : Option Nat) (w : Wd) : Option (Int32 × Wd) :=
(gR w ((some this)) 10 1).bind fun v1 =>
(v1).bind fun b2 => (cal w (dSum sS b2 a0 w)).bind fun r3 =>
(gR r3.2 ((some this)) 10 2).bind fun v4 =>
(v4).bind fun b5 => (cal r3.2 (dSum sS b5 a0 r3.2)).bind fun r6 =>
(gI r6.2 ((some this)) 10 0).bind fun v7 =>
if v7 = 35 then (
if (lg_cmp (r3.1 - r6.1) 0) = 0 then (
(nok (.boolean) 0).bind fun _ => some (0, r6.2))
else (
(nok (.boolean) 1).bind fun _ => some (1, r6.2)))
else (
if v7 = 60 then (
if 0 ≤ (lg_cmp (r3.1 - r6.1) 0) then (
(nok (.boolean) 0).bind fun _ => some (0, r6.2))
else (
(nok (.boolean) 1).bind fun _ => some (1, r6.2)))
else (
if v7 = 61 then (
if ¬ (lg_cmp (r3.1 - r6.1) 0) = 0 then (
(nok (.boolean) 0).bind fun _ => some (0, r6.2))
else (
(nok (.boolean) 1).bind fun _ => some (1, r6.2)))
else (
if v7 = 62 then (
if (lg_cmp (r3.1 - r6.1) 0) ≤ 0 then (
(nok (.boolean) 0).bind fun _ => some (0, r6.2))
else (
(nok (.boolean) 1).bind fun _ => some (1, r6.2)))
else (
if v7 = 303 then (
if 0 < (lg_cmp (r3.1 - r6.1) 0) then (
(nok (.boolean) 0).bind fun _ => some (0, r6.2))
else (
(nok (.boolean) 1).bind fun _ => some (1, r6.2)))
else (
if (lg_cmp (r3.1 - r6.1) 0) < 0 then (
(nok (.boolean) 0).bind fun _ => some (0, r6.2))
else (
(nok (.boolean) 1).bind fun _ => some (1, r6.2)))))))
theorem eX10_is {y : Fx (Int32 × Wd)} {F L F9 L9 : Nat} (hk : OkF y RX10 cX10_is 4 F L) (hR : RetM y rvI (some (.boolean))) (hF1 : F9 + 1 ≤ F ∧ 60 + L9 ≤ L) (hF2 : 2 ≤ F ∧ 60 ≤ L) {sS : TySum} (hsS : HsSum (fl y) (fK y) F9 L9 sS) (this : Nat) (a0 : Option Nat) (w : Wd) : V y w [(0, va_rf (some this)), (1, va_rf a0)] [] 0 (mX10_is sS this a0 w) := by
  unfold mX10_is
  refine V_aload_n (pc := 0) hk dX10_is_0 0 rfl ?_
  refine g_X10_13 (pc := 1) hk dX10_is_1 (fun v1 => ?_)
  refine V_aload_n (pc := 4) hk dX10_is_4 1 rfl ?_
  refine V_ifSum (pc := 5) hk q960 hsS ⟨by omega, by omega⟩ (Nat.le_of_ble_eq_true rfl) dX10_is_5 (fun r3 => ?_)
  refine V_aload_n (pc := 10) hk dX10_is_10 0 rfl ?_
  refine g_X10_17 (pc := 11) hk dX10_is_11 (fun v4 => ?_)
  refine V_aload_n (pc := 14) hk dX10_is_14 1 rfl ?_
  refine V_ifSum (pc := 15) hk q960 hsS ⟨by omega, by omega⟩ (Nat.le_of_ble_eq_true rfl) dX10_is_15 (fun r6 => ?_)
  refine V_lsub (pc := 20) hk dX10_is_20 ?_
  refine V_lstore_n (pc := 21) (lc' := [(2, .long (r3.1 - r6.1)), (0, va_rf ((some this))), (1, va_rf a0)]) (i := 2) hk dX10_is_21 rfl (Nat.le_of_ble_eq_true rfl) (by simp [rf_cat, cat_int, cat_long, cat_ref]) ?_
  refine V_aload_n (pc := 22) hk dX10_is_22 1 rfl ?_
  refine g_X10_7 (pc := 23) hk dX10_is_23 (fun v7 => ?_)
  refine V_if (fun hx => ?_) (fun hn35 => ?_)
  · refine V_lookup (pc := 26) (tgt := 112) (off := 86) hk dX10_is_26 (by decide +kernel) (by rw [hx]; decide +kernel) rfl ?_
    refine V_lload_n (pc := 112) hk dX10_is_112 0 rfl ?_
    refine V_lconst (pc := 113) (v := 0) hk dX10_is_113 rfl ?_
    refine V_lcmp (pc := 114) hk dX10_is_114 ?_
    refine V_if_eq (pc := 115) (tgt := 122) hk dX10_is_115 rfl ?_ ?_
    · refine V_iconst (pc := 122) (v := 0) hk dX10_is_122 rfl ?_
      exact V_zreturn (pc := 123) hk hR rfl dX10_is_123
    · refine V_iconst (pc := 118) (v := 1) hk dX10_is_118 rfl ?_
      refine V_goto (pc := 119) (tgt := 123) hk dX10_is_119 rfl ?_
      exact V_zreturn (pc := 123) hk hR rfl dX10_is_123
  refine V_if (fun hx => ?_) (fun hn60 => ?_)
  · refine V_lookup (pc := 26) (tgt := 76) (off := 50) hk dX10_is_26 (by decide +kernel) (by rw [hx]; decide +kernel) rfl ?_
    refine V_lload_n (pc := 76) hk dX10_is_76 0 rfl ?_
    refine V_lconst (pc := 77) (v := 0) hk dX10_is_77 rfl ?_
    refine V_lcmp (pc := 78) hk dX10_is_78 ?_
    refine V_if_ge (pc := 79) (tgt := 86) hk dX10_is_79 rfl ?_ ?_
    · refine V_iconst (pc := 86) (v := 0) hk dX10_is_86 rfl ?_
      exact V_zreturn (pc := 87) hk hR rfl dX10_is_87
    · refine V_iconst (pc := 82) (v := 1) hk dX10_is_82 rfl ?_
      refine V_goto (pc := 83) (tgt := 87) hk dX10_is_83 rfl ?_
      exact V_zreturn (pc := 87) hk hR rfl dX10_is_87
  refine V_if (fun hx => ?_) (fun hn61 => ?_)
  · refine V_lookup (pc := 26) (tgt := 100) (off := 74) hk dX10_is_26 (by decide +kernel) (by rw [hx]; decide +kernel) rfl ?_
    refine V_lload_n (pc := 100) hk dX10_is_100 0 rfl ?_
    refine V_lconst (pc := 101) (v := 0) hk dX10_is_101 rfl ?_
    refine V_lcmp (pc := 102) hk dX10_is_102 ?_
    refine V_if_ne (pc := 103) (tgt := 110) hk dX10_is_103 rfl ?_ ?_
    · refine V_iconst (pc := 110) (v := 0) hk dX10_is_110 rfl ?_
      exact V_zreturn (pc := 111) hk hR rfl dX10_is_111
    · refine V_iconst (pc := 106) (v := 1) hk dX10_is_106 rfl ?_
      refine V_goto (pc := 107) (tgt := 111) hk dX10_is_107 rfl ?_
      exact V_zreturn (pc := 111) hk hR rfl dX10_is_111
  refine V_if (fun hx => ?_) (fun hn62 => ?_)
  · refine V_lookup (pc := 26) (tgt := 88) (off := 62) hk dX10_is_26 (by decide +kernel) (by rw [hx]; decide +kernel) rfl ?_
    refine V_lload_n (pc := 88) hk dX10_is_88 0 rfl ?_
    refine V_lconst (pc := 89) (v := 0) hk dX10_is_89 rfl ?_
    refine V_lcmp (pc := 90) hk dX10_is_90 ?_
    refine V_if_le (pc := 91) (tgt := 98) hk dX10_is_91 rfl ?_ ?_
    · refine V_iconst (pc := 98) (v := 0) hk dX10_is_98 rfl ?_
      exact V_zreturn (pc := 99) hk hR rfl dX10_is_99
    · refine V_iconst (pc := 94) (v := 1) hk dX10_is_94 rfl ?_
      refine V_goto (pc := 95) (tgt := 99) hk dX10_is_95 rfl ?_
      exact V_zreturn (pc := 99) hk hR rfl dX10_is_99
  refine V_if (fun hx => ?_) (fun hn303 => ?_)
  · refine V_lookup (pc := 26) (tgt := 124) (off := 98) hk dX10_is_26 (by decide +kernel) (by rw [hx]; decide +kernel) rfl ?_
    refine V_lload_n (pc := 124) hk dX10_is_124 0 rfl ?_
    refine V_lconst (pc := 125) (v := 0) hk dX10_is_125 rfl ?_
    refine V_lcmp (pc := 126) hk dX10_is_126 ?_
    refine V_if_gt (pc := 127) (tgt := 134) hk dX10_is_127 rfl ?_ ?_
    · refine V_iconst (pc := 134) (v := 0) hk dX10_is_134 rfl ?_
      exact V_zreturn (pc := 135) hk hR rfl dX10_is_135
    · refine V_iconst (pc := 130) (v := 1) hk dX10_is_130 rfl ?_
      refine V_goto (pc := 131) (tgt := 135) hk dX10_is_131 rfl ?_
      exact V_zreturn (pc := 135) hk hR rfl dX10_is_135
  refine V_lookup (pc := 26) (tgt := 136) (off := 110) hk dX10_is_26 (by decide +kernel) (by simp [Op.lookupswitch.offset, i32ne2 hn35 (show (35 : Int32).toInt = 35 by decide +kernel), i32ne2 hn60 (show (60 : Int32).toInt = 60 by decide +kernel), i32ne2 hn61 (show (61 : Int32).toInt = 61 by decide +kernel), i32ne2 hn62 (show (62 : Int32).toInt = 62 by decide +kernel), i32ne2 hn303 (show (303 : Int32).toInt = 303 by decide +kernel)]) rfl ?_
  refine V_lload_n (pc := 136) hk dX10_is_136 0 rfl ?_
  refine V_lconst (pc := 137) (v := 0) hk dX10_is_137 rfl ?_
  refine V_lcmp (pc := 138) hk dX10_is_138 ?_
  refine V_if_lt (pc := 139) (tgt := 146) hk dX10_is_139 rfl ?_ ?_
  · refine V_iconst (pc := 146) (v := 0) hk dX10_is_146 rfl ?_
    exact V_zreturn (pc := 147) hk hR rfl dX10_is_147
  · refine V_iconst (pc := 142) (v := 1) hk dX10_is_142 rfl ?_
    refine V_goto (pc := 143) (tgt := 147) hk dX10_is_143 rfl ?_
    exact V_zreturn (pc := 147) hk hR rfl dX10_is_147
noncomputable def mX11_is_b4 (sA : TyAsk) (k4 : Wd → (Option Nat) → (Option Nat) → Int32 → Int32 → Option (Int32 × Wd)) (w : Wd) (l0 : Option Nat) (l1 : Option Nat) (l2 : Int32) (l3 : Int32) : Option (Int32 × Wd) :=
(gR w l0 11 1).bind fun v1 =>
(recv w v1 16).bind fun b3 => (cal w (mJ2_size b3 w)).bind fun r2 =>
if r2.1 ≤ l3 then (
(gI r2.2 l0 11 0).bind fun v4 =>
if v4 = 0 then (
if l2 ≤ 0 then (
(nok (.boolean) 0).bind fun _ => some (0, r2.2))
else (
(nok (.boolean) 1).bind fun _ => some (1, r2.2)))
else (
(gR r2.2 l0 11 1).bind fun v5 =>
(recv r2.2 v5 16).bind fun b7 => (cal r2.2 (mJ2_size b7 r2.2)).bind fun r6 =>
if ¬ l2 = r6.1 then (
(nok (.boolean) 0).bind fun _ => some (0, r6.2))
else (
(nok (.boolean) 1).bind fun _ => some (1, r6.2))))
else (
(gR r2.2 l0 11 1).bind fun v8 =>
(recv r2.2 v8 16).bind fun b10 => (cal r2.2 (mJ2_get b10 l3 r2.2)).bind fun r9 =>
(ccast r9.2 clAsk r9.1).bind fun _ =>
(r9.1).bind fun b12 => (cal r9.2 (dAsk sA b12 l1 r9.2)).bind fun r13 =>
if r13.1 = 0 then (
k4 r13.2 l0 l1 (l2 + 0) (l3 + 1))
else (
k4 r13.2 l0 l1 (l2 + 1) (l3 + 1)))
noncomputable def mX11_is_l4 (sA : TyAsk) : Nat → Wd → (Option Nat) → (Option Nat) → Int32 → Int32 → Option (Int32 × Wd)
  | 0, _, _, _, _, _ => none
  | n + 1, w, l0, l1, l2, l3 => mX11_is_b4 sA (mX11_is_l4 sA n) w l0 l1 l2 l3
noncomputable def mX11_is (sA : TyAsk) (this : Nat) (a0 : Option Nat) (w : Wd) : Option (Int32 × Wd) :=
mX11_is_l4 sA FU w ((some this)) a0 0 0
theorem eX11_is_b4 {y : Fx (Int32 × Wd)} {F L F9 L9 : Nat} (hk : OkF y RX11 cX11_is 4 F L) (hR : RetM y rvI (some (.boolean))) (hF1 : F9 + 1 ≤ F ∧ 60 + L9 ≤ L) (hF2 : 5 ≤ F ∧ 124 ≤ L) {sA : TyAsk} (hsA : HsAsk (fl y) (fK y) F9 L9 sA) {k4 : Wd → (Option Nat) → (Option Nat) → Int32 → Int32 → Option (Int32 × Wd)} (h4 : ∀ (w : Wd) (l0 : Option Nat) (l1 : Option Nat) (l2 : Int32) (l3 : Int32), V y w [(0, va_rf l0), (1, va_rf l1), (2, .int l2), (3, .int l3)] [] 4 (k4 w l0 l1 l2 l3)) (w : Wd) (l0 : Option Nat) (l1 : Option Nat) (l2 : Int32) (l3 : Int32) : V y w [(0, va_rf l0), (1, va_rf l1), (2, .int l2), (3, .int l3)] [] 4 (mX11_is_b4 sA k4 w l0 l1 l2 l3) := by
  unfold mX11_is_b4
  refine V_iload_n (pc := 4) hk dX11_is_4 3 rfl ?_
  refine V_aload_n (pc := 5) hk dX11_is_5 0 rfl ?_
  refine g_X11_13 (pc := 6) hk dX11_is_6 (fun v1 => ?_)
  refine n_X11_17 (pc := 9) hk (fun b r h => ctJ2_size (fl y) (fK y) hk.2.2.2.2.2.2.2.1 b w r h) ⟨by omega, by omega⟩ (Nat.le_of_ble_eq_true rfl) dX11_is_9 (fun r2 => ?_)
  refine V_icmp_ge (pc := 12) (tgt := 49) hk dX11_is_12 rfl ?_ ?_
  · refine V_aload_n (pc := 49) hk dX11_is_49 0 rfl ?_
    refine g_X11_7 (pc := 50) hk dX11_is_50 (fun v4 => ?_)
    refine V_if_eq (pc := 53) (tgt := 75) hk dX11_is_53 rfl ?_ ?_
    · refine V_iload_n (pc := 75) hk dX11_is_75 2 rfl ?_
      refine V_if_le (pc := 76) (tgt := 83) hk dX11_is_76 rfl ?_ ?_
      · refine V_iconst (pc := 83) (v := 0) hk dX11_is_83 rfl ?_
        exact V_zreturn (pc := 84) hk hR rfl dX11_is_84
      · refine V_iconst (pc := 79) (v := 1) hk dX11_is_79 rfl ?_
        refine V_goto (pc := 80) (tgt := 84) hk dX11_is_80 rfl ?_
        exact V_zreturn (pc := 84) hk hR rfl dX11_is_84
    · refine V_iload_n (pc := 56) hk dX11_is_56 2 rfl ?_
      refine V_aload_n (pc := 57) hk dX11_is_57 0 rfl ?_
      refine g_X11_13 (pc := 58) hk dX11_is_58 (fun v5 => ?_)
      refine n_X11_17 (pc := 61) hk (fun b r h => ctJ2_size (fl y) (fK y) hk.2.2.2.2.2.2.2.1 b r2.2 r h) ⟨by omega, by omega⟩ (Nat.le_of_ble_eq_true rfl) dX11_is_61 (fun r6 => ?_)
      refine V_icmp_ne (pc := 64) (tgt := 71) hk dX11_is_64 rfl ?_ ?_
      · refine V_iconst (pc := 71) (v := 0) hk dX11_is_71 rfl ?_
        refine V_goto (pc := 72) (tgt := 84) hk dX11_is_72 rfl ?_
        exact V_zreturn (pc := 84) hk hR rfl dX11_is_84
      · refine V_iconst (pc := 67) (v := 1) hk dX11_is_67 rfl ?_
        refine V_goto (pc := 68) (tgt := 84) hk dX11_is_68 rfl ?_
        exact V_zreturn (pc := 84) hk hR rfl dX11_is_84
  · refine V_iload_n (pc := 15) hk dX11_is_15 2 rfl ?_
    refine V_aload_n (pc := 16) hk dX11_is_16 0 rfl ?_
    refine g_X11_13 (pc := 17) hk dX11_is_17 (fun v8 => ?_)
    refine V_iload_n (pc := 20) hk dX11_is_20 3 rfl ?_
    refine n_X11_23 (pc := 21) hk (fun b r h => ctJ2_get (fl y) (fK y) hk.2.2.2.2.2.2.2.1 b l3 r2.2 r h) ⟨by omega, by omega⟩ (Nat.le_of_ble_eq_true rfl) dX11_is_21 (fun r9 => ?_)
    refine V_cast (pc := 24) hk cst_Ask q950 dX11_is_24 ?_
    refine V_aload_n (pc := 27) hk dX11_is_27 1 rfl ?_
    refine V_ifAsk (pc := 28) hk q952 hsA ⟨by omega, by omega⟩ (Nat.le_of_ble_eq_true rfl) dX11_is_28 (fun r13 => ?_)
    refine V_if_eq (pc := 33) (tgt := 40) hk dX11_is_33 rfl ?_ ?_
    · refine V_iconst (pc := 40) (v := 0) hk dX11_is_40 rfl ?_
      refine V_iadd (pc := 41) hk dX11_is_41 ?_
      refine V_istore_n (pc := 42) (lc' := [(2, .int (l2 + 0)), (0, va_rf l0), (1, va_rf l1), (3, .int l3)]) (i := 2) hk dX11_is_42 rfl (Nat.le_of_ble_eq_true rfl) (by simp [rf_cat, cat_int, cat_long, cat_ref]) ?_
      refine V_iinc (pc := 43) (v := 1) (lc' := [(3, .int (l3 + 1)), (2, .int (l2 + 0)), (0, va_rf l0), (1, va_rf l1)]) hk dX11_is_43 3 rfl rfl (Nat.le_of_ble_eq_true rfl) rfl ?_
      refine V_goto (pc := 46) (tgt := 4) hk dX11_is_46 rfl ?_
      refine V_pick (lc' := [(0, va_rf l0), (1, va_rf l1), (2, .int (l2 + 0)), (3, .int (l3 + 1))]) [2, 3, 1, 0] rfl ?_
      exact h4 r13.2 l0 l1 (l2 + 0) (l3 + 1)
    · refine V_iconst (pc := 36) (v := 1) hk dX11_is_36 rfl ?_
      refine V_goto (pc := 37) (tgt := 41) hk dX11_is_37 rfl ?_
      refine V_iadd (pc := 41) hk dX11_is_41 ?_
      refine V_istore_n (pc := 42) (lc' := [(2, .int (l2 + 1)), (0, va_rf l0), (1, va_rf l1), (3, .int l3)]) (i := 2) hk dX11_is_42 rfl (Nat.le_of_ble_eq_true rfl) (by simp [rf_cat, cat_int, cat_long, cat_ref]) ?_
      refine V_iinc (pc := 43) (v := 1) (lc' := [(3, .int (l3 + 1)), (2, .int (l2 + 1)), (0, va_rf l0), (1, va_rf l1)]) hk dX11_is_43 3 rfl rfl (Nat.le_of_ble_eq_true rfl) rfl ?_
      refine V_goto (pc := 46) (tgt := 4) hk dX11_is_46 rfl ?_
      refine V_pick (lc' := [(0, va_rf l0), (1, va_rf l1), (2, .int (l2 + 1)), (3, .int (l3 + 1))]) [2, 3, 1, 0] rfl ?_
      exact h4 r13.2 l0 l1 (l2 + 1) (l3 + 1)
theorem eX11_is_l4 {y : Fx (Int32 × Wd)} {F L F9 L9 : Nat} (hk : OkF y RX11 cX11_is 4 F L) (hR : RetM y rvI (some (.boolean))) (hF1 : F9 + 1 ≤ F ∧ 60 + L9 ≤ L) (hF2 : 5 ≤ F ∧ 124 ≤ L) {sA : TyAsk} (hsA : HsAsk (fl y) (fK y) F9 L9 sA) : ∀ (n : Nat) (w : Wd) (l0 : Option Nat) (l1 : Option Nat) (l2 : Int32) (l3 : Int32), V y w [(0, va_rf l0), (1, va_rf l1), (2, .int l2), (3, .int l3)] [] 4 (mX11_is_l4 sA n w l0 l1 l2 l3) := by
  intro n
  induction n with
  | zero => intro w l0 l1 l2 l3; exact V_none
  | succ n ih => intro w l0 l1 l2 l3; exact eX11_is_b4 hk hR hF1 hF2 hsA ih w l0 l1 l2 l3
theorem eX11_is {y : Fx (Int32 × Wd)} {F L F9 L9 : Nat} (hk : OkF y RX11 cX11_is 4 F L) (hR : RetM y rvI (some (.boolean))) (hF1 : F9 + 1 ≤ F ∧ 60 + L9 ≤ L) (hF2 : 5 ≤ F ∧ 124 ≤ L) {sA : TyAsk} (hsA : HsAsk (fl y) (fK y) F9 L9 sA) (this : Nat) (a0 : Option Nat) (w : Wd) : V y w [(0, va_rf (some this)), (1, va_rf a0)] [] 0 (mX11_is sA this a0 w) := by
  unfold mX11_is
  refine V_iconst (pc := 0) (v := 0) hk dX11_is_0 rfl ?_
  refine V_istore_n (pc := 1) (lc' := [(2, .int 0), (0, va_rf ((some this))), (1, va_rf a0)]) (i := 2) hk dX11_is_1 rfl (Nat.le_of_ble_eq_true rfl) (by simp [rf_cat, cat_int, cat_long, cat_ref]) ?_
  refine V_iconst (pc := 2) (v := 0) hk dX11_is_2 rfl ?_
  refine V_istore_n (pc := 3) (lc' := [(3, .int 0), (2, .int 0), (0, va_rf ((some this))), (1, va_rf a0)]) (i := 3) hk dX11_is_3 rfl (Nat.le_of_ble_eq_true rfl) rfl ?_
  refine V_pick (lc' := [(0, va_rf ((some this))), (1, va_rf a0), (2, .int 0), (3, .int 0)]) [2, 3, 1, 0] rfl ?_
  exact eX11_is_l4 hk hR hF1 hF2 hsA FU w ((some this)) a0 0 0
/-- the objects' own methods, to a depth -/
noncomputable def ev9 : Nat → TySum × TyAsk
  | 0 => (fun _ _ _ _ => none, fun _ _ _ _ => none)
  | d + 1 => (fun ci a v w => if ci = 6 then mX6_of (ev9 d).1 a v w else if ci = 7 then mX7_of a v w else if ci = 8 then mX8_of a v w else if ci = 12 then mX12_of (ev9 d).1 (ev9 d).2 a v w else if ci = 13 then mX13_of (ev9 d).1 a v w else if ci = 14 then mX14_of (ev9 d).1 a v w else none, fun ci a v w => if ci = 9 then mX9_is (ev9 d).2 a v w else if ci = 10 then mX10_is (ev9 d).1 a v w else if ci = 11 then mX11_is (ev9 d).2 a v w else none)
def EVD : Nat := 100
theorem hev9 (l : Launch) (K : Kx) (hI : Ini K) : ∀ d : Nat, HsSum l K (5 + d) (124 + 60 * d) (ev9 d).1 ∧ HsAsk l K (5 + d) (124 + 60 * d) (ev9 d).2 := by
  intro d
  induction d with
  | zero => exact ⟨fun ci a v w r h => (by cases h), fun ci a v w r h => (by cases h)⟩
  | succ d ih =>
  refine ⟨?_, ?_⟩
  · intro ci a v w r h
    simp only [ev9] at h
    by_cases hX6 : ci = 6
    · rw [if_pos hX6] at h
      have HC := Ct_of rvJ l K hI (5 + (d + 1)) (124 + 60 * (d + 1)) (yy := yX6_of) (cc := cX6_of) (nL := 10) (ret := (some (.long))) [.ref a, va_rf v] w (by decide) (lc0 := [(0, .ref a), (1, va_rf v)]) (by simp [lv_args, rf_cat, cat_int, cat_long, cat_ref]) (lg_len _ _ (by simp [rf_cat, cat_int, cat_long, cat_ref])) (fun y hk hR hl hK hin => eX6_of (F9 := 5 + d) (L9 := 124 + 60 * d) hk hR ⟨by omega, by omega⟩ ⟨by omega, by omega⟩ (by rw [hl, hK]; exact ih.1) a v w) r h
      exact Or.inl ⟨hX6, HC⟩
    rw [if_neg hX6] at h
    by_cases hX7 : ci = 7
    · rw [if_pos hX7] at h
      have HC := Ct_of rvJ l K hI (5 + (d + 1)) (124 + 60 * (d + 1)) (yy := yX7_of) (cc := cX7_of) (nL := 2) (ret := (some (.long))) [.ref a, va_rf v] w (by decide) (lc0 := [(0, .ref a), (1, va_rf v)]) (by simp [lv_args, rf_cat, cat_int, cat_long, cat_ref]) (lg_len _ _ (by simp [rf_cat, cat_int, cat_long, cat_ref])) (fun y hk hR hl hK hin => eX7_of (F9 := 5 + d) (L9 := 124 + 60 * d) hk hR ⟨by omega, by omega⟩ ⟨by omega, by omega⟩ a v w) r h
      exact Or.inr (Or.inl ⟨hX7, HC⟩)
    rw [if_neg hX7] at h
    by_cases hX8 : ci = 8
    · rw [if_pos hX8] at h
      have HC := Ct_of rvJ l K hI (5 + (d + 1)) (124 + 60 * (d + 1)) (yy := yX8_of) (cc := cX8_of) (nL := 2) (ret := (some (.long))) [.ref a, va_rf v] w (by decide) (lc0 := [(0, .ref a), (1, va_rf v)]) (by simp [lv_args, rf_cat, cat_int, cat_long, cat_ref]) (lg_len _ _ (by simp [rf_cat, cat_int, cat_long, cat_ref])) (fun y hk hR hl hK hin => eX8_of (F9 := 5 + d) (L9 := 124 + 60 * d) hk hR ⟨by omega, by omega⟩ ⟨by omega, by omega⟩ a v w) r h
      exact Or.inr (Or.inr (Or.inl ⟨hX8, HC⟩))
    rw [if_neg hX8] at h
    by_cases hX12 : ci = 12
    · rw [if_pos hX12] at h
      have HC := Ct_of rvJ l K hI (5 + (d + 1)) (124 + 60 * (d + 1)) (yy := yX12_of) (cc := cX12_of) (nL := 2) (ret := (some (.long))) [.ref a, va_rf v] w (by decide) (lc0 := [(0, .ref a), (1, va_rf v)]) (by simp [lv_args, rf_cat, cat_int, cat_long, cat_ref]) (lg_len _ _ (by simp [rf_cat, cat_int, cat_long, cat_ref])) (fun y hk hR hl hK hin => eX12_of (F9 := 5 + d) (L9 := 124 + 60 * d) hk hR ⟨by omega, by omega⟩ ⟨by omega, by omega⟩ (by rw [hl, hK]; exact ih.1) (by rw [hl, hK]; exact ih.2) a v w) r h
      exact Or.inr (Or.inr (Or.inr (Or.inl ⟨hX12, HC⟩)))
    rw [if_neg hX12] at h
    by_cases hX13 : ci = 13
    · rw [if_pos hX13] at h
      have HC := Ct_of rvJ l K hI (5 + (d + 1)) (124 + 60 * (d + 1)) (yy := yX13_of) (cc := cX13_of) (nL := 2) (ret := (some (.long))) [.ref a, va_rf v] w (by decide) (lc0 := [(0, .ref a), (1, va_rf v)]) (by simp [lv_args, rf_cat, cat_int, cat_long, cat_ref]) (lg_len _ _ (by simp [rf_cat, cat_int, cat_long, cat_ref])) (fun y hk hR hl hK hin => eX13_of (F9 := 5 + d) (L9 := 124 + 60 * d) hk hR ⟨by omega, by omega⟩ ⟨by omega, by omega⟩ (by rw [hl, hK]; exact ih.1) a v w) r h
      exact Or.inr (Or.inr (Or.inr (Or.inr (Or.inl ⟨hX13, HC⟩))))
    rw [if_neg hX13] at h
    by_cases hX14 : ci = 14
    · rw [if_pos hX14] at h
      have HC := Ct_of rvJ l K hI (5 + (d + 1)) (124 + 60 * (d + 1)) (yy := yX14_of) (cc := cX14_of) (nL := 2) (ret := (some (.long))) [.ref a, va_rf v] w (by decide) (lc0 := [(0, .ref a), (1, va_rf v)]) (by simp [lv_args, rf_cat, cat_int, cat_long, cat_ref]) (lg_len _ _ (by simp [rf_cat, cat_int, cat_long, cat_ref])) (fun y hk hR hl hK hin => eX14_of (F9 := 5 + d) (L9 := 124 + 60 * d) hk hR ⟨by omega, by omega⟩ ⟨by omega, by omega⟩ (by rw [hl, hK]; exact ih.1) a v w) r h
      exact Or.inr (Or.inr (Or.inr (Or.inr (Or.inr (⟨hX14, HC⟩)))))
    rw [if_neg hX14] at h
    cases h
  · intro ci a v w r h
    simp only [ev9] at h
    by_cases hX9 : ci = 9
    · rw [if_pos hX9] at h
      have HC := Ct_of rvI l K hI (5 + (d + 1)) (124 + 60 * (d + 1)) (yy := yX9_is) (cc := cX9_is) (nL := 2) (ret := (some (.boolean))) [.ref a, va_rf v] w (by decide) (lc0 := [(0, .ref a), (1, va_rf v)]) (by simp [lv_args, rf_cat, cat_int, cat_long, cat_ref]) (lg_len _ _ (by simp [rf_cat, cat_int, cat_long, cat_ref])) (fun y hk hR hl hK hin => eX9_is (F9 := 5 + d) (L9 := 124 + 60 * d) hk hR ⟨by omega, by omega⟩ ⟨by omega, by omega⟩ (by rw [hl, hK]; exact ih.2) a v w) r h
      exact Or.inl ⟨hX9, HC⟩
    rw [if_neg hX9] at h
    by_cases hX10 : ci = 10
    · rw [if_pos hX10] at h
      have HC := Ct_of rvI l K hI (5 + (d + 1)) (124 + 60 * (d + 1)) (yy := yX10_is) (cc := cX10_is) (nL := 4) (ret := (some (.boolean))) [.ref a, va_rf v] w (by decide) (lc0 := [(0, .ref a), (1, va_rf v)]) (by simp [lv_args, rf_cat, cat_int, cat_long, cat_ref]) (lg_len _ _ (by simp [rf_cat, cat_int, cat_long, cat_ref])) (fun y hk hR hl hK hin => eX10_is (F9 := 5 + d) (L9 := 124 + 60 * d) hk hR ⟨by omega, by omega⟩ ⟨by omega, by omega⟩ (by rw [hl, hK]; exact ih.1) a v w) r h
      exact Or.inr (Or.inl ⟨hX10, HC⟩)
    rw [if_neg hX10] at h
    by_cases hX11 : ci = 11
    · rw [if_pos hX11] at h
      have HC := Ct_of rvI l K hI (5 + (d + 1)) (124 + 60 * (d + 1)) (yy := yX11_is) (cc := cX11_is) (nL := 4) (ret := (some (.boolean))) [.ref a, va_rf v] w (by decide) (lc0 := [(0, .ref a), (1, va_rf v)]) (by simp [lv_args, rf_cat, cat_int, cat_long, cat_ref]) (lg_len _ _ (by simp [rf_cat, cat_int, cat_long, cat_ref])) (fun y hk hR hl hK hin => eX11_is (F9 := 5 + d) (L9 := 124 + 60 * d) hk hR ⟨by omega, by omega⟩ ⟨by omega, by omega⟩ (by rw [hl, hK]; exact ih.2) a v w) r h
      exact Or.inr (Or.inr (⟨hX11, HC⟩))
    rw [if_neg hX11] at h
    cases h

