noncomputable def mX0_init (this : Nat) (w : Wd) : Option (Unit × Wd) :=
(((some this))).bind fun b1 =>
(some (wnew w (.inr (1, df9_X1)) 7)).bind fun (w2 : Wd) =>
(((some (wnx w)))).bind fun b4 => (cal w2 (mX1_init b4 w2)).bind fun r3 =>
(pf r3.2 ((some this)) 0 0 (va_rf ((some (wnx w))))).bind fun w5 =>
(some (wnew w5 (.inr (1, df9_X1)) 7)).bind fun (w6 : Wd) =>
(((some (wnx w5)))).bind fun b8 => (cal w6 (mX1_init b8 w6)).bind fun r7 =>
(pf r7.2 ((some this)) 0 1 (va_rf ((some (wnx w5))))).bind fun w9 =>
(nchk 300).bind fun n10 => (some (wnew w9 (.inl (.byte, n10, .inl (fun _ => 0))) n10)).bind fun (w11 : Wd) =>
(pf w11 ((some this)) 0 2 (va_rf ((some (wnx w9))))).bind fun w12 =>
(pf w12 ((some this)) 0 4 (.int (-1))).bind fun w13 =>
(pf w13 ((some this)) 0 5 (.int (-1))).bind fun w14 =>
(nchk 53).bind fun n15 => (some (wnew w14 (.inl (.int, n15, .inl (fun _ => 0))) n15)).bind fun (w16 : Wd) =>
(pf w16 ((some this)) 0 6 (va_rf ((some (wnx w14))))).bind fun w17 =>
(nchk 413).bind fun n18 => (some (wnew w17 (.inl (.int, n18, .inl (fun _ => 0))) n18)).bind fun (w19 : Wd) =>
(pf w19 ((some this)) 0 8 (va_rf ((some (wnx w17))))).bind fun w20 =>
(nchk 8).bind fun n21 => (nchk 413).bind fun n22 => (some (wnew2 w20 n21 n22)).bind fun (w23 : Wd) =>
(pf w23 ((some this)) 0 11 (va_rf ((some (wnx w20))))).bind fun w24 =>
(nchk 7).bind fun n25 => (some (wnew w24 (.inl (.int, n25, .inl (fun _ => 0))) n25)).bind fun (w26 : Wd) =>
(pf w26 ((some this)) 0 12 (va_rf ((some (wnx w24))))).bind fun w27 =>
(nchk 413).bind fun n28 => (some (wnew w27 (.inl (.int, n28, .inl (fun _ => 0))) n28)).bind fun (w29 : Wd) =>
(pf w29 ((some this)) 0 13 (va_rf ((some (wnx w27))))).bind fun w30 =>
(nchk 8).bind fun n31 => (some (wnew w30 (.inl (.int, n31, .inl (fun _ => 0))) n31)).bind fun (w32 : Wd) =>
(pf w32 ((some this)) 0 14 (va_rf ((some (wnx w30))))).bind fun w33 =>
(nchk 8).bind fun n34 => (some (wnew w33 (.inl (.int, n34, .inl (fun _ => 0))) n34)).bind fun (w35 : Wd) =>
(pf w35 ((some this)) 0 15 (va_rf ((some (wnx w33))))).bind fun w36 =>
(nchk 8).bind fun n37 => (some (wnew w36 (.inl (.int, n37, .inl (fun _ => 0))) n37)).bind fun (w38 : Wd) =>
(pf w38 ((some this)) 0 16 (va_rf ((some (wnx w36))))).bind fun w39 =>
(nchk 8).bind fun n40 => (some (wnew w39 (.inl (.int, n40, .inl (fun _ => 0))) n40)).bind fun (w41 : Wd) =>
(pf w41 ((some this)) 0 17 (va_rf ((some (wnx w39))))).bind fun w42 =>
(nchk 8).bind fun n43 => (some (wnew w42 (.inl (.int, n43, .inl (fun _ => 0))) n43)).bind fun (w44 : Wd) =>
(pf w44 ((some this)) 0 18 (va_rf ((some (wnx w42))))).bind fun w45 =>
(nchk 8).bind fun n46 => (some (wnew w45 (.inl (.int, n46, .inl (fun _ => 0))) n46)).bind fun (w47 : Wd) =>
(pf w47 ((some this)) 0 19 (va_rf ((some (wnx w45))))).bind fun w48 =>
(gR w48 ((some this)) 0 1).bind fun v49 =>
(gR w48 ((some this)) 0 0).bind fun v50 =>
(recv w48 v49 1).bind fun b52 => (cal w48 (mX1_be b52 v50 w48)).bind fun r51 =>
some ((), r51.2)
theorem eX0_init {y : Fx (Unit × Wd)} (hk : OkF y RX0 cX0_init 1 5 124) (hR : RetM y rvV none) (hin : (fmeth y).name = "<init>") (this : Nat) (w : Wd) : V y w [(0, va_rf (some this))] [] 0 (mX0_init this w) := by
  unfold mX0_init
  refine V_aload_n (pc := 0) hk dX0_init_0 0 rfl ?_
  refine V_objInit (pc := 1) hk q169 q170 q171 ⟨Nat.le_of_ble_eq_true rfl, Nat.le_of_ble_eq_true rfl⟩ (Nat.le_of_ble_eq_true rfl) dX0_init_1 (fun b1 => ?_)
  refine V_aload_n (pc := 4) hk dX0_init_4 0 rfl ?_
  refine o_X0_18 (pc := 5) hk dX0_init_5 ?_
  refine V_nmW (fun w2 => ?_)
  refine V_dup (pc := 8) hk dX0_init_8 (rf_cat _) ?_
  refine n_X0_20 (pc := 9) hk (fun b r h => ctX1_init (fl y) (fK y) hk.2.2.2.2.2.2.2.1 b w2 r h) ⟨Nat.le_of_ble_eq_true rfl, Nat.le_of_ble_eq_true rfl⟩ (by simp [rf_cat, cat_int, cat_long, cat_ref]) dX0_init_9 (fun r3 => ?_)
  refine p_X0_21 (pc := 12) hk hin dX0_init_12 (fun w5 => ?_)
  refine V_aload_n (pc := 15) hk dX0_init_15 0 rfl ?_
  refine o_X0_18 (pc := 16) hk dX0_init_16 ?_
  refine V_nmW (fun w6 => ?_)
  refine V_dup (pc := 19) hk dX0_init_19 (rf_cat _) ?_
  refine n_X0_20 (pc := 20) hk (fun b r h => ctX1_init (fl y) (fK y) hk.2.2.2.2.2.2.2.1 b w6 r h) ⟨Nat.le_of_ble_eq_true rfl, Nat.le_of_ble_eq_true rfl⟩ (by simp [rf_cat, cat_int, cat_long, cat_ref]) dX0_init_20 (fun r7 => ?_)
  refine p_X0_25 (pc := 23) hk hin dX0_init_23 (fun w9 => ?_)
  refine V_aload_n (pc := 26) hk dX0_init_26 0 rfl ?_
  refine V_sipush (pc := 27) (v := 300) hk dX0_init_27 rfl ?_
  refine V_na_byte (pc := 30) hk dX0_init_30 (fun n10 => ?_)
  refine V_nmW (fun w11 => ?_)
  refine p_X0_28 (pc := 32) hk hin dX0_init_32 (fun w12 => ?_)
  refine V_aload_n (pc := 35) hk dX0_init_35 0 rfl ?_
  refine V_iconst (pc := 36) (v := (-1)) hk dX0_init_36 (by decide +kernel) ?_
  refine p_X0_32 (pc := 37) hk dX0_init_37 (fun w13 => ?_)
  refine V_aload_n (pc := 40) hk dX0_init_40 0 rfl ?_
  refine V_iconst (pc := 41) (v := (-1)) hk dX0_init_41 (by decide +kernel) ?_
  refine p_X0_36 (pc := 42) hk dX0_init_42 (fun w14 => ?_)
  refine V_aload_n (pc := 45) hk dX0_init_45 0 rfl ?_
  refine V_bipush (pc := 46) (v := 53) hk dX0_init_46 rfl ?_
  refine V_na_int (pc := 48) hk dX0_init_48 (fun n15 => ?_)
  refine V_nmW (fun w16 => ?_)
  refine p_X0_39 (pc := 50) hk hin dX0_init_50 (fun w17 => ?_)
  refine V_aload_n (pc := 53) hk dX0_init_53 0 rfl ?_
  refine V_sipush (pc := 54) (v := 413) hk dX0_init_54 rfl ?_
  refine V_na_int (pc := 57) hk dX0_init_57 (fun n18 => ?_)
  refine V_nmW (fun w19 => ?_)
  refine p_X0_43 (pc := 59) hk hin dX0_init_59 (fun w20 => ?_)
  refine V_aload_n (pc := 62) hk dX0_init_62 0 rfl ?_
  refine V_bipush (pc := 63) (v := 8) hk dX0_init_63 rfl ?_
  refine V_sipush (pc := 65) (v := 413) hk dX0_init_65 rfl ?_
  refine V_multi (pc := 68) hk q212 q179 q211 dX0_init_68 (fun n21 n22 => ?_)
  refine V_nmW (fun w23 => ?_)
  refine p_X0_48 (pc := 72) hk hin dX0_init_72 (fun w24 => ?_)
  refine V_aload_n (pc := 75) hk dX0_init_75 0 rfl ?_
  refine V_bipush (pc := 76) (v := 7) hk dX0_init_76 rfl ?_
  refine V_na_int (pc := 78) hk dX0_init_78 (fun n25 => ?_)
  refine V_nmW (fun w26 => ?_)
  refine p_X0_51 (pc := 80) hk hin dX0_init_80 (fun w27 => ?_)
  refine V_aload_n (pc := 83) hk dX0_init_83 0 rfl ?_
  refine V_sipush (pc := 84) (v := 413) hk dX0_init_84 rfl ?_
  refine V_na_int (pc := 87) hk dX0_init_87 (fun n28 => ?_)
  refine V_nmW (fun w29 => ?_)
  refine p_X0_54 (pc := 89) hk hin dX0_init_89 (fun w30 => ?_)
  refine V_aload_n (pc := 92) hk dX0_init_92 0 rfl ?_
  refine V_bipush (pc := 93) (v := 8) hk dX0_init_93 rfl ?_
  refine V_na_int (pc := 95) hk dX0_init_95 (fun n31 => ?_)
  refine V_nmW (fun w32 => ?_)
  refine p_X0_57 (pc := 97) hk hin dX0_init_97 (fun w33 => ?_)
  refine V_aload_n (pc := 100) hk dX0_init_100 0 rfl ?_
  refine V_bipush (pc := 101) (v := 8) hk dX0_init_101 rfl ?_
  refine V_na_int (pc := 103) hk dX0_init_103 (fun n34 => ?_)
  refine V_nmW (fun w35 => ?_)
  refine p_X0_60 (pc := 105) hk hin dX0_init_105 (fun w36 => ?_)
  refine V_aload_n (pc := 108) hk dX0_init_108 0 rfl ?_
  refine V_bipush (pc := 109) (v := 8) hk dX0_init_109 rfl ?_
  refine V_na_int (pc := 111) hk dX0_init_111 (fun n37 => ?_)
  refine V_nmW (fun w38 => ?_)
  refine p_X0_63 (pc := 113) hk hin dX0_init_113 (fun w39 => ?_)
  refine V_aload_n (pc := 116) hk dX0_init_116 0 rfl ?_
  refine V_bipush (pc := 117) (v := 8) hk dX0_init_117 rfl ?_
  refine V_na_int (pc := 119) hk dX0_init_119 (fun n40 => ?_)
  refine V_nmW (fun w41 => ?_)
  refine p_X0_66 (pc := 121) hk hin dX0_init_121 (fun w42 => ?_)
  refine V_aload_n (pc := 124) hk dX0_init_124 0 rfl ?_
  refine V_bipush (pc := 125) (v := 8) hk dX0_init_125 rfl ?_
  refine V_na_int (pc := 127) hk dX0_init_127 (fun n43 => ?_)
  refine V_nmW (fun w44 => ?_)
  refine p_X0_69 (pc := 129) hk hin dX0_init_129 (fun w45 => ?_)
  refine V_aload_n (pc := 132) hk dX0_init_132 0 rfl ?_
  refine V_bipush (pc := 133) (v := 8) hk dX0_init_133 rfl ?_
  refine V_na_int (pc := 135) hk dX0_init_135 (fun n46 => ?_)
  refine V_nmW (fun w47 => ?_)
  refine p_X0_72 (pc := 137) hk hin dX0_init_137 (fun w48 => ?_)
  refine V_aload_n (pc := 140) hk dX0_init_140 0 rfl ?_
  refine g_X0_25 (pc := 141) hk dX0_init_141 (fun v49 => ?_)
  refine V_aload_n (pc := 144) hk dX0_init_144 0 rfl ?_
  refine g_X0_21 (pc := 145) hk dX0_init_145 (fun v50 => ?_)
  refine n_X0_75 (pc := 148) hk (fun b r h => ctX1_be (fl y) (fK y) hk.2.2.2.2.2.2.2.1 b v50 w48 r h) ⟨Nat.le_of_ble_eq_true rfl, Nat.le_of_ble_eq_true rfl⟩ (Nat.le_of_ble_eq_true rfl) dX0_init_148 (fun r51 => ?_)
  exact V_return (pc := 151) hk hR rfl dX0_init_151
theorem ctX0_init (l : Launch) (K : Kx) (hI : Ini K) (b : Nat) (w : Wd) : ∀ r, mX0_init b w = some r → Ct l K 5 124 yX0_init (ws_ yX0_init cX0_init 1 none) [.ref b] w (rvV r.1) r.2 := Ct_of rvV l K hI 5 124 [.ref b] w (by decide) (lc0 := [(0, .ref b)]) rfl (Nat.le_of_ble_eq_true rfl) (fun y hk hR _ _ hin => eX0_init hk hR hin b w)
noncomputable def mX0_in (a0 : Int32) (a1 : Int32) (a2 : Int32) (w : Wd) : Option (Int32 × Wd) :=
if a0 < a1 then (
(nok (.boolean) 0).bind fun _ => some (0, w))
else (
if a2 < a0 then (
(nok (.boolean) 0).bind fun _ => some (0, w))
else (
(nok (.boolean) 1).bind fun _ => some (1, w)))
theorem eX0_in {y : Fx (Int32 × Wd)} (hk : OkF y RX0 cX0_in 3 2 60) (hR : RetM y rvI (some (.boolean))) (a0 : Int32) (a1 : Int32) (a2 : Int32) (w : Wd) : V y w [(0, .int a0), (1, .int a1), (2, .int a2)] [] 0 (mX0_in a0 a1 a2 w) := by
  unfold mX0_in
  refine V_iload_n (pc := 0) hk dX0_in_0 0 rfl ?_
  refine V_iload_n (pc := 1) hk dX0_in_1 1 rfl ?_
  refine V_icmp_lt (pc := 2) (tgt := 14) hk dX0_in_2 rfl ?_ ?_
  · refine V_iconst (pc := 14) (v := 0) hk dX0_in_14 rfl ?_
    exact V_zreturn (pc := 15) hk hR rfl dX0_in_15
  · refine V_iload_n (pc := 5) hk dX0_in_5 0 rfl ?_
    refine V_iload_n (pc := 6) hk dX0_in_6 2 rfl ?_
    refine V_icmp_gt (pc := 7) (tgt := 14) hk dX0_in_7 rfl ?_ ?_
    · refine V_iconst (pc := 14) (v := 0) hk dX0_in_14 rfl ?_
      exact V_zreturn (pc := 15) hk hR rfl dX0_in_15
    · refine V_iconst (pc := 10) (v := 1) hk dX0_in_10 rfl ?_
      refine V_goto (pc := 11) (tgt := 15) hk dX0_in_11 rfl ?_
      exact V_zreturn (pc := 15) hk hR rfl dX0_in_15
theorem ctX0_in (l : Launch) (K : Kx) (hI : Ini K) (a0 : Int32) (a1 : Int32) (a2 : Int32) (w : Wd) : ∀ r, mX0_in a0 a1 a2 w = some r → Ct l K 2 60 yX0_in (ws_ yX0_in cX0_in 3 (some (.boolean))) [.int a0, .int a1, .int a2] w (rvI r.1) r.2 := Ct_of rvI l K hI 2 60 [.int a0, .int a1, .int a2] w (by decide) (lc0 := [(0, .int a0), (1, .int a1), (2, .int a2)]) rfl (Nat.le_of_ble_eq_true rfl) (fun y hk hR _ _ hin => eX0_in hk hR a0 a1 a2 w)
noncomputable def mX0_order (this : Nat) (a0 : Int32) (a1 : Int32) (a2 : Int32) (a3 : Int32) (a4 : Int32) (w : Wd) : Option (Int32 × Wd) :=
(gR w ((some this)) 0 0).bind fun v1 =>
(gR w v1 1 0).bind fun v2 =>
(ia w v2 0).bind fun v3 =>
(cal w (mX0_in a0 1 99 w)).bind fun r4 =>
if r4.1 = 0 then (
some ((-1), r4.2))
else (
(cal r4.2 (mX0_in a1 0 60 r4.2)).bind fun r5 =>
if r5.1 = 0 then (
some ((-1), r5.2))
else (
(cal r5.2 (mX0_in a2 0 999 r5.2)).bind fun r6 =>
if r6.1 = 0 then (
some ((-1), r6.2))
else (
(cal r6.2 (mX0_in a3 0 9 r6.2)).bind fun r7 =>
if r7.1 = 0 then (
some ((-1), r7.2))
else (
(cal r7.2 (mX0_in a4 0 1 r7.2)).bind fun r8 =>
if r8.1 = 0 then (
some ((-1), r8.2))
else (
if ¬ v3 = 8 then (
(nchk 5).bind fun n9 => (some (wnew r8.2 (.inl (.int, n9, .inl (fun _ => 0))) n9)).bind fun (w10 : Wd) =>
(ias w10 ((some (wnx r8.2))) 0 a0).bind fun w11 =>
(ias w11 ((some (wnx r8.2))) 1 a1).bind fun w12 =>
(ias w12 ((some (wnx r8.2))) 2 a2).bind fun w13 =>
(ias w13 ((some (wnx r8.2))) 3 a3).bind fun w14 =>
(ias w14 ((some (wnx r8.2))) 4 a4).bind fun w15 =>
(gR w15 ((some this)) 0 0).bind fun v16 =>
(gR w15 v16 1 2).bind fun v17 =>
(aa w15 v17 v3).bind fun v18 =>
(cal w15 (mX1_copy ((some (wnx r8.2))) v18 w15)).bind fun r19 =>
(gR r19.2 ((some this)) 0 0).bind fun v20 =>
(gR r19.2 v20 1 0).bind fun v21 =>
(ia r19.2 v21 0).bind fun v22 =>
(ias r19.2 v21 0 (v22 + 1)).bind fun w23 =>
some (v3, w23))
else (
some ((-1), r8.2)))))))
theorem eX0_order {y : Fx (Int32 × Wd)} (hk : OkF y RX0 cX0_order 8 3 82) (hR : RetM y rvI (some (.int))) (this : Nat) (a0 : Int32) (a1 : Int32) (a2 : Int32) (a3 : Int32) (a4 : Int32) (w : Wd) : V y w [(0, va_rf (some this)), (1, .int a0), (2, .int a1), (3, .int a2), (4, .int a3), (5, .int a4)] [] 0 (mX0_order this a0 a1 a2 a3 a4 w) := by
  unfold mX0_order
  refine V_aload_n (pc := 0) hk dX0_order_0 0 rfl ?_
  refine g_X0_21 (pc := 1) hk dX0_order_1 (fun v1 => ?_)
  refine g_X0_79 (pc := 4) hk dX0_order_4 (fun v2 => ?_)
  refine V_iconst (pc := 7) (v := 0) hk dX0_order_7 rfl ?_
  refine V_iaload (pc := 8) hk dX0_order_8 (fun v3 => ?_)
  refine V_istore (pc := 9) (lc' := [(6, .int v3), (0, va_rf ((some this))), (1, .int a0), (2, .int a1), (3, .int a2), (4, .int a3), (5, .int a4)]) (i := 6) hk dX0_order_9 (Nat.le_of_ble_eq_true rfl) rfl ?_
  refine V_iload_n (pc := 11) hk dX0_order_11 2 rfl ?_
  refine V_iconst (pc := 12) (v := 1) hk dX0_order_12 rfl ?_
  refine V_bipush (pc := 13) (v := 99) hk dX0_order_13 rfl ?_
  refine n_X0_82 (pc := 15) hk (fun r h => ctX0_in (fl y) (fK y) hk.2.2.2.2.2.2.2.1 a0 1 99 w r h) ⟨Nat.le_of_ble_eq_true rfl, Nat.le_of_ble_eq_true rfl⟩ (Nat.le_of_ble_eq_true rfl) dX0_order_15 (fun r4 => ?_)
  refine V_if_eq (pc := 18) (tgt := 70) hk dX0_order_18 rfl ?_ ?_
  · refine V_iconst (pc := 70) (v := (-1)) hk dX0_order_70 (by decide +kernel) ?_
    exact V_ireturn (pc := 71) hk hR rfl dX0_order_71
  · refine V_iload_n (pc := 21) hk dX0_order_21 3 rfl ?_
    refine V_iconst (pc := 22) (v := 0) hk dX0_order_22 rfl ?_
    refine V_bipush (pc := 23) (v := 60) hk dX0_order_23 rfl ?_
    refine n_X0_82 (pc := 25) hk (fun r h => ctX0_in (fl y) (fK y) hk.2.2.2.2.2.2.2.1 a1 0 60 r4.2 r h) ⟨Nat.le_of_ble_eq_true rfl, Nat.le_of_ble_eq_true rfl⟩ (Nat.le_of_ble_eq_true rfl) dX0_order_25 (fun r5 => ?_)
    refine V_if_eq (pc := 28) (tgt := 70) hk dX0_order_28 rfl ?_ ?_
    · refine V_iconst (pc := 70) (v := (-1)) hk dX0_order_70 (by decide +kernel) ?_
      exact V_ireturn (pc := 71) hk hR rfl dX0_order_71
    · refine V_iload_n (pc := 31) hk dX0_order_31 4 rfl ?_
      refine V_iconst (pc := 32) (v := 0) hk dX0_order_32 rfl ?_
      refine V_sipush (pc := 33) (v := 999) hk dX0_order_33 rfl ?_
      refine n_X0_82 (pc := 36) hk (fun r h => ctX0_in (fl y) (fK y) hk.2.2.2.2.2.2.2.1 a2 0 999 r5.2 r h) ⟨Nat.le_of_ble_eq_true rfl, Nat.le_of_ble_eq_true rfl⟩ (Nat.le_of_ble_eq_true rfl) dX0_order_36 (fun r6 => ?_)
      refine V_if_eq (pc := 39) (tgt := 70) hk dX0_order_39 rfl ?_ ?_
      · refine V_iconst (pc := 70) (v := (-1)) hk dX0_order_70 (by decide +kernel) ?_
        exact V_ireturn (pc := 71) hk hR rfl dX0_order_71
      · refine V_iload (pc := 42) hk dX0_order_42 5 rfl ?_
        refine V_iconst (pc := 44) (v := 0) hk dX0_order_44 rfl ?_
        refine V_bipush (pc := 45) (v := 9) hk dX0_order_45 rfl ?_
        refine n_X0_82 (pc := 47) hk (fun r h => ctX0_in (fl y) (fK y) hk.2.2.2.2.2.2.2.1 a3 0 9 r6.2 r h) ⟨Nat.le_of_ble_eq_true rfl, Nat.le_of_ble_eq_true rfl⟩ (Nat.le_of_ble_eq_true rfl) dX0_order_47 (fun r7 => ?_)
        refine V_if_eq (pc := 50) (tgt := 70) hk dX0_order_50 rfl ?_ ?_
        · refine V_iconst (pc := 70) (v := (-1)) hk dX0_order_70 (by decide +kernel) ?_
          exact V_ireturn (pc := 71) hk hR rfl dX0_order_71
        · refine V_iload (pc := 53) hk dX0_order_53 6 rfl ?_
          refine V_iconst (pc := 55) (v := 0) hk dX0_order_55 rfl ?_
          refine V_iconst (pc := 56) (v := 1) hk dX0_order_56 rfl ?_
          refine n_X0_82 (pc := 57) hk (fun r h => ctX0_in (fl y) (fK y) hk.2.2.2.2.2.2.2.1 a4 0 1 r7.2 r h) ⟨Nat.le_of_ble_eq_true rfl, Nat.le_of_ble_eq_true rfl⟩ (Nat.le_of_ble_eq_true rfl) dX0_order_57 (fun r8 => ?_)
          refine V_if_eq (pc := 60) (tgt := 70) hk dX0_order_60 rfl ?_ ?_
          · refine V_iconst (pc := 70) (v := (-1)) hk dX0_order_70 (by decide +kernel) ?_
            exact V_ireturn (pc := 71) hk hR rfl dX0_order_71
          · refine V_iload (pc := 63) hk dX0_order_63 0 rfl ?_
            refine V_bipush (pc := 65) (v := 8) hk dX0_order_65 rfl ?_
            refine V_icmp_ne (pc := 67) (tgt := 72) hk dX0_order_67 rfl ?_ ?_
            · refine V_iconst (pc := 72) (v := 5) hk dX0_order_72 rfl ?_
              refine V_na_int (pc := 73) hk dX0_order_73 (fun n9 => ?_)
              refine V_nmW (fun w10 => ?_)
              refine V_dup (pc := 75) hk dX0_order_75 (rf_cat _) ?_
              refine V_iconst (pc := 76) (v := 0) hk dX0_order_76 rfl ?_
              refine V_iload_n (pc := 77) hk dX0_order_77 2 rfl ?_
              refine V_iastore (pc := 78) hk dX0_order_78 (fun w11 => ?_)
              refine V_dup (pc := 79) hk dX0_order_79 (rf_cat _) ?_
              refine V_iconst (pc := 80) (v := 1) hk dX0_order_80 rfl ?_
              refine V_iload_n (pc := 81) hk dX0_order_81 3 rfl ?_
              refine V_iastore (pc := 82) hk dX0_order_82 (fun w12 => ?_)
              refine V_dup (pc := 83) hk dX0_order_83 (rf_cat _) ?_
              refine V_iconst (pc := 84) (v := 2) hk dX0_order_84 rfl ?_
              refine V_iload_n (pc := 85) hk dX0_order_85 4 rfl ?_
              refine V_iastore (pc := 86) hk dX0_order_86 (fun w13 => ?_)
              refine V_dup (pc := 87) hk dX0_order_87 (rf_cat _) ?_
              refine V_iconst (pc := 88) (v := 3) hk dX0_order_88 rfl ?_
              refine V_iload (pc := 89) hk dX0_order_89 5 rfl ?_
              refine V_iastore (pc := 91) hk dX0_order_91 (fun w14 => ?_)
              refine V_dup (pc := 92) hk dX0_order_92 (rf_cat _) ?_
              refine V_iconst (pc := 93) (v := 4) hk dX0_order_93 rfl ?_
              refine V_iload (pc := 94) hk dX0_order_94 6 rfl ?_
              refine V_iastore (pc := 96) hk dX0_order_96 (fun w15 => ?_)
              refine V_astore (pc := 97) (lc' := [(7, va_rf ((some (wnx r8.2)))), (6, .int v3), (0, va_rf ((some this))), (1, .int a0), (2, .int a1), (3, .int a2), (4, .int a3), (5, .int a4)]) (i := 7) hk dX0_order_97 (Nat.le_of_ble_eq_true rfl) rfl ?_
              refine V_aload (pc := 99) hk dX0_order_99 0 rfl ?_
              refine V_aload_n (pc := 101) hk dX0_order_101 2 rfl ?_
              refine g_X0_21 (pc := 102) hk dX0_order_102 (fun v16 => ?_)
              refine g_X0_86 (pc := 105) hk dX0_order_105 (fun v17 => ?_)
              refine V_iload (pc := 108) hk dX0_order_108 1 rfl ?_
              refine V_aaload (pc := 110) hk dX0_order_110 (fun v18 => ?_)
              refine n_X0_89 (pc := 111) hk (fun r h => ctX1_copy (fl y) (fK y) hk.2.2.2.2.2.2.2.1 ((some (wnx r8.2))) v18 w15 r h) ⟨Nat.le_of_ble_eq_true rfl, Nat.le_of_ble_eq_true rfl⟩ (Nat.le_of_ble_eq_true rfl) dX0_order_111 (fun r19 => ?_)
              refine V_aload_n (pc := 114) hk dX0_order_114 2 rfl ?_
              refine g_X0_21 (pc := 115) hk dX0_order_115 (fun v20 => ?_)
              refine g_X0_79 (pc := 118) hk dX0_order_118 (fun v21 => ?_)
              refine V_iconst (pc := 121) (v := 0) hk dX0_order_121 rfl ?_
              refine V_dup2 (pc := 122) hk dX0_order_122 rfl (rf_cat _) ?_
              refine V_iaload (pc := 123) hk dX0_order_123 (fun v22 => ?_)
              refine V_iconst (pc := 124) (v := 1) hk dX0_order_124 rfl ?_
              refine V_iadd (pc := 125) hk dX0_order_125 ?_
              refine V_iastore (pc := 126) hk dX0_order_126 (fun w23 => ?_)
              refine V_iload (pc := 127) hk dX0_order_127 1 rfl ?_
              exact V_ireturn (pc := 129) hk hR rfl dX0_order_129
            · refine V_iconst (pc := 70) (v := (-1)) hk dX0_order_70 (by decide +kernel) ?_
              exact V_ireturn (pc := 71) hk hR rfl dX0_order_71
theorem ctX0_order (l : Launch) (K : Kx) (hI : Ini K) (b : Nat) (a0 : Int32) (a1 : Int32) (a2 : Int32) (a3 : Int32) (a4 : Int32) (w : Wd) : ∀ r, mX0_order b a0 a1 a2 a3 a4 w = some r → Ct l K 3 82 yX0_order (ws_ yX0_order cX0_order 8 (some (.int))) [.ref b, .int a0, .int a1, .int a2, .int a3, .int a4] w (rvI r.1) r.2 := Ct_of rvI l K hI 3 82 [.ref b, .int a0, .int a1, .int a2, .int a3, .int a4] w (by decide) (lc0 := [(0, .ref b), (1, .int a0), (2, .int a1), (3, .int a2), (4, .int a3), (5, .int a4)]) rfl (Nat.le_of_ble_eq_true rfl) (fun y hk hR _ _ hin => eX0_order hk hR b a0 a1 a2 a3 a4 w)
noncomputable def mX0_near (this : Nat) (a0 : Int32) (w : Wd) : Option (Int32 × Wd) :=
(cal w (mX0_in a0 0 99 w)).bind fun r1 =>
if ¬ r1.1 = 0 then (
(gR r1.2 ((some this)) 0 0).bind fun v2 =>
(gR r1.2 v2 1 0).bind fun v3 =>
(ias r1.2 v3 1 a0).bind fun w4 =>
(nok (.boolean) 1).bind fun _ => some (1, w4))
else (
(nok (.boolean) 0).bind fun _ => some (0, r1.2))
theorem eX0_near {y : Fx (Int32 × Wd)} (hk : OkF y RX0 cX0_near 2 3 82) (hR : RetM y rvI (some (.boolean))) (this : Nat) (a0 : Int32) (w : Wd) : V y w [(0, va_rf (some this)), (1, .int a0)] [] 0 (mX0_near this a0 w) := by
  unfold mX0_near
  refine V_iload_n (pc := 0) hk dX0_near_0 1 rfl ?_
  refine V_iconst (pc := 1) (v := 0) hk dX0_near_1 rfl ?_
  refine V_bipush (pc := 2) (v := 99) hk dX0_near_2 rfl ?_
  refine n_X0_82 (pc := 4) hk (fun r h => ctX0_in (fl y) (fK y) hk.2.2.2.2.2.2.2.1 a0 0 99 w r h) ⟨Nat.le_of_ble_eq_true rfl, Nat.le_of_ble_eq_true rfl⟩ (Nat.le_of_ble_eq_true rfl) dX0_near_4 (fun r1 => ?_)
  refine V_if_ne (pc := 7) (tgt := 12) hk dX0_near_7 rfl ?_ ?_
  · refine V_aload_n (pc := 12) hk dX0_near_12 0 rfl ?_
    refine g_X0_21 (pc := 13) hk dX0_near_13 (fun v2 => ?_)
    refine g_X0_79 (pc := 16) hk dX0_near_16 (fun v3 => ?_)
    refine V_iconst (pc := 19) (v := 1) hk dX0_near_19 rfl ?_
    refine V_iload_n (pc := 20) hk dX0_near_20 1 rfl ?_
    refine V_iastore (pc := 21) hk dX0_near_21 (fun w4 => ?_)
    refine V_iconst (pc := 22) (v := 1) hk dX0_near_22 rfl ?_
    exact V_zreturn (pc := 23) hk hR rfl dX0_near_23
  · refine V_iconst (pc := 10) (v := 0) hk dX0_near_10 rfl ?_
    exact V_zreturn (pc := 11) hk hR rfl dX0_near_11
theorem ctX0_near (l : Launch) (K : Kx) (hI : Ini K) (b : Nat) (a0 : Int32) (w : Wd) : ∀ r, mX0_near b a0 w = some r → Ct l K 3 82 yX0_near (ws_ yX0_near cX0_near 2 (some (.boolean))) [.ref b, .int a0] w (rvI r.1) r.2 := Ct_of rvI l K hI 3 82 [.ref b, .int a0] w (by decide) (lc0 := [(0, .ref b), (1, .int a0)]) rfl (Nat.le_of_ble_eq_true rfl) (fun y hk hR _ _ hin => eX0_near hk hR b a0 w)
noncomputable def mX0_put_b3 (k3 : Wd → (Option Nat) → Int32 → Int32 → Option (Unit × Wd)) (w : Wd) (l0 : Option Nat) (l1 : Int32) (l2 : Int32) : Option (Unit × Wd) :=
if l2 < 0 then (
some ((), w))
else (
(gR w l0 0 2).bind fun v1 =>
(gI w l0 0 3).bind fun v2 =>
(bas w v1 v2 (((l1 >>> (l2 &&& 31)) : Int32).toInt8.toInt32)).bind fun w3 =>
(gI w3 l0 0 3).bind fun v4 =>
(pf w3 l0 0 3 (.int (v4 + 1))).bind fun w5 =>
k3 w5 l0 l1 (l2 + (-8)))
noncomputable def mX0_put_l3 : Nat → Wd → (Option Nat) → Int32 → Int32 → Option (Unit × Wd)
  | 0, _, _, _, _ => none
  | n + 1, w, l0, l1, l2 => mX0_put_b3 (mX0_put_l3 n) w l0 l1 l2
noncomputable def mX0_put (this : Nat) (a0 : Int32) (w : Wd) : Option (Unit × Wd) :=
mX0_put_l3 FU w ((some this)) a0 24
theorem eX0_put_b3 {y : Fx (Unit × Wd)} (hk : OkF y RX0 cX0_put 3 2 60) (hR : RetM y rvV none) {k3 : Wd → (Option Nat) → Int32 → Int32 → Option (Unit × Wd)} (h3 : ∀ (w : Wd) (l0 : Option Nat) (l1 : Int32) (l2 : Int32), V y w [(0, va_rf l0), (1, .int l1), (2, .int l2)] [] 3 (k3 w l0 l1 l2)) (w : Wd) (l0 : Option Nat) (l1 : Int32) (l2 : Int32) : V y w [(0, va_rf l0), (1, .int l1), (2, .int l2)] [] 3 (mX0_put_b3 k3 w l0 l1 l2) := by
  unfold mX0_put_b3
  refine V_iload_n (pc := 3) hk dX0_put_3 2 rfl ?_
  refine V_if_lt (pc := 4) (tgt := 36) hk dX0_put_4 rfl ?_ ?_
  · exact V_return (pc := 36) hk hR rfl dX0_put_36
  · refine V_aload_n (pc := 7) hk dX0_put_7 0 rfl ?_
    refine g_X0_28 (pc := 8) hk dX0_put_8 (fun v1 => ?_)
    refine V_aload_n (pc := 11) hk dX0_put_11 0 rfl ?_
    refine g_X0_93 (pc := 12) hk dX0_put_12 (fun v2 => ?_)
    refine V_iload_n (pc := 15) hk dX0_put_15 1 rfl ?_
    refine V_iload_n (pc := 16) hk dX0_put_16 2 rfl ?_
    refine V_ishr (pc := 17) hk dX0_put_17 ?_
    refine V_i2b (pc := 18) hk dX0_put_18 ?_
    refine V_bastore (pc := 19) hk dX0_put_19 (fun w3 => ?_)
    refine V_aload_n (pc := 20) hk dX0_put_20 0 rfl ?_
    refine V_dup (pc := 21) hk dX0_put_21 (rf_cat _) ?_
    refine g_X0_93 (pc := 22) hk dX0_put_22 (fun v4 => ?_)
    refine V_iconst (pc := 25) (v := 1) hk dX0_put_25 rfl ?_
    refine V_iadd (pc := 26) hk dX0_put_26 ?_
    refine p_X0_93 (pc := 27) hk dX0_put_27 (fun w5 => ?_)
    refine V_iinc (pc := 30) (v := (-8)) (lc' := [(2, .int (l2 + (-8))), (0, va_rf l0), (1, .int l1)]) hk dX0_put_30 2 rfl (by decide +kernel) (Nat.le_of_ble_eq_true rfl) rfl ?_
    refine V_goto (pc := 33) (tgt := 3) hk dX0_put_33 rfl ?_
    refine V_pick (lc' := [(0, va_rf l0), (1, .int l1), (2, .int (l2 + (-8)))]) [1, 2, 0] rfl ?_
    exact h3 w5 l0 l1 (l2 + (-8))
theorem eX0_put_l3 {y : Fx (Unit × Wd)} (hk : OkF y RX0 cX0_put 3 2 60) (hR : RetM y rvV none) : ∀ (n : Nat) (w : Wd) (l0 : Option Nat) (l1 : Int32) (l2 : Int32), V y w [(0, va_rf l0), (1, .int l1), (2, .int l2)] [] 3 (mX0_put_l3 n w l0 l1 l2) := by
  intro n
  induction n with
  | zero => intro w l0 l1 l2; exact V_none
  | succ n ih => intro w l0 l1 l2; exact eX0_put_b3 hk hR ih w l0 l1 l2
theorem eX0_put {y : Fx (Unit × Wd)} (hk : OkF y RX0 cX0_put 3 2 60) (hR : RetM y rvV none) (this : Nat) (a0 : Int32) (w : Wd) : V y w [(0, va_rf (some this)), (1, .int a0)] [] 0 (mX0_put this a0 w) := by
  unfold mX0_put
  refine V_bipush (pc := 0) (v := 24) hk dX0_put_0 rfl ?_
  refine V_istore_n (pc := 2) (lc' := [(2, .int 24), (0, va_rf ((some this))), (1, .int a0)]) (i := 2) hk dX0_put_2 rfl (Nat.le_of_ble_eq_true rfl) rfl ?_
  refine V_pick (lc' := [(0, va_rf ((some this))), (1, .int a0), (2, .int 24)]) [1, 2, 0] rfl ?_
  exact eX0_put_l3 hk hR FU w ((some this)) a0 24
theorem ctX0_put (l : Launch) (K : Kx) (hI : Ini K) (b : Nat) (a0 : Int32) (w : Wd) : ∀ r, mX0_put b a0 w = some r → Ct l K 2 60 yX0_put (ws_ yX0_put cX0_put 3 none) [.ref b, .int a0] w (rvV r.1) r.2 := Ct_of rvV l K hI 2 60 [.ref b, .int a0] w (by decide) (lc0 := [(0, .ref b), (1, .int a0)]) rfl (Nat.le_of_ble_eq_true rfl) (fun y hk hR _ _ hin => eX0_put hk hR b a0 w)
noncomputable def mX0_feed (this : Nat) (a0 : Int32) (a1 : Int32) (a2 : Int32) (a3 : Int32) (a4 : Int32) (w : Wd) : Option (Int32 × Wd) :=
(gI w ((some this)) 0 3).bind fun v1 =>
if (v1 + 20) ≤ 300 then (
(recv w ((some this)) 0).bind fun b3 => (cal w (mX0_put b3 a0 w)).bind fun r2 =>
(recv r2.2 ((some this)) 0).bind fun b5 => (cal r2.2 (mX0_put b5 a1 r2.2)).bind fun r4 =>
(recv r4.2 ((some this)) 0).bind fun b7 => (cal r4.2 (mX0_put b7 a2 r4.2)).bind fun r6 =>
(recv r6.2 ((some this)) 0).bind fun b9 => (cal r6.2 (mX0_put b9 a3 r6.2)).bind fun r8 =>
(recv r8.2 ((some this)) 0).bind fun b11 => (cal r8.2 (mX0_put b11 a4 r8.2)).bind fun r10 =>
(gI r10.2 ((some this)) 0 3).bind fun v12 =>
some (v12, r10.2))
else (
some ((-1), w))
theorem eX0_feed {y : Fx (Int32 × Wd)} (hk : OkF y RX0 cX0_feed 6 3 82) (hR : RetM y rvI (some (.int))) (this : Nat) (a0 : Int32) (a1 : Int32) (a2 : Int32) (a3 : Int32) (a4 : Int32) (w : Wd) : V y w [(0, va_rf (some this)), (1, .int a0), (2, .int a1), (3, .int a2), (4, .int a3), (5, .int a4)] [] 0 (mX0_feed this a0 a1 a2 a3 a4 w) := by
  unfold mX0_feed
  refine V_aload_n (pc := 0) hk dX0_feed_0 0 rfl ?_
  refine g_X0_93 (pc := 1) hk dX0_feed_1 (fun v1 => ?_)
  refine V_bipush (pc := 4) (v := 20) hk dX0_feed_4 rfl ?_
  refine V_iadd (pc := 6) hk dX0_feed_6 ?_
  refine V_sipush (pc := 7) (v := 300) hk dX0_feed_7 rfl ?_
  refine V_icmp_le (pc := 10) (tgt := 15) hk dX0_feed_10 rfl ?_ ?_
  · refine V_aload_n (pc := 15) hk dX0_feed_15 0 rfl ?_
    refine V_iload_n (pc := 16) hk dX0_feed_16 1 rfl ?_
    refine n_X0_96 (pc := 17) hk (fun b r h => ctX0_put (fl y) (fK y) hk.2.2.2.2.2.2.2.1 b a0 w r h) ⟨Nat.le_of_ble_eq_true rfl, Nat.le_of_ble_eq_true rfl⟩ (Nat.le_of_ble_eq_true rfl) dX0_feed_17 (fun r2 => ?_)
    refine V_aload_n (pc := 20) hk dX0_feed_20 0 rfl ?_
    refine V_iload_n (pc := 21) hk dX0_feed_21 2 rfl ?_
    refine n_X0_96 (pc := 22) hk (fun b r h => ctX0_put (fl y) (fK y) hk.2.2.2.2.2.2.2.1 b a1 r2.2 r h) ⟨Nat.le_of_ble_eq_true rfl, Nat.le_of_ble_eq_true rfl⟩ (Nat.le_of_ble_eq_true rfl) dX0_feed_22 (fun r4 => ?_)
    refine V_aload_n (pc := 25) hk dX0_feed_25 0 rfl ?_
    refine V_iload_n (pc := 26) hk dX0_feed_26 3 rfl ?_
    refine n_X0_96 (pc := 27) hk (fun b r h => ctX0_put (fl y) (fK y) hk.2.2.2.2.2.2.2.1 b a2 r4.2 r h) ⟨Nat.le_of_ble_eq_true rfl, Nat.le_of_ble_eq_true rfl⟩ (Nat.le_of_ble_eq_true rfl) dX0_feed_27 (fun r6 => ?_)
    refine V_aload_n (pc := 30) hk dX0_feed_30 0 rfl ?_
    refine V_iload (pc := 31) hk dX0_feed_31 4 rfl ?_
    refine n_X0_96 (pc := 33) hk (fun b r h => ctX0_put (fl y) (fK y) hk.2.2.2.2.2.2.2.1 b a3 r6.2 r h) ⟨Nat.le_of_ble_eq_true rfl, Nat.le_of_ble_eq_true rfl⟩ (Nat.le_of_ble_eq_true rfl) dX0_feed_33 (fun r8 => ?_)
    refine V_aload_n (pc := 36) hk dX0_feed_36 0 rfl ?_
    refine V_iload (pc := 37) hk dX0_feed_37 5 rfl ?_
    refine n_X0_96 (pc := 39) hk (fun b r h => ctX0_put (fl y) (fK y) hk.2.2.2.2.2.2.2.1 b a4 r8.2 r h) ⟨Nat.le_of_ble_eq_true rfl, Nat.le_of_ble_eq_true rfl⟩ (Nat.le_of_ble_eq_true rfl) dX0_feed_39 (fun r10 => ?_)
    refine V_aload_n (pc := 42) hk dX0_feed_42 0 rfl ?_
    refine g_X0_93 (pc := 43) hk dX0_feed_43 (fun v12 => ?_)
    exact V_ireturn (pc := 46) hk hR rfl dX0_feed_46
  · refine V_iconst (pc := 13) (v := (-1)) hk dX0_feed_13 (by decide +kernel) ?_
    exact V_ireturn (pc := 14) hk hR rfl dX0_feed_14
theorem ctX0_feed (l : Launch) (K : Kx) (hI : Ini K) (b : Nat) (a0 : Int32) (a1 : Int32) (a2 : Int32) (a3 : Int32) (a4 : Int32) (w : Wd) : ∀ r, mX0_feed b a0 a1 a2 a3 a4 w = some r → Ct l K 3 82 yX0_feed (ws_ yX0_feed cX0_feed 6 (some (.int))) [.ref b, .int a0, .int a1, .int a2, .int a3, .int a4] w (rvI r.1) r.2 := Ct_of rvI l K hI 3 82 [.ref b, .int a0, .int a1, .int a2, .int a3, .int a4] w (by decide) (lc0 := [(0, .ref b), (1, .int a0), (2, .int a1), (3, .int a2), (4, .int a3), (5, .int a4)]) rfl (Nat.le_of_ble_eq_true rfl) (fun y hk hR _ _ hin => eX0_feed hk hR b a0 a1 a2 a3 a4 w)
noncomputable def mX0_end (this : Nat) (a0 : Int32) (w : Wd) : Option (Int32 × Wd) :=
(gI w ((some this)) 0 3).bind fun v1 =>
(cal w (mX0_in a0 0 v1 w)).bind fun r2 =>
if ¬ r2.1 = 0 then (
(pf r2.2 ((some this)) 0 3 (.int a0)).bind fun w3 =>
some (a0, w3))
else (
some ((-1), r2.2))
theorem eX0_end {y : Fx (Int32 × Wd)} (hk : OkF y RX0 cX0_end 2 3 82) (hR : RetM y rvI (some (.int))) (this : Nat) (a0 : Int32) (w : Wd) : V y w [(0, va_rf (some this)), (1, .int a0)] [] 0 (mX0_end this a0 w) := by
  unfold mX0_end
  refine V_iload_n (pc := 0) hk dX0_end_0 1 rfl ?_
  refine V_iconst (pc := 1) (v := 0) hk dX0_end_1 rfl ?_
  refine V_aload_n (pc := 2) hk dX0_end_2 0 rfl ?_
  refine g_X0_93 (pc := 3) hk dX0_end_3 (fun v1 => ?_)
  refine n_X0_82 (pc := 6) hk (fun r h => ctX0_in (fl y) (fK y) hk.2.2.2.2.2.2.2.1 a0 0 v1 w r h) ⟨Nat.le_of_ble_eq_true rfl, Nat.le_of_ble_eq_true rfl⟩ (Nat.le_of_ble_eq_true rfl) dX0_end_6 (fun r2 => ?_)
  refine V_if_ne (pc := 9) (tgt := 14) hk dX0_end_9 rfl ?_ ?_
  · refine V_aload_n (pc := 14) hk dX0_end_14 0 rfl ?_
    refine V_iload_n (pc := 15) hk dX0_end_15 1 rfl ?_
    refine p_X0_93 (pc := 16) hk dX0_end_16 (fun w3 => ?_)
    refine V_iload_n (pc := 19) hk dX0_end_19 1 rfl ?_
    exact V_ireturn (pc := 20) hk hR rfl dX0_end_20
  · refine V_iconst (pc := 12) (v := (-1)) hk dX0_end_12 (by decide +kernel) ?_
    exact V_ireturn (pc := 13) hk hR rfl dX0_end_13
theorem ctX0_end (l : Launch) (K : Kx) (hI : Ini K) (b : Nat) (a0 : Int32) (w : Wd) : ∀ r, mX0_end b a0 w = some r → Ct l K 3 82 yX0_end (ws_ yX0_end cX0_end 2 (some (.int))) [.ref b, .int a0] w (rvI r.1) r.2 := Ct_of rvI l K hI 3 82 [.ref b, .int a0] w (by decide) (lc0 := [(0, .ref b), (1, .int a0)]) rfl (Nat.le_of_ble_eq_true rfl) (fun y hk hR _ _ hin => eX0_end hk hR b a0 w)
noncomputable def mX0_fault (this : Nat) (a0 : Int32) (w : Wd) : Option (Int32 × Wd) :=
if ¬ a0 = 0 then (
if ¬ a0 = 1 then (
some ((-1), w))
else (
(gI w ((some this)) 0 5).bind fun v1 =>
some (v1, w)))
else (
(gI w ((some this)) 0 4).bind fun v2 =>
some (v2, w))
theorem eX0_fault {y : Fx (Int32 × Wd)} (hk : OkF y RX0 cX0_fault 2 2 60) (hR : RetM y rvI (some (.int))) (this : Nat) (a0 : Int32) (w : Wd) : V y w [(0, va_rf (some this)), (1, .int a0)] [] 0 (mX0_fault this a0 w) := by
  unfold mX0_fault
  refine V_iload_n (pc := 0) hk dX0_fault_0 1 rfl ?_
  refine V_if_ne (pc := 1) (tgt := 11) hk dX0_fault_1 rfl ?_ ?_
  · refine V_iload_n (pc := 11) hk dX0_fault_11 1 rfl ?_
    refine V_iconst (pc := 12) (v := 1) hk dX0_fault_12 rfl ?_
    refine V_icmp_ne (pc := 13) (tgt := 23) hk dX0_fault_13 rfl ?_ ?_
    · refine V_iconst (pc := 23) (v := (-1)) hk dX0_fault_23 (by decide +kernel) ?_
      exact V_ireturn (pc := 24) hk hR rfl dX0_fault_24
    · refine V_aload_n (pc := 16) hk dX0_fault_16 0 rfl ?_
      refine g_X0_36 (pc := 17) hk dX0_fault_17 (fun v1 => ?_)
      refine V_goto (pc := 20) (tgt := 24) hk dX0_fault_20 rfl ?_
      exact V_ireturn (pc := 24) hk hR rfl dX0_fault_24
  · refine V_aload_n (pc := 4) hk dX0_fault_4 0 rfl ?_
    refine g_X0_32 (pc := 5) hk dX0_fault_5 (fun v2 => ?_)
    refine V_goto (pc := 8) (tgt := 24) hk dX0_fault_8 rfl ?_
    exact V_ireturn (pc := 24) hk hR rfl dX0_fault_24
theorem ctX0_fault (l : Launch) (K : Kx) (hI : Ini K) (b : Nat) (a0 : Int32) (w : Wd) : ∀ r, mX0_fault b a0 w = some r → Ct l K 2 60 yX0_fault (ws_ yX0_fault cX0_fault 2 (some (.int))) [.ref b, .int a0] w (rvI r.1) r.2 := Ct_of rvI l K hI 2 60 [.ref b, .int a0] w (by decide) (lc0 := [(0, .ref b), (1, .int a0)]) rfl (Nat.le_of_ble_eq_true rfl) (fun y hk hR _ _ hin => eX0_fault hk hR b a0 w)
noncomputable def mX0_isText (this : Nat) (a0 : Int32) (w : Wd) : Option (Int32 × Wd) :=
(gR w ((some this)) 0 0).bind fun v1 =>
(gR w v1 1 0).bind fun v2 =>
(ia w v2 2).bind fun v3 =>
(cal w (mX0_in a0 0 (v3 - 1) w)).bind fun r4 =>
(nok (.boolean) r4.1).bind fun _ => some (r4.1, r4.2)
theorem eX0_isText {y : Fx (Int32 × Wd)} (hk : OkF y RX0 cX0_isText 2 3 82) (hR : RetM y rvI (some (.boolean))) (this : Nat) (a0 : Int32) (w : Wd) : V y w [(0, va_rf (some this)), (1, .int a0)] [] 0 (mX0_isText this a0 w) := by
  unfold mX0_isText
  refine V_iload_n (pc := 0) hk dX0_isText_0 1 rfl ?_
  refine V_iconst (pc := 1) (v := 0) hk dX0_isText_1 rfl ?_
  refine V_aload_n (pc := 2) hk dX0_isText_2 0 rfl ?_
  refine g_X0_21 (pc := 3) hk dX0_isText_3 (fun v1 => ?_)
  refine g_X0_79 (pc := 6) hk dX0_isText_6 (fun v2 => ?_)
  refine V_iconst (pc := 9) (v := 2) hk dX0_isText_9 rfl ?_
  refine V_iaload (pc := 10) hk dX0_isText_10 (fun v3 => ?_)
  refine V_iconst (pc := 11) (v := 1) hk dX0_isText_11 rfl ?_
  refine V_isub (pc := 12) hk dX0_isText_12 ?_
  refine n_X0_82 (pc := 13) hk (fun r h => ctX0_in (fl y) (fK y) hk.2.2.2.2.2.2.2.1 a0 0 (v3 - 1) w r h) ⟨Nat.le_of_ble_eq_true rfl, Nat.le_of_ble_eq_true rfl⟩ (Nat.le_of_ble_eq_true rfl) dX0_isText_13 (fun r4 => ?_)
  exact V_zreturn (pc := 16) hk hR rfl dX0_isText_16
theorem ctX0_isText (l : Launch) (K : Kx) (hI : Ini K) (b : Nat) (a0 : Int32) (w : Wd) : ∀ r, mX0_isText b a0 w = some r → Ct l K 3 82 yX0_isText (ws_ yX0_isText cX0_isText 2 (some (.boolean))) [.ref b, .int a0] w (rvI r.1) r.2 := Ct_of rvI l K hI 3 82 [.ref b, .int a0] w (by decide) (lc0 := [(0, .ref b), (1, .int a0)]) rfl (Nat.le_of_ble_eq_true rfl) (fun y hk hR _ _ hin => eX0_isText hk hR b a0 w)
noncomputable def mX0_by (this : Nat) (a0 : Int32) (w : Wd) : Option (Int32 × Wd) :=
if a0 = (-1) then (
(gR w ((some this)) 0 0).bind fun v1 =>
(gR w v1 1 0).bind fun v2 =>
(ias w v2 3 a0).bind fun w3 =>
(nok (.boolean) 1).bind fun _ => some (1, w3))
else (
(recv w ((some this)) 0).bind fun b5 => (cal w (mX0_isText b5 a0 w)).bind fun r4 =>
if ¬ r4.1 = 0 then (
(gR r4.2 ((some this)) 0 0).bind fun v6 =>
(gR r4.2 v6 1 0).bind fun v7 =>
(ias r4.2 v7 3 a0).bind fun w8 =>
(nok (.boolean) 1).bind fun _ => some (1, w8))
else (
(nok (.boolean) 0).bind fun _ => some (0, r4.2)))
theorem eX0_by {y : Fx (Int32 × Wd)} (hk : OkF y RX0 cX0_by 2 4 103) (hR : RetM y rvI (some (.boolean))) (this : Nat) (a0 : Int32) (w : Wd) : V y w [(0, va_rf (some this)), (1, .int a0)] [] 0 (mX0_by this a0 w) := by
  unfold mX0_by
  refine V_iload_n (pc := 0) hk dX0_by_0 1 rfl ?_
  refine V_iconst (pc := 1) (v := (-1)) hk dX0_by_1 (by decide +kernel) ?_
  refine V_icmp_eq (pc := 2) (tgt := 15) hk dX0_by_2 rfl ?_ ?_
  · refine V_aload_n (pc := 15) hk dX0_by_15 0 rfl ?_
    refine g_X0_21 (pc := 16) hk dX0_by_16 (fun v1 => ?_)
    refine g_X0_79 (pc := 19) hk dX0_by_19 (fun v2 => ?_)
    refine V_iconst (pc := 22) (v := 3) hk dX0_by_22 rfl ?_
    refine V_iload_n (pc := 23) hk dX0_by_23 1 rfl ?_
    refine V_iastore (pc := 24) hk dX0_by_24 (fun w3 => ?_)
    refine V_iconst (pc := 25) (v := 1) hk dX0_by_25 rfl ?_
    exact V_zreturn (pc := 26) hk hR rfl dX0_by_26
  · refine V_aload_n (pc := 5) hk dX0_by_5 0 rfl ?_
    refine V_iload_n (pc := 6) hk dX0_by_6 1 rfl ?_
    refine n_X0_119 (pc := 7) hk (fun b r h => ctX0_isText (fl y) (fK y) hk.2.2.2.2.2.2.2.1 b a0 w r h) ⟨Nat.le_of_ble_eq_true rfl, Nat.le_of_ble_eq_true rfl⟩ (Nat.le_of_ble_eq_true rfl) dX0_by_7 (fun r4 => ?_)
    refine V_if_ne (pc := 10) (tgt := 15) hk dX0_by_10 rfl ?_ ?_
    · refine V_aload_n (pc := 15) hk dX0_by_15 0 rfl ?_
      refine g_X0_21 (pc := 16) hk dX0_by_16 (fun v6 => ?_)
      refine g_X0_79 (pc := 19) hk dX0_by_19 (fun v7 => ?_)
      refine V_iconst (pc := 22) (v := 3) hk dX0_by_22 rfl ?_
      refine V_iload_n (pc := 23) hk dX0_by_23 1 rfl ?_
      refine V_iastore (pc := 24) hk dX0_by_24 (fun w8 => ?_)
      refine V_iconst (pc := 25) (v := 1) hk dX0_by_25 rfl ?_
      exact V_zreturn (pc := 26) hk hR rfl dX0_by_26
    · refine V_iconst (pc := 13) (v := 0) hk dX0_by_13 rfl ?_
      exact V_zreturn (pc := 14) hk hR rfl dX0_by_14
theorem ctX0_by (l : Launch) (K : Kx) (hI : Ini K) (b : Nat) (a0 : Int32) (w : Wd) : ∀ r, mX0_by b a0 w = some r → Ct l K 4 103 yX0_by (ws_ yX0_by cX0_by 2 (some (.boolean))) [.ref b, .int a0] w (rvI r.1) r.2 := Ct_of rvI l K hI 4 103 [.ref b, .int a0] w (by decide) (lc0 := [(0, .ref b), (1, .int a0)]) rfl (Nat.le_of_ble_eq_true rfl) (fun y hk hR _ _ hin => eX0_by hk hR b a0 w)
noncomputable def mX0_firstKept (a0 : Option Nat) (w : Wd) : Option (Int32 × Wd) :=
(ia w a0 8).bind fun v1 =>
some (jmaxI 0 (v1 - 60), w)
theorem eX0_firstKept {y : Fx (Int32 × Wd)} (hk : OkF y RX0 cX0_firstKept 1 2 60) (hR : RetM y rvI (some (.int))) (a0 : Option Nat) (w : Wd) : V y w [(0, va_rf a0)] [] 0 (mX0_firstKept a0 w) := by
  unfold mX0_firstKept
  refine V_iconst (pc := 0) (v := 0) hk dX0_firstKept_0 rfl ?_
  refine V_aload_n (pc := 1) hk dX0_firstKept_1 0 rfl ?_
  refine V_bipush (pc := 2) (v := 8) hk dX0_firstKept_2 rfl ?_
  refine V_iaload (pc := 4) hk dX0_firstKept_4 (fun v1 => ?_)
  refine V_bipush (pc := 5) (v := 60) hk dX0_firstKept_5 rfl ?_
  refine V_isub (pc := 7) hk dX0_firstKept_7 ?_
  refine V_mmax (pc := 8) hk q895 ⟨Nat.le_of_ble_eq_true rfl, Nat.le_of_ble_eq_true rfl⟩ (Nat.le_of_ble_eq_true rfl) dX0_firstKept_8 ?_
  exact V_ireturn (pc := 11) hk hR rfl dX0_firstKept_11
theorem ctX0_firstKept (l : Launch) (K : Kx) (hI : Ini K) (a0 : Option Nat) (w : Wd) : ∀ r, mX0_firstKept a0 w = some r → Ct l K 2 60 yX0_firstKept (ws_ yX0_firstKept cX0_firstKept 1 (some (.int))) [va_rf a0] w (rvI r.1) r.2 := Ct_of rvI l K hI 2 60 [va_rf a0] w (by decide) (lc0 := [(0, va_rf a0)]) (by simp [lv_args, rf_cat, cat_int, cat_long, cat_ref]) (lg_len _ _ (by simp [rf_cat, cat_int, cat_long, cat_ref])) (fun y hk hR _ _ hin => eX0_firstKept hk hR a0 w)
noncomputable def mX0_tenthAt (a0 : Int32) (w : Wd) : Option (Int32 × Wd) :=
(irm a0 60).bind fun v1 =>
some (53 + (6 * v1), w)
theorem eX0_tenthAt {y : Fx (Int32 × Wd)} (hk : OkF y RX0 cX0_tenthAt 1 2 60) (hR : RetM y rvI (some (.int))) (a0 : Int32) (w : Wd) : V y w [(0, .int a0)] [] 0 (mX0_tenthAt a0 w) := by
  unfold mX0_tenthAt
  refine V_bipush (pc := 0) (v := 53) hk dX0_tenthAt_0 rfl ?_
  refine V_bipush (pc := 2) (v := 6) hk dX0_tenthAt_2 rfl ?_
  refine V_iload_n (pc := 4) hk dX0_tenthAt_4 0 rfl ?_
  refine V_bipush (pc := 5) (v := 60) hk dX0_tenthAt_5 rfl ?_
  refine V_irem (pc := 7) hk dX0_tenthAt_7 (fun v1 => ?_)
  refine V_imul (pc := 8) hk dX0_tenthAt_8 ?_
  refine V_iadd (pc := 9) hk dX0_tenthAt_9 ?_
  exact V_ireturn (pc := 10) hk hR rfl dX0_tenthAt_10
theorem ctX0_tenthAt (l : Launch) (K : Kx) (hI : Ini K) (a0 : Int32) (w : Wd) : ∀ r, mX0_tenthAt a0 w = some r → Ct l K 2 60 yX0_tenthAt (ws_ yX0_tenthAt cX0_tenthAt 1 (some (.int))) [.int a0] w (rvI r.1) r.2 := Ct_of rvI l K hI 2 60 [.int a0] w (by decide) (lc0 := [(0, .int a0)]) rfl (Nat.le_of_ble_eq_true rfl) (fun y hk hR _ _ hin => eX0_tenthAt hk hR a0 w)
noncomputable def mX0_namesAgo_b3 (k3 : Wd → (Option Nat) → (Option Nat) → Int32 → Int32 → Int32 → Option (Unit × Wd)) (w : Wd) (l0 : Option Nat) (l1 : Option Nat) (l2 : Int32) (l3 : Int32) (l4 : Int32) : Option (Unit × Wd) :=
if 9 < l4 then (
some ((), w))
else (
if l3 ≤ (l2 - l4) then (
(cal w (mX0_tenthAt (l2 - l4) w)).bind fun r1 =>
(gR r1.2 l0 0 6).bind fun v2 =>
(acpI r1.2 l1 r1.1 v2 (8 + (5 * (l4 - 1))) 5).bind fun w3 =>
k3 w3 l0 l1 l2 l3 (l4 + 1))
else (
(gR w l0 0 6).bind fun v4 =>
(cal w (mJ12_fill v4 (8 + (5 * (l4 - 1))) ((8 + (5 * (l4 - 1))) + 5) 0 w)).bind fun r5 =>
k3 r5.2 l0 l1 l2 l3 (l4 + 1)))
noncomputable def mX0_namesAgo_l3 : Nat → Wd → (Option Nat) → (Option Nat) → Int32 → Int32 → Int32 → Option (Unit × Wd)
  | 0, _, _, _, _, _, _ => none
  | n + 1, w, l0, l1, l2, l3, l4 => mX0_namesAgo_b3 (mX0_namesAgo_l3 n) w l0 l1 l2 l3 l4
noncomputable def mX0_namesAgo (this : Nat) (a0 : Option Nat) (a1 : Int32) (a2 : Int32) (w : Wd) : Option (Unit × Wd) :=
mX0_namesAgo_l3 FU w ((some this)) a0 a1 a2 1
theorem eX0_namesAgo_b3 {y : Fx (Unit × Wd)} (hk : OkF y RX0 cX0_namesAgo 6 4 106) (hR : RetM y rvV none) {k3 : Wd → (Option Nat) → (Option Nat) → Int32 → Int32 → Int32 → Option (Unit × Wd)} (h3 : ∀ (w : Wd) (l0 : Option Nat) (l1 : Option Nat) (l2 : Int32) (l3 : Int32) (l4 : Int32), V y w [(0, va_rf l0), (1, va_rf l1), (2, .int l2), (3, .int l3), (4, .int l4)] [] 3 (k3 w l0 l1 l2 l3 l4)) (w : Wd) (l0 : Option Nat) (l1 : Option Nat) (l2 : Int32) (l3 : Int32) (l4 : Int32) : V y w [(0, va_rf l0), (1, va_rf l1), (2, .int l2), (3, .int l3), (4, .int l4)] [] 3 (mX0_namesAgo_b3 k3 w l0 l1 l2 l3 l4) := by
  unfold mX0_namesAgo_b3
  refine V_iload (pc := 3) hk dX0_namesAgo_3 4 rfl ?_
  refine V_bipush (pc := 5) (v := 9) hk dX0_namesAgo_5 rfl ?_
  refine V_icmp_gt (pc := 7) (tgt := 70) hk dX0_namesAgo_7 rfl ?_ ?_
  · exact V_return (pc := 70) hk hR rfl dX0_namesAgo_70
  · refine V_bipush (pc := 10) (v := 8) hk dX0_namesAgo_10 rfl ?_
    refine V_iconst (pc := 12) (v := 5) hk dX0_namesAgo_12 rfl ?_
    refine V_iload (pc := 13) hk dX0_namesAgo_13 4 rfl ?_
    refine V_iconst (pc := 15) (v := 1) hk dX0_namesAgo_15 rfl ?_
    refine V_isub (pc := 16) hk dX0_namesAgo_16 ?_
    refine V_imul (pc := 17) hk dX0_namesAgo_17 ?_
    refine V_iadd (pc := 18) hk dX0_namesAgo_18 ?_
    refine V_istore (pc := 19) (lc' := [(5, .int (8 + (5 * (l4 - 1)))), (0, va_rf l0), (1, va_rf l1), (2, .int l2), (3, .int l3), (4, .int l4)]) (i := 5) hk dX0_namesAgo_19 (Nat.le_of_ble_eq_true rfl) rfl ?_
    refine V_iload_n (pc := 21) hk dX0_namesAgo_21 3 rfl ?_
    refine V_iload (pc := 22) hk dX0_namesAgo_22 5 rfl ?_
    refine V_isub (pc := 24) hk dX0_namesAgo_24 ?_
    refine V_iload_n (pc := 25) hk dX0_namesAgo_25 4 rfl ?_
    refine V_icmp_ge (pc := 26) (tgt := 46) hk dX0_namesAgo_26 rfl ?_ ?_
    · refine V_aload_n (pc := 46) hk dX0_namesAgo_46 2 rfl ?_
      refine V_iload_n (pc := 47) hk dX0_namesAgo_47 3 rfl ?_
      refine V_iload (pc := 48) hk dX0_namesAgo_48 5 rfl ?_
      refine V_isub (pc := 50) hk dX0_namesAgo_50 ?_
      refine n_X0_133 (pc := 51) hk (fun r h => ctX0_tenthAt (fl y) (fK y) hk.2.2.2.2.2.2.2.1 (l2 - l4) w r h) ⟨Nat.le_of_ble_eq_true rfl, Nat.le_of_ble_eq_true rfl⟩ (by simp [rf_cat, cat_int, cat_long, cat_ref]) dX0_namesAgo_51 (fun r1 => ?_)
      refine V_aload_n (pc := 54) hk dX0_namesAgo_54 1 rfl ?_
      refine g_X0_39 (pc := 55) hk dX0_namesAgo_55 (fun v2 => ?_)
      refine V_iload (pc := 58) hk dX0_namesAgo_58 0 rfl ?_
      refine V_iconst (pc := 60) (v := 5) hk dX0_namesAgo_60 rfl ?_
      refine V_acpI (pc := 61) hk (acpW hk q909 q222 q221 q132) ⟨Nat.le_of_ble_eq_true rfl, Nat.le_of_ble_eq_true rfl⟩ (Nat.le_of_ble_eq_true rfl) dX0_namesAgo_61 (fun w3 => ?_)
      refine V_iinc (pc := 64) (v := 1) (lc' := [(4, .int (l4 + 1)), (5, .int (8 + (5 * (l4 - 1)))), (0, va_rf l0), (1, va_rf l1), (2, .int l2), (3, .int l3)]) hk dX0_namesAgo_64 5 rfl rfl (Nat.le_of_ble_eq_true rfl) rfl ?_
      refine V_goto (pc := 67) (tgt := 3) hk dX0_namesAgo_67 rfl ?_
      refine V_pick (lc' := [(0, va_rf l0), (1, va_rf l1), (2, .int l2), (3, .int l3), (4, .int (l4 + 1))]) [2, 3, 4, 5, 0] rfl ?_
      exact h3 w3 l0 l1 l2 l3 (l4 + 1)
    · refine V_aload_n (pc := 29) hk dX0_namesAgo_29 1 rfl ?_
      refine g_X0_39 (pc := 30) hk dX0_namesAgo_30 (fun v4 => ?_)
      refine V_iload (pc := 33) hk dX0_namesAgo_33 0 rfl ?_
      refine V_iload (pc := 35) hk dX0_namesAgo_35 0 rfl ?_
      refine V_iconst (pc := 37) (v := 5) hk dX0_namesAgo_37 rfl ?_
      refine V_iadd (pc := 38) hk dX0_namesAgo_38 ?_
      refine V_iconst (pc := 39) (v := 0) hk dX0_namesAgo_39 rfl ?_
      refine n_X0_127 (pc := 40) hk (fun r h => ctJ12_fill (fl y) (fK y) hk.2.2.2.2.2.2.2.1 v4 (8 + (5 * (l4 - 1))) ((8 + (5 * (l4 - 1))) + 5) 0 w r h) ⟨Nat.le_of_ble_eq_true rfl, Nat.le_of_ble_eq_true rfl⟩ (Nat.le_of_ble_eq_true rfl) dX0_namesAgo_40 (fun r5 => ?_)
      refine V_goto (pc := 43) (tgt := 64) hk dX0_namesAgo_43 rfl ?_
      refine V_iinc (pc := 64) (v := 1) (lc' := [(4, .int (l4 + 1)), (5, .int (8 + (5 * (l4 - 1)))), (0, va_rf l0), (1, va_rf l1), (2, .int l2), (3, .int l3)]) hk dX0_namesAgo_64 5 rfl rfl (Nat.le_of_ble_eq_true rfl) rfl ?_
      refine V_goto (pc := 67) (tgt := 3) hk dX0_namesAgo_67 rfl ?_
      refine V_pick (lc' := [(0, va_rf l0), (1, va_rf l1), (2, .int l2), (3, .int l3), (4, .int (l4 + 1))]) [2, 3, 4, 5, 0] rfl ?_
      exact h3 r5.2 l0 l1 l2 l3 (l4 + 1)
theorem eX0_namesAgo_l3 {y : Fx (Unit × Wd)} (hk : OkF y RX0 cX0_namesAgo 6 4 106) (hR : RetM y rvV none) : ∀ (n : Nat) (w : Wd) (l0 : Option Nat) (l1 : Option Nat) (l2 : Int32) (l3 : Int32) (l4 : Int32), V y w [(0, va_rf l0), (1, va_rf l1), (2, .int l2), (3, .int l3), (4, .int l4)] [] 3 (mX0_namesAgo_l3 n w l0 l1 l2 l3 l4) := by
  intro n
  induction n with
  | zero => intro w l0 l1 l2 l3 l4; exact V_none
  | succ n ih => intro w l0 l1 l2 l3 l4; exact eX0_namesAgo_b3 hk hR ih w l0 l1 l2 l3 l4
theorem eX0_namesAgo {y : Fx (Unit × Wd)} (hk : OkF y RX0 cX0_namesAgo 6 4 106) (hR : RetM y rvV none) (this : Nat) (a0 : Option Nat) (a1 : Int32) (a2 : Int32) (w : Wd) : V y w [(0, va_rf (some this)), (1, va_rf a0), (2, .int a1), (3, .int a2)] [] 0 (mX0_namesAgo this a0 a1 a2 w) := by
  unfold mX0_namesAgo
  refine V_iconst (pc := 0) (v := 1) hk dX0_namesAgo_0 rfl ?_
  refine V_istore (pc := 1) (lc' := [(4, .int 1), (0, va_rf ((some this))), (1, va_rf a0), (2, .int a1), (3, .int a2)]) (i := 4) hk dX0_namesAgo_1 (Nat.le_of_ble_eq_true rfl) rfl ?_
  refine V_pick (lc' := [(0, va_rf ((some this))), (1, va_rf a0), (2, .int a1), (3, .int a2), (4, .int 1)]) [1, 2, 3, 4, 0] rfl ?_
  exact eX0_namesAgo_l3 hk hR FU w ((some this)) a0 a1 a2 1
theorem ctX0_namesAgo (l : Launch) (K : Kx) (hI : Ini K) (b : Nat) (a0 : Option Nat) (a1 : Int32) (a2 : Int32) (w : Wd) : ∀ r, mX0_namesAgo b a0 a1 a2 w = some r → Ct l K 4 106 yX0_namesAgo (ws_ yX0_namesAgo cX0_namesAgo 6 none) [.ref b, va_rf a0, .int a1, .int a2] w (rvV r.1) r.2 := Ct_of rvV l K hI 4 106 [.ref b, va_rf a0, .int a1, .int a2] w (by decide) (lc0 := [(0, .ref b), (1, va_rf a0), (2, .int a1), (3, .int a2)]) (by simp [lv_args, rf_cat, cat_int, cat_long, cat_ref]) (lg_len _ _ (by simp [rf_cat, cat_int, cat_long, cat_ref])) (fun y hk hR _ _ hin => eX0_namesAgo hk hR b a0 a1 a2 w)
noncomputable def mX0_names (this : Nat) (a0 : Option Nat) (w : Wd) : Option (Unit × Wd) :=
(gR w ((some this)) 0 6).bind fun v1 =>
(ia w a0 0).bind fun v2 =>
(ia w a0 2).bind fun v3 =>
(ias w v1 0 (v2 - v3)).bind fun w4 =>
(gR w4 ((some this)) 0 6).bind fun v5 =>
(ia w4 a0 3).bind fun v6 =>
(ias w4 v5 1 v6).bind fun w7 =>
(gR w7 ((some this)) 0 6).bind fun v8 =>
(ia w7 a0 1).bind fun v9 =>
(ias w7 v8 2 v9).bind fun w10 =>
(gR w10 ((some this)) 0 6).bind fun v11 =>
(ia w10 a0 6).bind fun v12 =>
(ias w10 v11 3 v12).bind fun w13 =>
(gR w13 ((some this)) 0 6).bind fun v14 =>
(ia w13 a0 7).bind fun v15 =>
(ia w13 a0 0).bind fun v16 =>
(ias w13 v14 4 (v15 - v16)).bind fun w17 =>
(gR w17 ((some this)) 0 6).bind fun v18 =>
(ia w17 a0 4).bind fun v19 =>
(ias w17 v18 5 v19).bind fun w20 =>
(gR w20 ((some this)) 0 6).bind fun v21 =>
(ia w20 a0 5).bind fun v22 =>
(ias w20 v21 6 v22).bind fun w23 =>
(ia w23 a0 8).bind fun v24 =>
(cal w23 (mX0_firstKept a0 w23)).bind fun r25 =>
(recv r25.2 ((some this)) 0).bind fun b27 => (cal r25.2 (mX0_namesAgo b27 a0 v24 r25.1 r25.2)).bind fun r26 =>
some ((), r26.2)
theorem eX0_names {y : Fx (Unit × Wd)} (hk : OkF y RX0 cX0_names 2 5 131) (hR : RetM y rvV none) (this : Nat) (a0 : Option Nat) (w : Wd) : V y w [(0, va_rf (some this)), (1, va_rf a0)] [] 0 (mX0_names this a0 w) := by
  unfold mX0_names
  refine V_aload_n (pc := 0) hk dX0_names_0 0 rfl ?_
  refine g_X0_39 (pc := 1) hk dX0_names_1 (fun v1 => ?_)
  refine V_iconst (pc := 4) (v := 0) hk dX0_names_4 rfl ?_
  refine V_aload_n (pc := 5) hk dX0_names_5 1 rfl ?_
  refine V_iconst (pc := 6) (v := 0) hk dX0_names_6 rfl ?_
  refine V_iaload (pc := 7) hk dX0_names_7 (fun v2 => ?_)
  refine V_aload_n (pc := 8) hk dX0_names_8 1 rfl ?_
  refine V_iconst (pc := 9) (v := 2) hk dX0_names_9 rfl ?_
  refine V_iaload (pc := 10) hk dX0_names_10 (fun v3 => ?_)
  refine V_isub (pc := 11) hk dX0_names_11 ?_
  refine V_iastore (pc := 12) hk dX0_names_12 (fun w4 => ?_)
  refine V_aload_n (pc := 13) hk dX0_names_13 0 rfl ?_
  refine g_X0_39 (pc := 14) hk dX0_names_14 (fun v5 => ?_)
  refine V_iconst (pc := 17) (v := 1) hk dX0_names_17 rfl ?_
  refine V_aload_n (pc := 18) hk dX0_names_18 1 rfl ?_
  refine V_iconst (pc := 19) (v := 3) hk dX0_names_19 rfl ?_
  refine V_iaload (pc := 20) hk dX0_names_20 (fun v6 => ?_)
  refine V_iastore (pc := 21) hk dX0_names_21 (fun w7 => ?_)
  refine V_aload_n (pc := 22) hk dX0_names_22 0 rfl ?_
  refine g_X0_39 (pc := 23) hk dX0_names_23 (fun v8 => ?_)
  refine V_iconst (pc := 26) (v := 2) hk dX0_names_26 rfl ?_
  refine V_aload_n (pc := 27) hk dX0_names_27 1 rfl ?_
  refine V_iconst (pc := 28) (v := 1) hk dX0_names_28 rfl ?_
  refine V_iaload (pc := 29) hk dX0_names_29 (fun v9 => ?_)
  refine V_iastore (pc := 30) hk dX0_names_30 (fun w10 => ?_)
  refine V_aload_n (pc := 31) hk dX0_names_31 0 rfl ?_
  refine g_X0_39 (pc := 32) hk dX0_names_32 (fun v11 => ?_)
  refine V_iconst (pc := 35) (v := 3) hk dX0_names_35 rfl ?_
  refine V_aload_n (pc := 36) hk dX0_names_36 1 rfl ?_
  refine V_bipush (pc := 37) (v := 6) hk dX0_names_37 rfl ?_
  refine V_iaload (pc := 39) hk dX0_names_39 (fun v12 => ?_)
  refine V_iastore (pc := 40) hk dX0_names_40 (fun w13 => ?_)
  refine V_aload_n (pc := 41) hk dX0_names_41 0 rfl ?_
  refine g_X0_39 (pc := 42) hk dX0_names_42 (fun v14 => ?_)
  refine V_iconst (pc := 45) (v := 4) hk dX0_names_45 rfl ?_
  refine V_aload_n (pc := 46) hk dX0_names_46 1 rfl ?_
  refine V_bipush (pc := 47) (v := 7) hk dX0_names_47 rfl ?_
  refine V_iaload (pc := 49) hk dX0_names_49 (fun v15 => ?_)
  refine V_aload_n (pc := 50) hk dX0_names_50 1 rfl ?_
  refine V_iconst (pc := 51) (v := 0) hk dX0_names_51 rfl ?_
  refine V_iaload (pc := 52) hk dX0_names_52 (fun v16 => ?_)
  refine V_isub (pc := 53) hk dX0_names_53 ?_
  refine V_iastore (pc := 54) hk dX0_names_54 (fun w17 => ?_)
  refine V_aload_n (pc := 55) hk dX0_names_55 0 rfl ?_
  refine g_X0_39 (pc := 56) hk dX0_names_56 (fun v18 => ?_)
  refine V_iconst (pc := 59) (v := 5) hk dX0_names_59 rfl ?_
  refine V_aload_n (pc := 60) hk dX0_names_60 1 rfl ?_
  refine V_iconst (pc := 61) (v := 4) hk dX0_names_61 rfl ?_
  refine V_iaload (pc := 62) hk dX0_names_62 (fun v19 => ?_)
  refine V_iastore (pc := 63) hk dX0_names_63 (fun w20 => ?_)
  refine V_aload_n (pc := 64) hk dX0_names_64 0 rfl ?_
  refine g_X0_39 (pc := 65) hk dX0_names_65 (fun v21 => ?_)
  refine V_bipush (pc := 68) (v := 6) hk dX0_names_68 rfl ?_
  refine V_aload_n (pc := 70) hk dX0_names_70 1 rfl ?_
  refine V_iconst (pc := 71) (v := 5) hk dX0_names_71 rfl ?_
  refine V_iaload (pc := 72) hk dX0_names_72 (fun v22 => ?_)
  refine V_iastore (pc := 73) hk dX0_names_73 (fun w23 => ?_)
  refine V_aload_n (pc := 74) hk dX0_names_74 0 rfl ?_
  refine V_aload_n (pc := 75) hk dX0_names_75 1 rfl ?_
  refine V_aload_n (pc := 76) hk dX0_names_76 1 rfl ?_
  refine V_bipush (pc := 77) (v := 8) hk dX0_names_77 rfl ?_
  refine V_iaload (pc := 79) hk dX0_names_79 (fun v24 => ?_)
  refine V_aload_n (pc := 80) hk dX0_names_80 1 rfl ?_
  refine n_X0_146 (pc := 81) hk (fun r h => ctX0_firstKept (fl y) (fK y) hk.2.2.2.2.2.2.2.1 a0 w23 r h) ⟨Nat.le_of_ble_eq_true rfl, Nat.le_of_ble_eq_true rfl⟩ (by simp [rf_cat, cat_int, cat_long, cat_ref]) dX0_names_81 (fun r25 => ?_)
  refine n_X0_150 (pc := 84) hk (fun b r h => ctX0_namesAgo (fl y) (fK y) hk.2.2.2.2.2.2.2.1 b a0 v24 r25.1 r25.2 r h) ⟨Nat.le_of_ble_eq_true rfl, Nat.le_of_ble_eq_true rfl⟩ (Nat.le_of_ble_eq_true rfl) dX0_names_84 (fun r26 => ?_)
  exact V_return (pc := 87) hk hR rfl dX0_names_87
theorem ctX0_names (l : Launch) (K : Kx) (hI : Ini K) (b : Nat) (a0 : Option Nat) (w : Wd) : ∀ r, mX0_names b a0 w = some r → Ct l K 5 131 yX0_names (ws_ yX0_names cX0_names 2 none) [.ref b, va_rf a0] w (rvV r.1) r.2 := Ct_of rvV l K hI 5 131 [.ref b, va_rf a0] w (by decide) (lc0 := [(0, .ref b), (1, va_rf a0)]) (by simp [lv_args, rf_cat, cat_int, cat_long, cat_ref]) (lg_len _ _ (by simp [rf_cat, cat_int, cat_long, cat_ref])) (fun y hk hR _ _ hin => eX0_names hk hR b a0 w)
noncomputable def mX0_rules (this : Nat) (w : Wd) : Option (Option Nat × Wd) :=
(gR w ((some this)) 0 0).bind fun v1 =>
(gR w v1 1 0).bind fun v2 =>
(ia w v2 3).bind fun v3 =>
if ¬ v3 = (-1) then (
(gR w ((some this)) 0 0).bind fun v4 =>
(gR w v4 1 6).bind fun v5 =>
(gR w ((some this)) 0 0).bind fun v6 =>
(gR w v6 1 0).bind fun v7 =>
(ia w v7 3).bind fun v8 =>
(aa w v5 v8).bind fun v9 =>
some (v9, w))
else (
some ((some 1), w))
theorem eX0_rules {y : Fx (Option Nat × Wd)} (hk : OkF y RX0 cX0_rules 1 2 60) (hR : RetM y rvR (some (.object "HookSwings$Text"))) (this : Nat) (w : Wd) : V y w [(0, va_rf (some this))] [] 0 (mX0_rules this w) := by
  unfold mX0_rules
  refine V_aload_n (pc := 0) hk dX0_rules_0 0 rfl ?_
  refine g_X0_21 (pc := 1) hk dX0_rules_1 (fun v1 => ?_)
  refine g_X0_79 (pc := 4) hk dX0_rules_4 (fun v2 => ?_)
  refine V_iconst (pc := 7) (v := 3) hk dX0_rules_7 rfl ?_
  refine V_iaload (pc := 8) hk dX0_rules_8 (fun v3 => ?_)
  refine V_iconst (pc := 9) (v := (-1)) hk dX0_rules_9 (by decide +kernel) ?_
  refine V_icmp_ne (pc := 10) (tgt := 19) hk dX0_rules_10 rfl ?_ ?_
  · refine V_aload_n (pc := 19) hk dX0_rules_19 0 rfl ?_
    refine g_X0_21 (pc := 20) hk dX0_rules_20 (fun v4 => ?_)
    refine g_X0_100 (pc := 23) hk dX0_rules_23 (fun v5 => ?_)
    refine V_aload_n (pc := 26) hk dX0_rules_26 0 rfl ?_
    refine g_X0_21 (pc := 27) hk dX0_rules_27 (fun v6 => ?_)
    refine g_X0_79 (pc := 30) hk dX0_rules_30 (fun v7 => ?_)
    refine V_iconst (pc := 33) (v := 3) hk dX0_rules_33 rfl ?_
    refine V_iaload (pc := 34) hk dX0_rules_34 (fun v8 => ?_)
    refine V_aaload (pc := 35) hk dX0_rules_35 (fun v9 => ?_)
    exact V_areturn (pc := 36) hk (Or.inl ⟨_, rfl⟩) hR rfl dX0_rules_36
  · refine V_gets (pc := 13) (v := va_rf (some 1)) (C := "HookSwings") hk (by decide +kernel) q918 (fun _ h => h) dX0_rules_13 ?_
    refine V_goto (pc := 16) (tgt := 36) hk dX0_rules_16 rfl ?_
    exact V_areturn (pc := 36) hk (Or.inl ⟨_, rfl⟩) hR rfl dX0_rules_36
theorem ctX0_rules (l : Launch) (K : Kx) (hI : Ini K) (b : Nat) (w : Wd) : ∀ r, mX0_rules b w = some r → Ct l K 2 60 yX0_rules (ws_ yX0_rules cX0_rules 1 (some (.object "HookSwings$Text"))) [.ref b] w (rvR r.1) r.2 := Ct_of rvR l K hI 2 60 [.ref b] w (by decide) (lc0 := [(0, .ref b)]) rfl (Nat.le_of_ble_eq_true rfl) (fun y hk hR _ _ hin => eX0_rules hk hR b w)
noncomputable def mX0_held (a0 : Int64) (a1 : Int32) (a2 : Int32) (w : Wd) : Option (Int32 × Wd) :=
some (((jmaxJ ((a1 : Int32).toInt64) (jminJ ((a2 : Int32).toInt64) a0)) : Int64).toInt32, w)
theorem eX0_held {y : Fx (Int32 × Wd)} (hk : OkF y RX0 cX0_held 4 2 60) (hR : RetM y rvI (some (.int))) (a0 : Int64) (a1 : Int32) (a2 : Int32) (w : Wd) : V y w [(0, .long a0), (2, .int a1), (3, .int a2)] [] 0 (mX0_held a0 a1 a2 w) := by
  unfold mX0_held
  refine V_iload_n (pc := 0) hk dX0_held_0 1 rfl ?_
  refine V_i2l (pc := 1) hk dX0_held_1 ?_
  refine V_iload_n (pc := 2) hk dX0_held_2 2 rfl ?_
  refine V_i2l (pc := 3) hk dX0_held_3 ?_
  refine V_lload_n (pc := 4) hk dX0_held_4 0 rfl ?_
  refine V_mminJ (pc := 5) hk q1021 ⟨Nat.le_of_ble_eq_true rfl, Nat.le_of_ble_eq_true rfl⟩ (Nat.le_of_ble_eq_true rfl) dX0_held_5 ?_
  refine V_mmaxJ (pc := 8) hk q1022 ⟨Nat.le_of_ble_eq_true rfl, Nat.le_of_ble_eq_true rfl⟩ (Nat.le_of_ble_eq_true rfl) dX0_held_8 ?_
  refine V_l2i (pc := 11) hk dX0_held_11 ?_
  exact V_ireturn (pc := 12) hk hR rfl dX0_held_12
theorem ctX0_held (l : Launch) (K : Kx) (hI : Ini K) (a0 : Int64) (a1 : Int32) (a2 : Int32) (w : Wd) : ∀ r, mX0_held a0 a1 a2 w = some r → Ct l K 2 60 yX0_held (ws_ yX0_held cX0_held 4 (some (.int))) [.long a0, .int a1, .int a2] w (rvI r.1) r.2 := Ct_of rvI l K hI 2 60 [.long a0, .int a1, .int a2] w (by decide) (lc0 := [(0, .long a0), (2, .int a1), (3, .int a2)]) rfl (Nat.le_of_ble_eq_true rfl) (fun y hk hR _ _ hin => eX0_held hk hR a0 a1 a2 w)
noncomputable def mX0_law (this : Nat) (a0 : Int32) (a1 : Int32) (a2 : Int32) (a3 : Int32) (w : Wd) : Option (Int32 × Wd) :=
(recv w ((some this)) 0).bind fun b2 => (cal w (mX0_rules b2 w)).bind fun r1 =>
(gR r1.2 r1.1 4 0).bind fun v3 =>
(aa r1.2 v3 a0).bind fun v4 =>
if ¬ v4 = none then (
(gR r1.2 ((some this)) 0 6).bind fun v5 =>
(v4).bind fun b6 => (cal r1.2 (dSum (ev9 EVD).1 b6 v5 r1.2)).bind fun r7 =>
(cal r7.2 (mX0_held r7.1 a2 a3 r7.2)).bind fun r8 =>
some (r8.1, r8.2))
else (
some (a1, r1.2))
theorem eX0_law {y : Fx (Int32 × Wd)} (hk : OkF y RX0 cX0_law 6 106 6153) (hR : RetM y rvI (some (.int))) (this : Nat) (a0 : Int32) (a1 : Int32) (a2 : Int32) (a3 : Int32) (w : Wd) : V y w [(0, va_rf (some this)), (1, .int a0), (2, .int a1), (3, .int a2), (4, .int a3)] [] 0 (mX0_law this a0 a1 a2 a3 w) := by
  unfold mX0_law
  refine V_aload_n (pc := 0) hk dX0_law_0 0 rfl ?_
  refine n_X0_154 (pc := 1) hk (fun b r h => ctX0_rules (fl y) (fK y) hk.2.2.2.2.2.2.2.1 b w r h) ⟨Nat.le_of_ble_eq_true rfl, Nat.le_of_ble_eq_true rfl⟩ (Nat.le_of_ble_eq_true rfl) dX0_law_1 (fun r1 => ?_)
  refine g_X0_157 (pc := 4) hk dX0_law_4 (fun v3 => ?_)
  refine V_iload_n (pc := 7) hk dX0_law_7 1 rfl ?_
  refine V_aaload (pc := 8) hk dX0_law_8 (fun v4 => ?_)
  refine V_astore (pc := 9) (lc' := [(5, va_rf v4), (0, va_rf ((some this))), (1, .int a0), (2, .int a1), (3, .int a2), (4, .int a3)]) (i := 5) hk dX0_law_9 (Nat.le_of_ble_eq_true rfl) rfl ?_
  refine V_aload (pc := 11) hk dX0_law_11 0 rfl ?_
  refine V_ifnonnull (pc := 13) (tgt := 20) hk dX0_law_13 rfl ?_ ?_
  · refine V_aload (pc := 20) hk dX0_law_20 0 rfl ?_
    refine V_aload_n (pc := 22) hk dX0_law_22 1 rfl ?_
    refine g_X0_39 (pc := 23) hk dX0_law_23 (fun v5 => ?_)
    refine V_ifSum (pc := 26) hk q921 (hev9 (fl y) (fK y) hk.2.2.2.2.2.2.2.1 EVD).1 ⟨Nat.le_of_ble_eq_true rfl, Nat.le_of_ble_eq_true rfl⟩ (Nat.le_of_ble_eq_true rfl) dX0_law_26 (fun r7 => ?_)
    refine V_iload_n (pc := 31) hk dX0_law_31 4 rfl ?_
    refine V_iload (pc := 32) hk dX0_law_32 5 rfl ?_
    refine n_X0_169 (pc := 34) hk (fun r h => ctX0_held (fl y) (fK y) hk.2.2.2.2.2.2.2.1 r7.1 a2 a3 r7.2 r h) ⟨Nat.le_of_ble_eq_true rfl, Nat.le_of_ble_eq_true rfl⟩ (Nat.le_of_ble_eq_true rfl) dX0_law_34 (fun r8 => ?_)
    exact V_ireturn (pc := 37) hk hR rfl dX0_law_37
  · refine V_iload_n (pc := 16) hk dX0_law_16 3 rfl ?_
    refine V_goto (pc := 17) (tgt := 37) hk dX0_law_17 rfl ?_
    exact V_ireturn (pc := 37) hk hR rfl dX0_law_37
theorem ctX0_law (l : Launch) (K : Kx) (hI : Ini K) (b : Nat) (a0 : Int32) (a1 : Int32) (a2 : Int32) (a3 : Int32) (w : Wd) : ∀ r, mX0_law b a0 a1 a2 a3 w = some r → Ct l K 106 6153 yX0_law (ws_ yX0_law cX0_law 6 (some (.int))) [.ref b, .int a0, .int a1, .int a2, .int a3] w (rvI r.1) r.2 := Ct_of rvI l K hI 106 6153 [.ref b, .int a0, .int a1, .int a2, .int a3] w (by decide) (lc0 := [(0, .ref b), (1, .int a0), (2, .int a1), (3, .int a2), (4, .int a3)]) rfl (Nat.le_of_ble_eq_true rfl) (fun y hk hR _ _ hin => eX0_law hk hR b a0 a1 a2 a3 w)
noncomputable def mX0_swings (this : Nat) (a0 : Option Nat) (w : Wd) : Option (Unit × Wd) :=
(recv w ((some this)) 0).bind fun b2 => (cal w (mX0_names b2 a0 w)).bind fun r1 =>
(gR r1.2 ((some this)) 0 6).bind fun v3 =>
(ia r1.2 v3 0).bind fun v4 =>
(ia r1.2 a0 4).bind fun v5 =>
(idv v4 v5).bind fun v6 =>
(cal r1.2 (mX0_held ((v6 : Int32).toInt64) (-99) 99 r1.2)).bind fun r7 =>
(recv r7.2 ((some this)) 0).bind fun b9 => (cal r7.2 (mX0_law b9 1 r7.1 (-99) 99 r7.2)).bind fun r8 =>
(ia r8.2 a0 3).bind fun v10 =>
(cal r8.2 (mX0_held (((v10 : Int32).toInt64) + ((r8.1 : Int32).toInt64)) (-99) 99 r8.2)).bind fun r11 =>
(ias r11.2 a0 3 r11.1).bind fun w12 =>
(ia w12 a0 2).bind fun v13 =>
(ia w12 a0 3).bind fun v14 =>
(cal w12 (mX0_held (((v13 : Int32).toInt64) + ((v14 : Int32).toInt64)) (-9999) 9999 w12)).bind fun r15 =>
(ias r15.2 a0 2 r15.1).bind fun w16 =>
some ((), w16)
theorem eX0_swings {y : Fx (Unit × Wd)} (hk : OkF y RX0 cX0_swings 3 107 6178) (hR : RetM y rvV none) (this : Nat) (a0 : Option Nat) (w : Wd) : V y w [(0, va_rf (some this)), (1, va_rf a0)] [] 0 (mX0_swings this a0 w) := by
  unfold mX0_swings
  refine V_aload_n (pc := 0) hk dX0_swings_0 0 rfl ?_
  refine V_aload_n (pc := 1) hk dX0_swings_1 1 rfl ?_
  refine n_X0_177 (pc := 2) hk (fun b r h => ctX0_names (fl y) (fK y) hk.2.2.2.2.2.2.2.1 b a0 w r h) ⟨Nat.le_of_ble_eq_true rfl, Nat.le_of_ble_eq_true rfl⟩ (Nat.le_of_ble_eq_true rfl) dX0_swings_2 (fun r1 => ?_)
  refine V_aload_n (pc := 5) hk dX0_swings_5 0 rfl ?_
  refine V_iconst (pc := 6) (v := 1) hk dX0_swings_6 rfl ?_
  refine V_aload_n (pc := 7) hk dX0_swings_7 0 rfl ?_
  refine g_X0_39 (pc := 8) hk dX0_swings_8 (fun v3 => ?_)
  refine V_iconst (pc := 11) (v := 0) hk dX0_swings_11 rfl ?_
  refine V_iaload (pc := 12) hk dX0_swings_12 (fun v4 => ?_)
  refine V_aload_n (pc := 13) hk dX0_swings_13 1 rfl ?_
  refine V_iconst (pc := 14) (v := 4) hk dX0_swings_14 rfl ?_
  refine V_iaload (pc := 15) hk dX0_swings_15 (fun v5 => ?_)
  refine V_idiv (pc := 16) hk dX0_swings_16 (fun v6 => ?_)
  refine V_i2l (pc := 17) hk dX0_swings_17 ?_
  refine V_bipush (pc := 18) (v := (-99)) hk dX0_swings_18 (by decide +kernel) ?_
  refine V_bipush (pc := 20) (v := 99) hk dX0_swings_20 rfl ?_
  refine n_X0_169 (pc := 22) hk (fun r h => ctX0_held (fl y) (fK y) hk.2.2.2.2.2.2.2.1 ((v6 : Int32).toInt64) (-99) 99 r1.2 r h) ⟨Nat.le_of_ble_eq_true rfl, Nat.le_of_ble_eq_true rfl⟩ (by simp [rf_cat, cat_int, cat_long, cat_ref]) dX0_swings_22 (fun r7 => ?_)
  refine V_bipush (pc := 25) (v := (-99)) hk dX0_swings_25 (by decide +kernel) ?_
  refine V_bipush (pc := 27) (v := 99) hk dX0_swings_27 rfl ?_
  refine n_X0_173 (pc := 29) hk (fun b r h => ctX0_law (fl y) (fK y) hk.2.2.2.2.2.2.2.1 b 1 r7.1 (-99) 99 r7.2 r h) ⟨Nat.le_of_ble_eq_true rfl, Nat.le_of_ble_eq_true rfl⟩ (Nat.le_of_ble_eq_true rfl) dX0_swings_29 (fun r8 => ?_)
  refine V_istore_n (pc := 32) (lc' := [(2, .int r8.1), (0, va_rf ((some this))), (1, va_rf a0)]) (i := 2) hk dX0_swings_32 rfl (Nat.le_of_ble_eq_true rfl) (by simp [rf_cat, cat_int, cat_long, cat_ref]) ?_
  refine V_aload_n (pc := 33) hk dX0_swings_33 2 rfl ?_
  refine V_iconst (pc := 34) (v := 3) hk dX0_swings_34 rfl ?_
  refine V_aload_n (pc := 35) hk dX0_swings_35 2 rfl ?_
  refine V_iconst (pc := 36) (v := 3) hk dX0_swings_36 rfl ?_
  refine V_iaload (pc := 37) hk dX0_swings_37 (fun v10 => ?_)
  refine V_i2l (pc := 38) hk dX0_swings_38 ?_
  refine V_iload_n (pc := 39) hk dX0_swings_39 0 rfl ?_
  refine V_i2l (pc := 40) hk dX0_swings_40 ?_
  refine V_ladd (pc := 41) hk dX0_swings_41 ?_
  refine V_bipush (pc := 42) (v := (-99)) hk dX0_swings_42 (by decide +kernel) ?_
  refine V_bipush (pc := 44) (v := 99) hk dX0_swings_44 rfl ?_
  refine n_X0_169 (pc := 46) hk (fun r h => ctX0_held (fl y) (fK y) hk.2.2.2.2.2.2.2.1 (((v10 : Int32).toInt64) + ((r8.1 : Int32).toInt64)) (-99) 99 r8.2 r h) ⟨Nat.le_of_ble_eq_true rfl, Nat.le_of_ble_eq_true rfl⟩ (by simp [rf_cat, cat_int, cat_long, cat_ref]) dX0_swings_46 (fun r11 => ?_)
  refine V_iastore (pc := 49) hk dX0_swings_49 (fun w12 => ?_)
  refine V_aload_n (pc := 50) hk dX0_swings_50 2 rfl ?_
  refine V_iconst (pc := 51) (v := 2) hk dX0_swings_51 rfl ?_
  refine V_aload_n (pc := 52) hk dX0_swings_52 2 rfl ?_
  refine V_iconst (pc := 53) (v := 2) hk dX0_swings_53 rfl ?_
  refine V_iaload (pc := 54) hk dX0_swings_54 (fun v13 => ?_)
  refine V_i2l (pc := 55) hk dX0_swings_55 ?_
  refine V_aload_n (pc := 56) hk dX0_swings_56 2 rfl ?_
  refine V_iconst (pc := 57) (v := 3) hk dX0_swings_57 rfl ?_
  refine V_iaload (pc := 58) hk dX0_swings_58 (fun v14 => ?_)
  refine V_i2l (pc := 59) hk dX0_swings_59 ?_
  refine V_ladd (pc := 60) hk dX0_swings_60 ?_
  refine V_sipush (pc := 61) (v := (-9999)) hk dX0_swings_61 (by decide +kernel) ?_
  refine V_sipush (pc := 64) (v := 9999) hk dX0_swings_64 rfl ?_
  refine n_X0_169 (pc := 67) hk (fun r h => ctX0_held (fl y) (fK y) hk.2.2.2.2.2.2.2.1 (((v13 : Int32).toInt64) + ((v14 : Int32).toInt64)) (-9999) 9999 w12 r h) ⟨Nat.le_of_ble_eq_true rfl, Nat.le_of_ble_eq_true rfl⟩ (by simp [rf_cat, cat_int, cat_long, cat_ref]) dX0_swings_67 (fun r15 => ?_)
  refine V_iastore (pc := 70) hk dX0_swings_70 (fun w16 => ?_)
  exact V_return (pc := 71) hk hR rfl dX0_swings_71
theorem ctX0_swings (l : Launch) (K : Kx) (hI : Ini K) (b : Nat) (a0 : Option Nat) (w : Wd) : ∀ r, mX0_swings b a0 w = some r → Ct l K 107 6178 yX0_swings (ws_ yX0_swings cX0_swings 3 none) [.ref b, va_rf a0] w (rvV r.1) r.2 := Ct_of rvV l K hI 107 6178 [.ref b, va_rf a0] w (by decide) (lc0 := [(0, .ref b), (1, va_rf a0)]) (by simp [lv_args, rf_cat, cat_int, cat_long, cat_ref]) (lg_len _ _ (by simp [rf_cat, cat_int, cat_long, cat_ref])) (fun y hk hR _ _ hin => eX0_swings hk hR b a0 w)
noncomputable def mX0_draws (a0 : Option Nat) (w : Wd) : Option (Unit × Wd) :=
(ia w a0 9).bind fun v1 =>
(irm ((v1 * 263) + 157) 30253).bind fun v2 =>
(ias w a0 9 v2).bind fun w3 =>
some ((), w3)
theorem eX0_draws {y : Fx (Unit × Wd)} (hk : OkF y RX0 cX0_draws 1 2 60) (hR : RetM y rvV none) (a0 : Option Nat) (w : Wd) : V y w [(0, va_rf a0)] [] 0 (mX0_draws a0 w) := by
  unfold mX0_draws
  refine V_aload_n (pc := 0) hk dX0_draws_0 0 rfl ?_
  refine V_bipush (pc := 1) (v := 9) hk dX0_draws_1 rfl ?_
  refine V_aload_n (pc := 3) hk dX0_draws_3 0 rfl ?_
  refine V_bipush (pc := 4) (v := 9) hk dX0_draws_4 rfl ?_
  refine V_iaload (pc := 6) hk dX0_draws_6 (fun v1 => ?_)
  refine V_sipush (pc := 7) (v := 263) hk dX0_draws_7 rfl ?_
  refine V_imul (pc := 10) hk dX0_draws_10 ?_
  refine V_sipush (pc := 11) (v := 157) hk dX0_draws_11 rfl ?_
  refine V_iadd (pc := 14) hk dX0_draws_14 ?_
  refine V_sipush (pc := 15) (v := 30253) hk dX0_draws_15 rfl ?_
  refine V_irem (pc := 18) hk dX0_draws_18 (fun v2 => ?_)
  refine V_iastore (pc := 19) hk dX0_draws_19 (fun w3 => ?_)
  exact V_return (pc := 20) hk hR rfl dX0_draws_20
theorem ctX0_draws (l : Launch) (K : Kx) (hI : Ini K) (a0 : Option Nat) (w : Wd) : ∀ r, mX0_draws a0 w = some r → Ct l K 2 60 yX0_draws (ws_ yX0_draws cX0_draws 1 none) [va_rf a0] w (rvV r.1) r.2 := Ct_of rvV l K hI 2 60 [va_rf a0] w (by decide) (lc0 := [(0, va_rf a0)]) (by simp [lv_args, rf_cat, cat_int, cat_long, cat_ref]) (lg_len _ _ (by simp [rf_cat, cat_int, cat_long, cat_ref])) (fun y hk hR _ _ hin => eX0_draws hk hR a0 w)
noncomputable def mX0_blows (this : Nat) (a0 : Option Nat) (w : Wd) : Option (Unit × Wd) :=
(ia w a0 8).bind fun v1 =>
(irm (v1 + 1) 40).bind fun v2 =>
if ¬ v2 = 0 then (
(ia w a0 6).bind fun v3 =>
(ias w a0 6 (jmaxI 0 (v3 - 1))).bind fun w4 =>
some ((), w4))
else (
(ia w a0 9).bind fun v5 =>
(irm v5 10).bind fun v6 =>
(ias w a0 6 v6).bind fun w7 =>
(cal w7 (mX0_draws a0 w7)).bind fun r8 =>
some ((), r8.2))
theorem eX0_blows {y : Fx (Unit × Wd)} (hk : OkF y RX0 cX0_blows 2 3 80) (hR : RetM y rvV none) (this : Nat) (a0 : Option Nat) (w : Wd) : V y w [(0, va_rf (some this)), (1, va_rf a0)] [] 0 (mX0_blows this a0 w) := by
  unfold mX0_blows
  refine V_aload_n (pc := 0) hk dX0_blows_0 1 rfl ?_
  refine V_bipush (pc := 1) (v := 8) hk dX0_blows_1 rfl ?_
  refine V_iaload (pc := 3) hk dX0_blows_3 (fun v1 => ?_)
  refine V_iconst (pc := 4) (v := 1) hk dX0_blows_4 rfl ?_
  refine V_iadd (pc := 5) hk dX0_blows_5 ?_
  refine V_bipush (pc := 6) (v := 40) hk dX0_blows_6 rfl ?_
  refine V_irem (pc := 8) hk dX0_blows_8 (fun v2 => ?_)
  refine V_if_ne (pc := 9) (tgt := 30) hk dX0_blows_9 rfl ?_ ?_
  · refine V_aload_n (pc := 30) hk dX0_blows_30 1 rfl ?_
    refine V_bipush (pc := 31) (v := 6) hk dX0_blows_31 rfl ?_
    refine V_iconst (pc := 33) (v := 0) hk dX0_blows_33 rfl ?_
    refine V_aload_n (pc := 34) hk dX0_blows_34 1 rfl ?_
    refine V_bipush (pc := 35) (v := 6) hk dX0_blows_35 rfl ?_
    refine V_iaload (pc := 37) hk dX0_blows_37 (fun v3 => ?_)
    refine V_iconst (pc := 38) (v := 1) hk dX0_blows_38 rfl ?_
    refine V_isub (pc := 39) hk dX0_blows_39 ?_
    refine V_mmax (pc := 40) hk q895 ⟨Nat.le_of_ble_eq_true rfl, Nat.le_of_ble_eq_true rfl⟩ (by simp [rf_cat, cat_int, cat_long, cat_ref]) dX0_blows_40 ?_
    refine V_iastore (pc := 43) hk dX0_blows_43 (fun w4 => ?_)
    exact V_return (pc := 44) hk hR rfl dX0_blows_44
  · refine V_aload_n (pc := 12) hk dX0_blows_12 1 rfl ?_
    refine V_bipush (pc := 13) (v := 6) hk dX0_blows_13 rfl ?_
    refine V_aload_n (pc := 15) hk dX0_blows_15 1 rfl ?_
    refine V_bipush (pc := 16) (v := 9) hk dX0_blows_16 rfl ?_
    refine V_iaload (pc := 18) hk dX0_blows_18 (fun v5 => ?_)
    refine V_bipush (pc := 19) (v := 10) hk dX0_blows_19 rfl ?_
    refine V_irem (pc := 21) hk dX0_blows_21 (fun v6 => ?_)
    refine V_iastore (pc := 22) hk dX0_blows_22 (fun w7 => ?_)
    refine V_aload_n (pc := 23) hk dX0_blows_23 1 rfl ?_
    refine n_X0_194 (pc := 24) hk (fun r h => ctX0_draws (fl y) (fK y) hk.2.2.2.2.2.2.2.1 a0 w7 r h) ⟨Nat.le_of_ble_eq_true rfl, Nat.le_of_ble_eq_true rfl⟩ (Nat.le_of_ble_eq_true rfl) dX0_blows_24 (fun r8 => ?_)
    refine V_goto (pc := 27) (tgt := 44) hk dX0_blows_27 rfl ?_
    exact V_return (pc := 44) hk hR rfl dX0_blows_44
theorem ctX0_blows (l : Launch) (K : Kx) (hI : Ini K) (b : Nat) (a0 : Option Nat) (w : Wd) : ∀ r, mX0_blows b a0 w = some r → Ct l K 3 80 yX0_blows (ws_ yX0_blows cX0_blows 2 none) [.ref b, va_rf a0] w (rvV r.1) r.2 := Ct_of rvV l K hI 3 80 [.ref b, va_rf a0] w (by decide) (lc0 := [(0, .ref b), (1, va_rf a0)]) (by simp [lv_args, rf_cat, cat_int, cat_long, cat_ref]) (lg_len _ _ (by simp [rf_cat, cat_int, cat_long, cat_ref])) (fun y hk hR _ _ hin => eX0_blows hk hR b a0 w)
noncomputable def mX0_tenth_p99 (w : Wd) (l0 : Option Nat) (l1 : Option Nat) : Option (Unit × Wd) :=
(recv w l0 0).bind fun b2 => (cal w (mX0_swings b2 l1 w)).bind fun r1 =>
(gI r1.2 l0 0 7).bind fun v3 =>
if ¬ v3 = 0 then (
(ia r1.2 l1 8).bind fun v4 =>
(ias r1.2 l1 8 (v4 + 1)).bind fun w5 =>
some ((), w5))
else (
(recv r1.2 l0 0).bind fun b7 => (cal r1.2 (mX0_blows b7 l1 r1.2)).bind fun r6 =>
(ia r6.2 l1 8).bind fun v8 =>
(ias r6.2 l1 8 (v8 + 1)).bind fun w9 =>
some ((), w9))
noncomputable def mX0_tenth (this : Nat) (a0 : Option Nat) (a1 : Int32) (w : Wd) : Option (Unit × Wd) :=
(recv w ((some this)) 0).bind fun b2 => (cal w (mX0_names b2 a0 w)).bind fun r1 =>
(recv r1.2 ((some this)) 0).bind fun b4 => (cal r1.2 (mX0_law b4 0 3 0 9 r1.2)).bind fun r3 =>
(ia r3.2 a0 8).bind fun v5 =>
(cal r3.2 (mX0_tenthAt v5 r3.2)).bind fun r6 =>
(gR r6.2 ((some this)) 0 6).bind fun v7 =>
(acpI r6.2 v7 0 a0 r6.1 5).bind fun w8 =>
(ias w8 a0 (r6.1 + 5) a1).bind fun w9 =>
(ia w9 a0 1).bind fun v10 =>
(cal w9 (mX0_held (((v10 : Int32).toInt64) + ((a1 : Int32).toInt64)) (-r3.1) r3.1 w9)).bind fun r11 =>
(ias r11.2 a0 1 r11.1).bind fun w12 =>
(ia w12 a0 0).bind fun v13 =>
(ia w12 a0 1).bind fun v14 =>
(ias w12 a0 0 (v13 + v14)).bind fun w15 =>
(ia w15 a0 0).bind fun v16 =>
(cal w15 (mX0_in v16 0 600 w15)).bind fun r17 =>
if ¬ r17.1 = 0 then (
mX0_tenth_p99 r17.2 ((some this)) a0)
else (
(ia r17.2 a0 0).bind fun v18 =>
(cal r17.2 (mX0_held ((v18 : Int32).toInt64) 0 600 r17.2)).bind fun r19 =>
(ias r19.2 a0 0 r19.1).bind fun w20 =>
(ias w20 a0 1 0).bind fun w21 =>
mX0_tenth_p99 w21 ((some this)) a0)
theorem eX0_tenth_p99 {y : Fx (Unit × Wd)} (hk : OkF y RX0 cX0_tenth 5 108 6200) (hR : RetM y rvV none) (w : Wd) (l0 : Option Nat) (l1 : Option Nat) : V y w [(0, va_rf l0), (1, va_rf l1)] [] 99 (mX0_tenth_p99 w l0 l1) := by
  unfold mX0_tenth_p99
  refine V_aload_n (pc := 99) hk dX0_tenth_99 0 rfl ?_
  refine V_aload_n (pc := 100) hk dX0_tenth_100 1 rfl ?_
  refine n_X0_184 (pc := 101) hk (fun b r h => ctX0_swings (fl y) (fK y) hk.2.2.2.2.2.2.2.1 b l1 w r h) ⟨Nat.le_of_ble_eq_true rfl, Nat.le_of_ble_eq_true rfl⟩ (Nat.le_of_ble_eq_true rfl) dX0_tenth_101 (fun r1 => ?_)
  refine V_aload_n (pc := 104) hk dX0_tenth_104 0 rfl ?_
  refine g_X0_187 (pc := 105) hk dX0_tenth_105 (fun v3 => ?_)
  refine V_if_ne (pc := 108) (tgt := 116) hk dX0_tenth_108 rfl ?_ ?_
  · refine V_aload_n (pc := 116) hk dX0_tenth_116 1 rfl ?_
    refine V_bipush (pc := 117) (v := 8) hk dX0_tenth_117 rfl ?_
    refine V_dup2 (pc := 119) hk dX0_tenth_119 rfl (rf_cat _) ?_
    refine V_iaload (pc := 120) hk dX0_tenth_120 (fun v4 => ?_)
    refine V_iconst (pc := 121) (v := 1) hk dX0_tenth_121 rfl ?_
    refine V_iadd (pc := 122) hk dX0_tenth_122 ?_
    refine V_iastore (pc := 123) hk dX0_tenth_123 (fun w5 => ?_)
    exact V_return (pc := 124) hk hR rfl dX0_tenth_124
  · refine V_aload_n (pc := 111) hk dX0_tenth_111 0 rfl ?_
    refine V_aload_n (pc := 112) hk dX0_tenth_112 1 rfl ?_
    refine n_X0_191 (pc := 113) hk (fun b r h => ctX0_blows (fl y) (fK y) hk.2.2.2.2.2.2.2.1 b l1 r1.2 r h) ⟨Nat.le_of_ble_eq_true rfl, Nat.le_of_ble_eq_true rfl⟩ (Nat.le_of_ble_eq_true rfl) dX0_tenth_113 (fun r6 => ?_)
    refine V_aload_n (pc := 116) hk dX0_tenth_116 1 rfl ?_
    refine V_bipush (pc := 117) (v := 8) hk dX0_tenth_117 rfl ?_
    refine V_dup2 (pc := 119) hk dX0_tenth_119 rfl (rf_cat _) ?_
    refine V_iaload (pc := 120) hk dX0_tenth_120 (fun v8 => ?_)
    refine V_iconst (pc := 121) (v := 1) hk dX0_tenth_121 rfl ?_
    refine V_iadd (pc := 122) hk dX0_tenth_122 ?_
    refine V_iastore (pc := 123) hk dX0_tenth_123 (fun w9 => ?_)
    exact V_return (pc := 124) hk hR rfl dX0_tenth_124
theorem eX0_tenth {y : Fx (Unit × Wd)} (hk : OkF y RX0 cX0_tenth 5 108 6200) (hR : RetM y rvV none) (this : Nat) (a0 : Option Nat) (a1 : Int32) (w : Wd) : V y w [(0, va_rf (some this)), (1, va_rf a0), (2, .int a1)] [] 0 (mX0_tenth this a0 a1 w) := by
  unfold mX0_tenth
  refine V_aload_n (pc := 0) hk dX0_tenth_0 0 rfl ?_
  refine V_aload_n (pc := 1) hk dX0_tenth_1 1 rfl ?_
  refine n_X0_177 (pc := 2) hk (fun b r h => ctX0_names (fl y) (fK y) hk.2.2.2.2.2.2.2.1 b a0 w r h) ⟨Nat.le_of_ble_eq_true rfl, Nat.le_of_ble_eq_true rfl⟩ (Nat.le_of_ble_eq_true rfl) dX0_tenth_2 (fun r1 => ?_)
  refine V_aload_n (pc := 5) hk dX0_tenth_5 0 rfl ?_
  refine V_iconst (pc := 6) (v := 0) hk dX0_tenth_6 rfl ?_
  refine V_iconst (pc := 7) (v := 3) hk dX0_tenth_7 rfl ?_
  refine V_iconst (pc := 8) (v := 0) hk dX0_tenth_8 rfl ?_
  refine V_bipush (pc := 9) (v := 9) hk dX0_tenth_9 rfl ?_
  refine n_X0_173 (pc := 11) hk (fun b r h => ctX0_law (fl y) (fK y) hk.2.2.2.2.2.2.2.1 b 0 3 0 9 r1.2 r h) ⟨Nat.le_of_ble_eq_true rfl, Nat.le_of_ble_eq_true rfl⟩ (Nat.le_of_ble_eq_true rfl) dX0_tenth_11 (fun r3 => ?_)
  refine V_istore_n (pc := 14) (lc' := [(3, .int r3.1), (0, va_rf ((some this))), (1, va_rf a0), (2, .int a1)]) (i := 3) hk dX0_tenth_14 rfl (Nat.le_of_ble_eq_true rfl) rfl ?_
  refine V_aload_n (pc := 15) hk dX0_tenth_15 2 rfl ?_
  refine V_bipush (pc := 16) (v := 8) hk dX0_tenth_16 rfl ?_
  refine V_iaload (pc := 18) hk dX0_tenth_18 (fun v5 => ?_)
  refine n_X0_133 (pc := 19) hk (fun r h => ctX0_tenthAt (fl y) (fK y) hk.2.2.2.2.2.2.2.1 v5 r3.2 r h) ⟨Nat.le_of_ble_eq_true rfl, Nat.le_of_ble_eq_true rfl⟩ (Nat.le_of_ble_eq_true rfl) dX0_tenth_19 (fun r6 => ?_)
  refine V_istore (pc := 22) (lc' := [(4, .int r6.1), (3, .int r3.1), (0, va_rf ((some this))), (1, va_rf a0), (2, .int a1)]) (i := 4) hk dX0_tenth_22 (Nat.le_of_ble_eq_true rfl) rfl ?_
  refine V_aload_n (pc := 24) hk dX0_tenth_24 2 rfl ?_
  refine g_X0_39 (pc := 25) hk dX0_tenth_25 (fun v7 => ?_)
  refine V_iconst (pc := 28) (v := 0) hk dX0_tenth_28 rfl ?_
  refine V_aload_n (pc := 29) hk dX0_tenth_29 3 rfl ?_
  refine V_iload (pc := 30) hk dX0_tenth_30 0 rfl ?_
  refine V_iconst (pc := 32) (v := 5) hk dX0_tenth_32 rfl ?_
  refine V_acpI (pc := 33) hk (acpW hk q909 q222 q221 q132) ⟨Nat.le_of_ble_eq_true rfl, Nat.le_of_ble_eq_true rfl⟩ (Nat.le_of_ble_eq_true rfl) dX0_tenth_33 (fun w8 => ?_)
  refine V_aload_n (pc := 36) hk dX0_tenth_36 3 rfl ?_
  refine V_iload (pc := 37) hk dX0_tenth_37 0 rfl ?_
  refine V_iconst (pc := 39) (v := 5) hk dX0_tenth_39 rfl ?_
  refine V_iadd (pc := 40) hk dX0_tenth_40 ?_
  refine V_iload_n (pc := 41) hk dX0_tenth_41 4 rfl ?_
  refine V_iastore (pc := 42) hk dX0_tenth_42 (fun w9 => ?_)
  refine V_aload_n (pc := 43) hk dX0_tenth_43 3 rfl ?_
  refine V_iconst (pc := 44) (v := 1) hk dX0_tenth_44 rfl ?_
  refine V_aload_n (pc := 45) hk dX0_tenth_45 3 rfl ?_
  refine V_iconst (pc := 46) (v := 1) hk dX0_tenth_46 rfl ?_
  refine V_iaload (pc := 47) hk dX0_tenth_47 (fun v10 => ?_)
  refine V_i2l (pc := 48) hk dX0_tenth_48 ?_
  refine V_iload_n (pc := 49) hk dX0_tenth_49 4 rfl ?_
  refine V_i2l (pc := 50) hk dX0_tenth_50 ?_
  refine V_ladd (pc := 51) hk dX0_tenth_51 ?_
  refine V_iload_n (pc := 52) hk dX0_tenth_52 1 rfl ?_
  refine V_ineg (pc := 53) hk dX0_tenth_53 ?_
  refine V_iload_n (pc := 54) hk dX0_tenth_54 1 rfl ?_
  refine n_X0_169 (pc := 55) hk (fun r h => ctX0_held (fl y) (fK y) hk.2.2.2.2.2.2.2.1 (((v10 : Int32).toInt64) + ((a1 : Int32).toInt64)) (-r3.1) r3.1 w9 r h) ⟨Nat.le_of_ble_eq_true rfl, Nat.le_of_ble_eq_true rfl⟩ (by simp [rf_cat, cat_int, cat_long, cat_ref]) dX0_tenth_55 (fun r11 => ?_)
  refine V_iastore (pc := 58) hk dX0_tenth_58 (fun w12 => ?_)
  refine V_aload_n (pc := 59) hk dX0_tenth_59 3 rfl ?_
  refine V_iconst (pc := 60) (v := 0) hk dX0_tenth_60 rfl ?_
  refine V_dup2 (pc := 61) hk dX0_tenth_61 rfl (rf_cat _) ?_
  refine V_iaload (pc := 62) hk dX0_tenth_62 (fun v13 => ?_)
  refine V_aload_n (pc := 63) hk dX0_tenth_63 3 rfl ?_
  refine V_iconst (pc := 64) (v := 1) hk dX0_tenth_64 rfl ?_
  refine V_iaload (pc := 65) hk dX0_tenth_65 (fun v14 => ?_)
  refine V_iadd (pc := 66) hk dX0_tenth_66 ?_
  refine V_iastore (pc := 67) hk dX0_tenth_67 (fun w15 => ?_)
  refine V_aload_n (pc := 68) hk dX0_tenth_68 3 rfl ?_
  refine V_iconst (pc := 69) (v := 0) hk dX0_tenth_69 rfl ?_
  refine V_iaload (pc := 70) hk dX0_tenth_70 (fun v16 => ?_)
  refine V_iconst (pc := 71) (v := 0) hk dX0_tenth_71 rfl ?_
  refine V_sipush (pc := 72) (v := 600) hk dX0_tenth_72 rfl ?_
  refine n_X0_82 (pc := 75) hk (fun r h => ctX0_in (fl y) (fK y) hk.2.2.2.2.2.2.2.1 v16 0 600 w15 r h) ⟨Nat.le_of_ble_eq_true rfl, Nat.le_of_ble_eq_true rfl⟩ (Nat.le_of_ble_eq_true rfl) dX0_tenth_75 (fun r17 => ?_)
  refine V_if_ne (pc := 78) (tgt := 99) hk dX0_tenth_78 rfl ?_ ?_
  · refine V_pick (lc' := [(0, va_rf ((some this))), (1, va_rf a0)]) [2, 3] rfl ?_
    exact eX0_tenth_p99 hk hR r17.2 ((some this)) a0
  · refine V_aload_n (pc := 81) hk dX0_tenth_81 3 rfl ?_
    refine V_iconst (pc := 82) (v := 0) hk dX0_tenth_82 rfl ?_
    refine V_aload_n (pc := 83) hk dX0_tenth_83 3 rfl ?_
    refine V_iconst (pc := 84) (v := 0) hk dX0_tenth_84 rfl ?_
    refine V_iaload (pc := 85) hk dX0_tenth_85 (fun v18 => ?_)
    refine V_i2l (pc := 86) hk dX0_tenth_86 ?_
    refine V_iconst (pc := 87) (v := 0) hk dX0_tenth_87 rfl ?_
    refine V_sipush (pc := 88) (v := 600) hk dX0_tenth_88 rfl ?_
    refine n_X0_169 (pc := 91) hk (fun r h => ctX0_held (fl y) (fK y) hk.2.2.2.2.2.2.2.1 ((v18 : Int32).toInt64) 0 600 r17.2 r h) ⟨Nat.le_of_ble_eq_true rfl, Nat.le_of_ble_eq_true rfl⟩ (by simp [rf_cat, cat_int, cat_long, cat_ref]) dX0_tenth_91 (fun r19 => ?_)
    refine V_iastore (pc := 94) hk dX0_tenth_94 (fun w20 => ?_)
    refine V_aload_n (pc := 95) hk dX0_tenth_95 3 rfl ?_
    refine V_iconst (pc := 96) (v := 1) hk dX0_tenth_96 rfl ?_
    refine V_iconst (pc := 97) (v := 0) hk dX0_tenth_97 rfl ?_
    refine V_iastore (pc := 98) hk dX0_tenth_98 (fun w21 => ?_)
    refine V_pick (lc' := [(0, va_rf ((some this))), (1, va_rf a0)]) [2, 3] rfl ?_
    exact eX0_tenth_p99 hk hR w21 ((some this)) a0
theorem ctX0_tenth (l : Launch) (K : Kx) (hI : Ini K) (b : Nat) (a0 : Option Nat) (a1 : Int32) (w : Wd) : ∀ r, mX0_tenth b a0 a1 w = some r → Ct l K 108 6200 yX0_tenth (ws_ yX0_tenth cX0_tenth 5 none) [.ref b, va_rf a0, .int a1] w (rvV r.1) r.2 := Ct_of rvV l K hI 108 6200 [.ref b, va_rf a0, .int a1] w (by decide) (lc0 := [(0, .ref b), (1, va_rf a0), (2, .int a1)]) (by simp [lv_args, rf_cat, cat_int, cat_long, cat_ref]) (lg_len _ _ (by simp [rf_cat, cat_int, cat_long, cat_ref])) (fun y hk hR _ _ hin => eX0_tenth hk hR b a0 a1 w)
noncomputable def mX0_move (this : Nat) (a0 : Int32) (w : Wd) : Option (Int32 × Wd) :=
(cal w (mX0_in a0 (-1) 1 w)).bind fun r1 =>
if r1.1 = 0 then (
some ((-1), r1.2))
else (
(gR r1.2 ((some this)) 0 0).bind fun v2 =>
(gR r1.2 v2 1 1).bind fun v3 =>
(ia r1.2 v3 8).bind fun v4 =>
if ¬ v4 = 9999 then (
(gR r1.2 ((some this)) 0 0).bind fun v5 =>
(recv r1.2 v5 1).bind fun b7 => (cal r1.2 (mX1_keeps b7 r1.2)).bind fun r6 =>
(gR r6.2 ((some this)) 0 0).bind fun v8 =>
(gR r6.2 v8 1 1).bind fun v9 =>
(recv r6.2 ((some this)) 0).bind fun b11 => (cal r6.2 (mX0_tenth b11 v9 a0 r6.2)).bind fun r10 =>
(gR r10.2 ((some this)) 0 0).bind fun v12 =>
(gR r10.2 v12 1 1).bind fun v13 =>
(ia r10.2 v13 0).bind fun v14 =>
some (v14, r10.2))
else (
some ((-1), r1.2)))
theorem eX0_move {y : Fx (Int32 × Wd)} (hk : OkF y RX0 cX0_move 2 109 6224) (hR : RetM y rvI (some (.int))) (this : Nat) (a0 : Int32) (w : Wd) : V y w [(0, va_rf (some this)), (1, .int a0)] [] 0 (mX0_move this a0 w) := by
  unfold mX0_move
  refine V_iload_n (pc := 0) hk dX0_move_0 1 rfl ?_
  refine V_iconst (pc := 1) (v := (-1)) hk dX0_move_1 (by decide +kernel) ?_
  refine V_iconst (pc := 2) (v := 1) hk dX0_move_2 rfl ?_
  refine n_X0_82 (pc := 3) hk (fun r h => ctX0_in (fl y) (fK y) hk.2.2.2.2.2.2.2.1 a0 (-1) 1 w r h) ⟨Nat.le_of_ble_eq_true rfl, Nat.le_of_ble_eq_true rfl⟩ (Nat.le_of_ble_eq_true rfl) dX0_move_3 (fun r1 => ?_)
  refine V_if_eq (pc := 6) (tgt := 25) hk dX0_move_6 rfl ?_ ?_
  · refine V_iconst (pc := 25) (v := (-1)) hk dX0_move_25 (by decide +kernel) ?_
    exact V_ireturn (pc := 26) hk hR rfl dX0_move_26
  · refine V_aload_n (pc := 9) hk dX0_move_9 0 rfl ?_
    refine g_X0_21 (pc := 10) hk dX0_move_10 (fun v2 => ?_)
    refine g_X0_176 (pc := 13) hk dX0_move_13 (fun v3 => ?_)
    refine V_bipush (pc := 16) (v := 8) hk dX0_move_16 rfl ?_
    refine V_iaload (pc := 18) hk dX0_move_18 (fun v4 => ?_)
    refine V_sipush (pc := 19) (v := 9999) hk dX0_move_19 rfl ?_
    refine V_icmp_ne (pc := 22) (tgt := 27) hk dX0_move_22 rfl ?_ ?_
    · refine V_aload_n (pc := 27) hk dX0_move_27 0 rfl ?_
      refine g_X0_21 (pc := 28) hk dX0_move_28 (fun v5 => ?_)
      refine n_X0_200 (pc := 31) hk (fun b r h => ctX1_keeps (fl y) (fK y) hk.2.2.2.2.2.2.2.1 b r1.2 r h) ⟨Nat.le_of_ble_eq_true rfl, Nat.le_of_ble_eq_true rfl⟩ (Nat.le_of_ble_eq_true rfl) dX0_move_31 (fun r6 => ?_)
      refine V_aload_n (pc := 34) hk dX0_move_34 0 rfl ?_
      refine V_aload_n (pc := 35) hk dX0_move_35 0 rfl ?_
      refine g_X0_21 (pc := 36) hk dX0_move_36 (fun v8 => ?_)
      refine g_X0_176 (pc := 39) hk dX0_move_39 (fun v9 => ?_)
      refine V_iload_n (pc := 42) hk dX0_move_42 1 rfl ?_
      refine n_X0_203 (pc := 43) hk (fun b r h => ctX0_tenth (fl y) (fK y) hk.2.2.2.2.2.2.2.1 b v9 a0 r6.2 r h) ⟨Nat.le_of_ble_eq_true rfl, Nat.le_of_ble_eq_true rfl⟩ (Nat.le_of_ble_eq_true rfl) dX0_move_43 (fun r10 => ?_)
      refine V_aload_n (pc := 46) hk dX0_move_46 0 rfl ?_
      refine g_X0_21 (pc := 47) hk dX0_move_47 (fun v12 => ?_)
      refine g_X0_176 (pc := 50) hk dX0_move_50 (fun v13 => ?_)
      refine V_iconst (pc := 53) (v := 0) hk dX0_move_53 rfl ?_
      refine V_iaload (pc := 54) hk dX0_move_54 (fun v14 => ?_)
      exact V_ireturn (pc := 55) hk hR rfl dX0_move_55
    · refine V_iconst (pc := 25) (v := (-1)) hk dX0_move_25 (by decide +kernel) ?_
      exact V_ireturn (pc := 26) hk hR rfl dX0_move_26
theorem ctX0_move (l : Launch) (K : Kx) (hI : Ini K) (b : Nat) (a0 : Int32) (w : Wd) : ∀ r, mX0_move b a0 w = some r → Ct l K 109 6224 yX0_move (ws_ yX0_move cX0_move 2 (some (.int))) [.ref b, .int a0] w (rvI r.1) r.2 := Ct_of rvI l K hI 109 6224 [.ref b, .int a0] w (by decide) (lc0 := [(0, .ref b), (1, .int a0)]) rfl (Nat.le_of_ble_eq_true rfl) (fun y hk hR _ _ hin => eX0_move hk hR b a0 w)
noncomputable def mX0_commandBy_p34 (w : Wd) (t0 : Int64) : Option (Int32 × Wd) :=
if (lg_cmp t0 0) ≤ 0 then (
if 0 ≤ (lg_cmp t0 0) then (
some (0, w))
else (
some ((-1), w)))
else (
some (1, w))
noncomputable def mX0_commandBy (this : Nat) (a0 : Option Nat) (w : Wd) : Option (Int32 × Wd) :=
(gR w a0 4 0).bind fun v1 =>
(aa w v1 2).bind fun v2 =>
if ¬ v2 = none then (
(gR w a0 4 0).bind fun v3 =>
(aa w v3 2).bind fun v4 =>
(gR w ((some this)) 0 6).bind fun v5 =>
(v4).bind fun b6 => (cal w (dSum (ev9 EVD).1 b6 v5 w)).bind fun r7 =>
mX0_commandBy_p34 r7.2 r7.1)
else (
(gR w ((some this)) 0 6).bind fun v8 =>
(ia w v8 4).bind fun v9 =>
mX0_commandBy_p34 w ((v9 : Int32).toInt64))
theorem eX0_commandBy_p34 {y : Fx (Int32 × Wd)} (hk : OkF y RX0 cX0_commandBy 4 106 6153) (hR : RetM y rvI (some (.int))) (w : Wd) (t0 : Int64) : V y w [] [.long t0] 34 (mX0_commandBy_p34 w t0) := by
  unfold mX0_commandBy_p34
  refine V_lstore_n (pc := 34) (lc' := [(2, .long t0)]) (i := 2) hk dX0_commandBy_34 rfl (Nat.le_of_ble_eq_true rfl) rfl ?_
  refine V_lload_n (pc := 35) hk dX0_commandBy_35 0 rfl ?_
  refine V_lconst (pc := 36) (v := 0) hk dX0_commandBy_36 rfl ?_
  refine V_lcmp (pc := 37) hk dX0_commandBy_37 ?_
  refine V_if_le (pc := 38) (tgt := 45) hk dX0_commandBy_38 rfl ?_ ?_
  · refine V_lload_n (pc := 45) hk dX0_commandBy_45 0 rfl ?_
    refine V_lconst (pc := 46) (v := 0) hk dX0_commandBy_46 rfl ?_
    refine V_lcmp (pc := 47) hk dX0_commandBy_47 ?_
    refine V_if_ge (pc := 48) (tgt := 55) hk dX0_commandBy_48 rfl ?_ ?_
    · refine V_iconst (pc := 55) (v := 0) hk dX0_commandBy_55 rfl ?_
      exact V_ireturn (pc := 56) hk hR rfl dX0_commandBy_56
    · refine V_iconst (pc := 51) (v := (-1)) hk dX0_commandBy_51 (by decide +kernel) ?_
      refine V_goto (pc := 52) (tgt := 56) hk dX0_commandBy_52 rfl ?_
      exact V_ireturn (pc := 56) hk hR rfl dX0_commandBy_56
  · refine V_iconst (pc := 41) (v := 1) hk dX0_commandBy_41 rfl ?_
    refine V_goto (pc := 42) (tgt := 56) hk dX0_commandBy_42 rfl ?_
    exact V_ireturn (pc := 56) hk hR rfl dX0_commandBy_56
theorem eX0_commandBy {y : Fx (Int32 × Wd)} (hk : OkF y RX0 cX0_commandBy 4 106 6153) (hR : RetM y rvI (some (.int))) (this : Nat) (a0 : Option Nat) (w : Wd) : V y w [(0, va_rf (some this)), (1, va_rf a0)] [] 0 (mX0_commandBy this a0 w) := by
  unfold mX0_commandBy
  refine V_aload_n (pc := 0) hk dX0_commandBy_0 1 rfl ?_
  refine g_X0_157 (pc := 1) hk dX0_commandBy_1 (fun v1 => ?_)
  refine V_iconst (pc := 4) (v := 2) hk dX0_commandBy_4 rfl ?_
  refine V_aaload (pc := 5) hk dX0_commandBy_5 (fun v2 => ?_)
  refine V_ifnonnull (pc := 6) (tgt := 19) hk dX0_commandBy_6 rfl ?_ ?_
  · refine V_aload_n (pc := 19) hk dX0_commandBy_19 1 rfl ?_
    refine g_X0_157 (pc := 20) hk dX0_commandBy_20 (fun v3 => ?_)
    refine V_iconst (pc := 23) (v := 2) hk dX0_commandBy_23 rfl ?_
    refine V_aaload (pc := 24) hk dX0_commandBy_24 (fun v4 => ?_)
    refine V_aload_n (pc := 25) hk dX0_commandBy_25 0 rfl ?_
    refine g_X0_39 (pc := 26) hk dX0_commandBy_26 (fun v5 => ?_)
    refine V_ifSum (pc := 29) hk q921 (hev9 (fl y) (fK y) hk.2.2.2.2.2.2.2.1 EVD).1 ⟨Nat.le_of_ble_eq_true rfl, Nat.le_of_ble_eq_true rfl⟩ (Nat.le_of_ble_eq_true rfl) dX0_commandBy_29 (fun r7 => ?_)
    refine V_pick (lc' := []) [] rfl ?_
    exact eX0_commandBy_p34 hk hR r7.2 r7.1
  · refine V_aload_n (pc := 9) hk dX0_commandBy_9 0 rfl ?_
    refine g_X0_39 (pc := 10) hk dX0_commandBy_10 (fun v8 => ?_)
    refine V_iconst (pc := 13) (v := 4) hk dX0_commandBy_13 rfl ?_
    refine V_iaload (pc := 14) hk dX0_commandBy_14 (fun v9 => ?_)
    refine V_i2l (pc := 15) hk dX0_commandBy_15 ?_
    refine V_goto (pc := 16) (tgt := 34) hk dX0_commandBy_16 rfl ?_
    refine V_pick (lc' := []) [] rfl ?_
    exact eX0_commandBy_p34 hk hR w ((v9 : Int32).toInt64)
theorem ctX0_commandBy (l : Launch) (K : Kx) (hI : Ini K) (b : Nat) (a0 : Option Nat) (w : Wd) : ∀ r, mX0_commandBy b a0 w = some r → Ct l K 106 6153 yX0_commandBy (ws_ yX0_commandBy cX0_commandBy 4 (some (.int))) [.ref b, va_rf a0] w (rvI r.1) r.2 := Ct_of rvI l K hI 106 6153 [.ref b, va_rf a0] w (by decide) (lc0 := [(0, .ref b), (1, va_rf a0)]) (by simp [lv_args, rf_cat, cat_int, cat_long, cat_ref]) (lg_len _ _ (by simp [rf_cat, cat_int, cat_long, cat_ref])) (fun y hk hR _ _ hin => eX0_commandBy hk hR b a0 w)
noncomputable def mX0_handOf (this : Nat) (a0 : Option Nat) (a1 : Option Nat) (w : Wd) : Option (Int32 × Wd) :=
(recv w ((some this)) 0).bind fun b2 => (cal w (mX0_names b2 a0 w)).bind fun r1 =>
(recv r1.2 ((some this)) 0).bind fun b4 => (cal r1.2 (mX0_commandBy b4 a1 r1.2)).bind fun r3 =>
some (r3.1, r3.2)
theorem eX0_handOf {y : Fx (Int32 × Wd)} (hk : OkF y RX0 cX0_handOf 3 107 6176) (hR : RetM y rvI (some (.int))) (this : Nat) (a0 : Option Nat) (a1 : Option Nat) (w : Wd) : V y w [(0, va_rf (some this)), (1, va_rf a0), (2, va_rf a1)] [] 0 (mX0_handOf this a0 a1 w) := by
  unfold mX0_handOf
  refine V_aload_n (pc := 0) hk dX0_handOf_0 0 rfl ?_
  refine V_aload_n (pc := 1) hk dX0_handOf_1 1 rfl ?_
  refine n_X0_177 (pc := 2) hk (fun b r h => ctX0_names (fl y) (fK y) hk.2.2.2.2.2.2.2.1 b a0 w r h) ⟨Nat.le_of_ble_eq_true rfl, Nat.le_of_ble_eq_true rfl⟩ (Nat.le_of_ble_eq_true rfl) dX0_handOf_2 (fun r1 => ?_)
  refine V_aload_n (pc := 5) hk dX0_handOf_5 0 rfl ?_
  refine V_aload_n (pc := 6) hk dX0_handOf_6 2 rfl ?_
  refine n_X0_180 (pc := 7) hk (fun b r h => ctX0_commandBy (fl y) (fK y) hk.2.2.2.2.2.2.2.1 b a1 r1.2 r h) ⟨Nat.le_of_ble_eq_true rfl, Nat.le_of_ble_eq_true rfl⟩ (Nat.le_of_ble_eq_true rfl) dX0_handOf_7 (fun r3 => ?_)
  exact V_ireturn (pc := 10) hk hR rfl dX0_handOf_10
theorem ctX0_handOf (l : Launch) (K : Kx) (hI : Ini K) (b : Nat) (a0 : Option Nat) (a1 : Option Nat) (w : Wd) : ∀ r, mX0_handOf b a0 a1 w = some r → Ct l K 107 6176 yX0_handOf (ws_ yX0_handOf cX0_handOf 3 (some (.int))) [.ref b, va_rf a0, va_rf a1] w (rvI r.1) r.2 := Ct_of rvI l K hI 107 6176 [.ref b, va_rf a0, va_rf a1] w (by decide) (lc0 := [(0, .ref b), (1, va_rf a0), (2, va_rf a1)]) (by simp [lv_args, rf_cat, cat_int, cat_long, cat_ref]) (lg_len _ _ (by simp [rf_cat, cat_int, cat_long, cat_ref])) (fun y hk hR _ _ hin => eX0_handOf hk hR b a0 a1 w)
noncomputable def mX0_run_b32 (k32 : Wd → (Option Nat) → Int32 → Int32 → Option (Int32 × Wd)) (w : Wd) (l0 : Option Nat) (l1 : Int32) (l2 : Int32) : Option (Int32 × Wd) :=
if l1 ≤ l2 then (
(gR w l0 0 0).bind fun v1 =>
(gR w v1 1 1).bind fun v2 =>
(ia w v2 0).bind fun v3 =>
some (v3, w))
else (
(gR w l0 0 0).bind fun v4 =>
(recv w v4 1).bind fun b6 => (cal w (mX1_keeps b6 w)).bind fun r5 =>
(gR r5.2 l0 0 0).bind fun v7 =>
(gR r5.2 v7 1 1).bind fun v8 =>
(gR r5.2 l0 0 0).bind fun v9 =>
(gR r5.2 v9 1 1).bind fun v10 =>
(recv r5.2 l0 0).bind fun b12 => (cal r5.2 (mX0_rules b12 r5.2)).bind fun r11 =>
(recv r11.2 l0 0).bind fun b14 => (cal r11.2 (mX0_handOf b14 v10 r11.1 r11.2)).bind fun r13 =>
(recv r13.2 l0 0).bind fun b16 => (cal r13.2 (mX0_tenth b16 v8 r13.1 r13.2)).bind fun r15 =>
k32 r15.2 l0 l1 (l2 + 1))
noncomputable def mX0_run_l32 : Nat → Wd → (Option Nat) → Int32 → Int32 → Option (Int32 × Wd)
  | 0, _, _, _, _ => none
  | n + 1, w, l0, l1, l2 => mX0_run_b32 (mX0_run_l32 n) w l0 l1 l2
noncomputable def mX0_run (this : Nat) (a0 : Int32) (w : Wd) : Option (Int32 × Wd) :=
(cal w (mX0_in a0 1 60 w)).bind fun r1 =>
if r1.1 = 0 then (
some ((-1), r1.2))
else (
(gR r1.2 ((some this)) 0 0).bind fun v2 =>
(gR r1.2 v2 1 1).bind fun v3 =>
(ia r1.2 v3 8).bind fun v4 =>
if (v4 + a0) ≤ 9999 then (
mX0_run_l32 FU r1.2 ((some this)) a0 0)
else (
some ((-1), r1.2)))
theorem eX0_run_b32 {y : Fx (Int32 × Wd)} (hk : OkF y RX0 cX0_run 3 109 6224) (hR : RetM y rvI (some (.int))) {k32 : Wd → (Option Nat) → Int32 → Int32 → Option (Int32 × Wd)} (h32 : ∀ (w : Wd) (l0 : Option Nat) (l1 : Int32) (l2 : Int32), V y w [(0, va_rf l0), (1, .int l1), (2, .int l2)] [] 32 (k32 w l0 l1 l2)) (w : Wd) (l0 : Option Nat) (l1 : Int32) (l2 : Int32) : V y w [(0, va_rf l0), (1, .int l1), (2, .int l2)] [] 32 (mX0_run_b32 k32 w l0 l1 l2) := by
  unfold mX0_run_b32
  refine V_iload_n (pc := 32) hk dX0_run_32 2 rfl ?_
  refine V_iload_n (pc := 33) hk dX0_run_33 1 rfl ?_
  refine V_icmp_ge (pc := 34) (tgt := 76) hk dX0_run_34 rfl ?_ ?_
  · refine V_aload_n (pc := 76) hk dX0_run_76 0 rfl ?_
    refine g_X0_21 (pc := 77) hk dX0_run_77 (fun v1 => ?_)
    refine g_X0_176 (pc := 80) hk dX0_run_80 (fun v2 => ?_)
    refine V_iconst (pc := 83) (v := 0) hk dX0_run_83 rfl ?_
    refine V_iaload (pc := 84) hk dX0_run_84 (fun v3 => ?_)
    exact V_ireturn (pc := 85) hk hR rfl dX0_run_85
  · refine V_aload_n (pc := 37) hk dX0_run_37 0 rfl ?_
    refine g_X0_21 (pc := 38) hk dX0_run_38 (fun v4 => ?_)
    refine n_X0_200 (pc := 41) hk (fun b r h => ctX1_keeps (fl y) (fK y) hk.2.2.2.2.2.2.2.1 b w r h) ⟨Nat.le_of_ble_eq_true rfl, Nat.le_of_ble_eq_true rfl⟩ (Nat.le_of_ble_eq_true rfl) dX0_run_41 (fun r5 => ?_)
    refine V_aload_n (pc := 44) hk dX0_run_44 0 rfl ?_
    refine V_aload_n (pc := 45) hk dX0_run_45 0 rfl ?_
    refine g_X0_21 (pc := 46) hk dX0_run_46 (fun v7 => ?_)
    refine g_X0_176 (pc := 49) hk dX0_run_49 (fun v8 => ?_)
    refine V_aload_n (pc := 52) hk dX0_run_52 0 rfl ?_
    refine V_aload_n (pc := 53) hk dX0_run_53 0 rfl ?_
    refine g_X0_21 (pc := 54) hk dX0_run_54 (fun v9 => ?_)
    refine g_X0_176 (pc := 57) hk dX0_run_57 (fun v10 => ?_)
    refine V_aload_n (pc := 60) hk dX0_run_60 0 rfl ?_
    refine n_X0_154 (pc := 61) hk (fun b r h => ctX0_rules (fl y) (fK y) hk.2.2.2.2.2.2.2.1 b r5.2 r h) ⟨Nat.le_of_ble_eq_true rfl, Nat.le_of_ble_eq_true rfl⟩ (by simp [rf_cat, cat_int, cat_long, cat_ref]) dX0_run_61 (fun r11 => ?_)
    refine n_X0_207 (pc := 64) hk (fun b r h => ctX0_handOf (fl y) (fK y) hk.2.2.2.2.2.2.2.1 b v10 r11.1 r11.2 r h) ⟨Nat.le_of_ble_eq_true rfl, Nat.le_of_ble_eq_true rfl⟩ (by simp [rf_cat, cat_int, cat_long, cat_ref]) dX0_run_64 (fun r13 => ?_)
    refine n_X0_203 (pc := 67) hk (fun b r h => ctX0_tenth (fl y) (fK y) hk.2.2.2.2.2.2.2.1 b v8 r13.1 r13.2 r h) ⟨Nat.le_of_ble_eq_true rfl, Nat.le_of_ble_eq_true rfl⟩ (Nat.le_of_ble_eq_true rfl) dX0_run_67 (fun r15 => ?_)
    refine V_iinc (pc := 70) (v := 1) (lc' := [(2, .int (l2 + 1)), (0, va_rf l0), (1, .int l1)]) hk dX0_run_70 2 rfl rfl (Nat.le_of_ble_eq_true rfl) rfl ?_
    refine V_goto (pc := 73) (tgt := 32) hk dX0_run_73 rfl ?_
    refine V_pick (lc' := [(0, va_rf l0), (1, .int l1), (2, .int (l2 + 1))]) [1, 2, 0] rfl ?_
    exact h32 r15.2 l0 l1 (l2 + 1)
theorem eX0_run_l32 {y : Fx (Int32 × Wd)} (hk : OkF y RX0 cX0_run 3 109 6224) (hR : RetM y rvI (some (.int))) : ∀ (n : Nat) (w : Wd) (l0 : Option Nat) (l1 : Int32) (l2 : Int32), V y w [(0, va_rf l0), (1, .int l1), (2, .int l2)] [] 32 (mX0_run_l32 n w l0 l1 l2) := by
  intro n
  induction n with
  | zero => intro w l0 l1 l2; exact V_none
  | succ n ih => intro w l0 l1 l2; exact eX0_run_b32 hk hR ih w l0 l1 l2
theorem eX0_run {y : Fx (Int32 × Wd)} (hk : OkF y RX0 cX0_run 3 109 6224) (hR : RetM y rvI (some (.int))) (this : Nat) (a0 : Int32) (w : Wd) : V y w [(0, va_rf (some this)), (1, .int a0)] [] 0 (mX0_run this a0 w) := by
  unfold mX0_run
  refine V_iload_n (pc := 0) hk dX0_run_0 1 rfl ?_
  refine V_iconst (pc := 1) (v := 1) hk dX0_run_1 rfl ?_
  refine V_bipush (pc := 2) (v := 60) hk dX0_run_2 rfl ?_
  refine n_X0_82 (pc := 4) hk (fun r h => ctX0_in (fl y) (fK y) hk.2.2.2.2.2.2.2.1 a0 1 60 w r h) ⟨Nat.le_of_ble_eq_true rfl, Nat.le_of_ble_eq_true rfl⟩ (Nat.le_of_ble_eq_true rfl) dX0_run_4 (fun r1 => ?_)
  refine V_if_eq (pc := 7) (tgt := 28) hk dX0_run_7 rfl ?_ ?_
  · refine V_iconst (pc := 28) (v := (-1)) hk dX0_run_28 (by decide +kernel) ?_
    exact V_ireturn (pc := 29) hk hR rfl dX0_run_29
  · refine V_aload_n (pc := 10) hk dX0_run_10 0 rfl ?_
    refine g_X0_21 (pc := 11) hk dX0_run_11 (fun v2 => ?_)
    refine g_X0_176 (pc := 14) hk dX0_run_14 (fun v3 => ?_)
    refine V_bipush (pc := 17) (v := 8) hk dX0_run_17 rfl ?_
    refine V_iaload (pc := 19) hk dX0_run_19 (fun v4 => ?_)
    refine V_iload_n (pc := 20) hk dX0_run_20 1 rfl ?_
    refine V_iadd (pc := 21) hk dX0_run_21 ?_
    refine V_sipush (pc := 22) (v := 9999) hk dX0_run_22 rfl ?_
    refine V_icmp_le (pc := 25) (tgt := 30) hk dX0_run_25 rfl ?_ ?_
    · refine V_iconst (pc := 30) (v := 0) hk dX0_run_30 rfl ?_
      refine V_istore_n (pc := 31) (lc' := [(2, .int 0), (0, va_rf ((some this))), (1, .int a0)]) (i := 2) hk dX0_run_31 rfl (Nat.le_of_ble_eq_true rfl) rfl ?_
      refine V_pick (lc' := [(0, va_rf ((some this))), (1, .int a0), (2, .int 0)]) [1, 2, 0] rfl ?_
      exact eX0_run_l32 hk hR FU r1.2 ((some this)) a0 0
    · refine V_iconst (pc := 28) (v := (-1)) hk dX0_run_28 (by decide +kernel) ?_
      exact V_ireturn (pc := 29) hk hR rfl dX0_run_29
theorem ctX0_run (l : Launch) (K : Kx) (hI : Ini K) (b : Nat) (a0 : Int32) (w : Wd) : ∀ r, mX0_run b a0 w = some r → Ct l K 109 6224 yX0_run (ws_ yX0_run cX0_run 3 (some (.int))) [.ref b, .int a0] w (rvI r.1) r.2 := Ct_of rvI l K hI 109 6224 [.ref b, .int a0] w (by decide) (lc0 := [(0, .ref b), (1, .int a0)]) rfl (Nat.le_of_ble_eq_true rfl) (fun y hk hR _ _ hin => eX0_run hk hR b a0 w)
noncomputable def mX0_sets (this : Nat) (a0 : Int32) (a1 : Int32) (w : Wd) : Option (Int32 × Wd) :=
(gR w ((some this)) 0 0).bind fun v1 =>
(gR w v1 1 1).bind fun v2 =>
(ia w v2 a0).bind fun v3 =>
if ¬ v3 = a1 then (
(gR w ((some this)) 0 0).bind fun v4 =>
(recv w v4 1).bind fun b6 => (cal w (mX1_keeps b6 w)).bind fun r5 =>
(gR r5.2 ((some this)) 0 0).bind fun v7 =>
(gR r5.2 v7 1 1).bind fun v8 =>
(ias r5.2 v8 a0 a1).bind fun w9 =>
(nok (.boolean) 1).bind fun _ => some (1, w9))
else (
(nok (.boolean) 0).bind fun _ => some (0, w))
theorem eX0_sets {y : Fx (Int32 × Wd)} (hk : OkF y RX0 cX0_sets 3 4 102) (hR : RetM y rvI (some (.boolean))) (this : Nat) (a0 : Int32) (a1 : Int32) (w : Wd) : V y w [(0, va_rf (some this)), (1, .int a0), (2, .int a1)] [] 0 (mX0_sets this a0 a1 w) := by
  unfold mX0_sets
  refine V_aload_n (pc := 0) hk dX0_sets_0 0 rfl ?_
  refine g_X0_21 (pc := 1) hk dX0_sets_1 (fun v1 => ?_)
  refine g_X0_176 (pc := 4) hk dX0_sets_4 (fun v2 => ?_)
  refine V_iload_n (pc := 7) hk dX0_sets_7 1 rfl ?_
  refine V_iaload (pc := 8) hk dX0_sets_8 (fun v3 => ?_)
  refine V_iload_n (pc := 9) hk dX0_sets_9 2 rfl ?_
  refine V_icmp_ne (pc := 10) (tgt := 15) hk dX0_sets_10 rfl ?_ ?_
  · refine V_aload_n (pc := 15) hk dX0_sets_15 0 rfl ?_
    refine g_X0_21 (pc := 16) hk dX0_sets_16 (fun v4 => ?_)
    refine n_X0_200 (pc := 19) hk (fun b r h => ctX1_keeps (fl y) (fK y) hk.2.2.2.2.2.2.2.1 b w r h) ⟨Nat.le_of_ble_eq_true rfl, Nat.le_of_ble_eq_true rfl⟩ (Nat.le_of_ble_eq_true rfl) dX0_sets_19 (fun r5 => ?_)
    refine V_aload_n (pc := 22) hk dX0_sets_22 0 rfl ?_
    refine g_X0_21 (pc := 23) hk dX0_sets_23 (fun v7 => ?_)
    refine g_X0_176 (pc := 26) hk dX0_sets_26 (fun v8 => ?_)
    refine V_iload_n (pc := 29) hk dX0_sets_29 1 rfl ?_
    refine V_iload_n (pc := 30) hk dX0_sets_30 2 rfl ?_
    refine V_iastore (pc := 31) hk dX0_sets_31 (fun w9 => ?_)
    refine V_iconst (pc := 32) (v := 1) hk dX0_sets_32 rfl ?_
    exact V_zreturn (pc := 33) hk hR rfl dX0_sets_33
  · refine V_iconst (pc := 13) (v := 0) hk dX0_sets_13 rfl ?_
    exact V_zreturn (pc := 14) hk hR rfl dX0_sets_14
theorem ctX0_sets (l : Launch) (K : Kx) (hI : Ini K) (b : Nat) (a0 : Int32) (a1 : Int32) (w : Wd) : ∀ r, mX0_sets b a0 a1 w = some r → Ct l K 4 102 yX0_sets (ws_ yX0_sets cX0_sets 3 (some (.boolean))) [.ref b, .int a0, .int a1] w (rvI r.1) r.2 := Ct_of rvI l K hI 4 102 [.ref b, .int a0, .int a1] w (by decide) (lc0 := [(0, .ref b), (1, .int a0), (2, .int a1)]) rfl (Nat.le_of_ble_eq_true rfl) (fun y hk hR _ _ hin => eX0_sets hk hR b a0 a1 w)
noncomputable def mX0_hoist (this : Nat) (a0 : Int32) (w : Wd) : Option (Int32 × Wd) :=
(cal w (mX0_in a0 1 24 w)).bind fun r1 =>
if r1.1 = 0 then (
(nok (.boolean) 0).bind fun _ => some (0, r1.2))
else (
(recv r1.2 ((some this)) 0).bind fun b3 => (cal r1.2 (mX0_sets b3 4 a0 r1.2)).bind fun r2 =>
if r2.1 = 0 then (
(nok (.boolean) 0).bind fun _ => some (0, r2.2))
else (
(nok (.boolean) 1).bind fun _ => some (1, r2.2)))
theorem eX0_hoist {y : Fx (Int32 × Wd)} (hk : OkF y RX0 cX0_hoist 2 5 124) (hR : RetM y rvI (some (.boolean))) (this : Nat) (a0 : Int32) (w : Wd) : V y w [(0, va_rf (some this)), (1, .int a0)] [] 0 (mX0_hoist this a0 w) := by
  unfold mX0_hoist
  refine V_iload_n (pc := 0) hk dX0_hoist_0 1 rfl ?_
  refine V_iconst (pc := 1) (v := 1) hk dX0_hoist_1 rfl ?_
  refine V_bipush (pc := 2) (v := 24) hk dX0_hoist_2 rfl ?_
  refine n_X0_82 (pc := 4) hk (fun r h => ctX0_in (fl y) (fK y) hk.2.2.2.2.2.2.2.1 a0 1 24 w r h) ⟨Nat.le_of_ble_eq_true rfl, Nat.le_of_ble_eq_true rfl⟩ (Nat.le_of_ble_eq_true rfl) dX0_hoist_4 (fun r1 => ?_)
  refine V_if_eq (pc := 7) (tgt := 23) hk dX0_hoist_7 rfl ?_ ?_
  · refine V_iconst (pc := 23) (v := 0) hk dX0_hoist_23 rfl ?_
    exact V_zreturn (pc := 24) hk hR rfl dX0_hoist_24
  · refine V_aload_n (pc := 10) hk dX0_hoist_10 0 rfl ?_
    refine V_iconst (pc := 11) (v := 4) hk dX0_hoist_11 rfl ?_
    refine V_iload_n (pc := 12) hk dX0_hoist_12 1 rfl ?_
    refine n_X0_211 (pc := 13) hk (fun b r h => ctX0_sets (fl y) (fK y) hk.2.2.2.2.2.2.2.1 b 4 a0 r1.2 r h) ⟨Nat.le_of_ble_eq_true rfl, Nat.le_of_ble_eq_true rfl⟩ (Nat.le_of_ble_eq_true rfl) dX0_hoist_13 (fun r2 => ?_)
    refine V_if_eq (pc := 16) (tgt := 23) hk dX0_hoist_16 rfl ?_ ?_
    · refine V_iconst (pc := 23) (v := 0) hk dX0_hoist_23 rfl ?_
      exact V_zreturn (pc := 24) hk hR rfl dX0_hoist_24
    · refine V_iconst (pc := 19) (v := 1) hk dX0_hoist_19 rfl ?_
      refine V_goto (pc := 20) (tgt := 24) hk dX0_hoist_20 rfl ?_
      exact V_zreturn (pc := 24) hk hR rfl dX0_hoist_24
theorem ctX0_hoist (l : Launch) (K : Kx) (hI : Ini K) (b : Nat) (a0 : Int32) (w : Wd) : ∀ r, mX0_hoist b a0 w = some r → Ct l K 5 124 yX0_hoist (ws_ yX0_hoist cX0_hoist 2 (some (.boolean))) [.ref b, .int a0] w (rvI r.1) r.2 := Ct_of rvI l K hI 5 124 [.ref b, .int a0] w (by decide) (lc0 := [(0, .ref b), (1, .int a0)]) rfl (Nat.le_of_ble_eq_true rfl) (fun y hk hR _ _ hin => eX0_hoist hk hR b a0 w)
noncomputable def mX0_aim (this : Nat) (a0 : Int32) (w : Wd) : Option (Int32 × Wd) :=
(cal w (mX0_in a0 0 600 w)).bind fun r1 =>
if r1.1 = 0 then (
(nok (.boolean) 0).bind fun _ => some (0, r1.2))
else (
(recv r1.2 ((some this)) 0).bind fun b3 => (cal r1.2 (mX0_sets b3 7 a0 r1.2)).bind fun r2 =>
if r2.1 = 0 then (
(nok (.boolean) 0).bind fun _ => some (0, r2.2))
else (
(nok (.boolean) 1).bind fun _ => some (1, r2.2)))
theorem eX0_aim {y : Fx (Int32 × Wd)} (hk : OkF y RX0 cX0_aim 2 5 124) (hR : RetM y rvI (some (.boolean))) (this : Nat) (a0 : Int32) (w : Wd) : V y w [(0, va_rf (some this)), (1, .int a0)] [] 0 (mX0_aim this a0 w) := by
  unfold mX0_aim
  refine V_iload_n (pc := 0) hk dX0_aim_0 1 rfl ?_
  refine V_iconst (pc := 1) (v := 0) hk dX0_aim_1 rfl ?_
  refine V_sipush (pc := 2) (v := 600) hk dX0_aim_2 rfl ?_
  refine n_X0_82 (pc := 5) hk (fun r h => ctX0_in (fl y) (fK y) hk.2.2.2.2.2.2.2.1 a0 0 600 w r h) ⟨Nat.le_of_ble_eq_true rfl, Nat.le_of_ble_eq_true rfl⟩ (Nat.le_of_ble_eq_true rfl) dX0_aim_5 (fun r1 => ?_)
  refine V_if_eq (pc := 8) (tgt := 25) hk dX0_aim_8 rfl ?_ ?_
  · refine V_iconst (pc := 25) (v := 0) hk dX0_aim_25 rfl ?_
    exact V_zreturn (pc := 26) hk hR rfl dX0_aim_26
  · refine V_aload_n (pc := 11) hk dX0_aim_11 0 rfl ?_
    refine V_bipush (pc := 12) (v := 7) hk dX0_aim_12 rfl ?_
    refine V_iload_n (pc := 14) hk dX0_aim_14 1 rfl ?_
    refine n_X0_211 (pc := 15) hk (fun b r h => ctX0_sets (fl y) (fK y) hk.2.2.2.2.2.2.2.1 b 7 a0 r1.2 r h) ⟨Nat.le_of_ble_eq_true rfl, Nat.le_of_ble_eq_true rfl⟩ (Nat.le_of_ble_eq_true rfl) dX0_aim_15 (fun r2 => ?_)
    refine V_if_eq (pc := 18) (tgt := 25) hk dX0_aim_18 rfl ?_ ?_
    · refine V_iconst (pc := 25) (v := 0) hk dX0_aim_25 rfl ?_
      exact V_zreturn (pc := 26) hk hR rfl dX0_aim_26
    · refine V_iconst (pc := 21) (v := 1) hk dX0_aim_21 rfl ?_
      refine V_goto (pc := 22) (tgt := 26) hk dX0_aim_22 rfl ?_
      exact V_zreturn (pc := 26) hk hR rfl dX0_aim_26
theorem ctX0_aim (l : Launch) (K : Kx) (hI : Ini K) (b : Nat) (a0 : Int32) (w : Wd) : ∀ r, mX0_aim b a0 w = some r → Ct l K 5 124 yX0_aim (ws_ yX0_aim cX0_aim 2 (some (.boolean))) [.ref b, .int a0] w (rvI r.1) r.2 := Ct_of rvI l K hI 5 124 [.ref b, .int a0] w (by decide) (lc0 := [(0, .ref b), (1, .int a0)]) rfl (Nat.le_of_ble_eq_true rfl) (fun y hk hR _ _ hin => eX0_aim hk hR b a0 w)
noncomputable def mX0_isOrder (this : Nat) (a0 : Int32) (w : Wd) : Option (Int32 × Wd) :=
(gR w ((some this)) 0 0).bind fun v1 =>
(gR w v1 1 0).bind fun v2 =>
(ia w v2 0).bind fun v3 =>
(cal w (mX0_in a0 0 (v3 - 1) w)).bind fun r4 =>
(nok (.boolean) r4.1).bind fun _ => some (r4.1, r4.2)
theorem eX0_isOrder {y : Fx (Int32 × Wd)} (hk : OkF y RX0 cX0_isOrder 2 3 82) (hR : RetM y rvI (some (.boolean))) (this : Nat) (a0 : Int32) (w : Wd) : V y w [(0, va_rf (some this)), (1, .int a0)] [] 0 (mX0_isOrder this a0 w) := by
  unfold mX0_isOrder
  refine V_iload_n (pc := 0) hk dX0_isOrder_0 1 rfl ?_
  refine V_iconst (pc := 1) (v := 0) hk dX0_isOrder_1 rfl ?_
  refine V_aload_n (pc := 2) hk dX0_isOrder_2 0 rfl ?_
  refine g_X0_21 (pc := 3) hk dX0_isOrder_3 (fun v1 => ?_)
  refine g_X0_79 (pc := 6) hk dX0_isOrder_6 (fun v2 => ?_)
  refine V_iconst (pc := 9) (v := 0) hk dX0_isOrder_9 rfl ?_
  refine V_iaload (pc := 10) hk dX0_isOrder_10 (fun v3 => ?_)
  refine V_iconst (pc := 11) (v := 1) hk dX0_isOrder_11 rfl ?_
  refine V_isub (pc := 12) hk dX0_isOrder_12 ?_
  refine n_X0_82 (pc := 13) hk (fun r h => ctX0_in (fl y) (fK y) hk.2.2.2.2.2.2.2.1 a0 0 (v3 - 1) w r h) ⟨Nat.le_of_ble_eq_true rfl, Nat.le_of_ble_eq_true rfl⟩ (Nat.le_of_ble_eq_true rfl) dX0_isOrder_13 (fun r4 => ?_)
  exact V_zreturn (pc := 16) hk hR rfl dX0_isOrder_16
theorem ctX0_isOrder (l : Launch) (K : Kx) (hI : Ini K) (b : Nat) (a0 : Int32) (w : Wd) : ∀ r, mX0_isOrder b a0 w = some r → Ct l K 3 82 yX0_isOrder (ws_ yX0_isOrder cX0_isOrder 2 (some (.boolean))) [.ref b, .int a0] w (rvI r.1) r.2 := Ct_of rvI l K hI 3 82 [.ref b, .int a0] w (by decide) (lc0 := [(0, .ref b), (1, .int a0)]) rfl (Nat.le_of_ble_eq_true rfl) (fun y hk hR _ _ hin => eX0_isOrder hk hR b a0 w)
noncomputable def mX0_has (a0 : Int32) (a1 : Int32) (w : Wd) : Option (Int32 × Wd) :=
if ¬ ((a0 >>> (a1 &&& 31)) &&& 1) = 1 then (
(nok (.boolean) 0).bind fun _ => some (0, w))
else (
(nok (.boolean) 1).bind fun _ => some (1, w))
theorem eX0_has {y : Fx (Int32 × Wd)} (hk : OkF y RX0 cX0_has 2 2 60) (hR : RetM y rvI (some (.boolean))) (a0 : Int32) (a1 : Int32) (w : Wd) : V y w [(0, .int a0), (1, .int a1)] [] 0 (mX0_has a0 a1 w) := by
  unfold mX0_has
  refine V_iload_n (pc := 0) hk dX0_has_0 0 rfl ?_
  refine V_iload_n (pc := 1) hk dX0_has_1 1 rfl ?_
  refine V_ishr (pc := 2) hk dX0_has_2 ?_
  refine V_iconst (pc := 3) (v := 1) hk dX0_has_3 rfl ?_
  refine V_iand (pc := 4) hk dX0_has_4 ?_
  refine V_iconst (pc := 5) (v := 1) hk dX0_has_5 rfl ?_
  refine V_icmp_ne (pc := 6) (tgt := 13) hk dX0_has_6 rfl ?_ ?_
  · refine V_iconst (pc := 13) (v := 0) hk dX0_has_13 rfl ?_
    exact V_zreturn (pc := 14) hk hR rfl dX0_has_14
  · refine V_iconst (pc := 9) (v := 1) hk dX0_has_9 rfl ?_
    refine V_goto (pc := 10) (tgt := 14) hk dX0_has_10 rfl ?_
    exact V_zreturn (pc := 14) hk hR rfl dX0_has_14
theorem ctX0_has (l : Launch) (K : Kx) (hI : Ini K) (a0 : Int32) (a1 : Int32) (w : Wd) : ∀ r, mX0_has a0 a1 w = some r → Ct l K 2 60 yX0_has (ws_ yX0_has cX0_has 2 (some (.boolean))) [.int a0, .int a1] w (rvI r.1) r.2 := Ct_of rvI l K hI 2 60 [.int a0, .int a1] w (by decide) (lc0 := [(0, .int a0), (1, .int a1)]) rfl (Nat.le_of_ble_eq_true rfl) (fun y hk hR _ _ hin => eX0_has hk hR a0 a1 w)
noncomputable def mX0_hook (this : Nat) (a0 : Int32) (w : Wd) : Option (Int32 × Wd) :=
(recv w ((some this)) 0).bind fun b2 => (cal w (mX0_isOrder b2 a0 w)).bind fun r1 =>
if r1.1 = 0 then (
(nok (.boolean) 0).bind fun _ => some (0, r1.2))
else (
(gR r1.2 ((some this)) 0 0).bind fun v3 =>
(gR r1.2 v3 1 1).bind fun v4 =>
(ia r1.2 v4 11).bind fun v5 =>
(cal r1.2 (mX0_has v5 a0 r1.2)).bind fun r6 =>
if ¬ r6.1 = 0 then (
(nok (.boolean) 0).bind fun _ => some (0, r6.2))
else (
(gR r6.2 ((some this)) 0 0).bind fun v7 =>
(gR r6.2 v7 1 1).bind fun v8 =>
(ia r6.2 v8 10).bind fun v9 =>
if v9 = (-1) then (
(gR r6.2 ((some this)) 0 0).bind fun v10 =>
(recv r6.2 v10 1).bind fun b12 => (cal r6.2 (mX1_keeps b12 r6.2)).bind fun r11 =>
(gR r11.2 ((some this)) 0 0).bind fun v13 =>
(gR r11.2 v13 1 1).bind fun v14 =>
(ias r11.2 v14 10 a0).bind fun w15 =>
(gR w15 ((some this)) 0 0).bind fun v16 =>
(gR w15 v16 1 1).bind fun v17 =>
(gR w15 ((some this)) 0 0).bind fun v18 =>
(gR w15 v18 1 2).bind fun v19 =>
(aa w15 v19 a0).bind fun v20 =>
(ia w15 v20 0).bind fun v21 =>
(ias w15 v17 5 v21).bind fun w22 =>
(gR w22 ((some this)) 0 0).bind fun v23 =>
(gR w22 v23 1 1).bind fun v24 =>
(gR w22 ((some this)) 0 0).bind fun v25 =>
(gR w22 v25 1 2).bind fun v26 =>
(aa w22 v26 a0).bind fun v27 =>
(ia w22 v27 1).bind fun v28 =>
(ias w22 v24 7 (v28 * 10)).bind fun w29 =>
(nok (.boolean) 1).bind fun _ => some (1, w29))
else (
(nok (.boolean) 0).bind fun _ => some (0, r6.2))))
theorem eX0_hook {y : Fx (Int32 × Wd)} (hk : OkF y RX0 cX0_hook 2 4 103) (hR : RetM y rvI (some (.boolean))) (this : Nat) (a0 : Int32) (w : Wd) : V y w [(0, va_rf (some this)), (1, .int a0)] [] 0 (mX0_hook this a0 w) := by
  unfold mX0_hook
  refine V_aload_n (pc := 0) hk dX0_hook_0 0 rfl ?_
  refine V_iload_n (pc := 1) hk dX0_hook_1 1 rfl ?_
  refine n_X0_215 (pc := 2) hk (fun b r h => ctX0_isOrder (fl y) (fK y) hk.2.2.2.2.2.2.2.1 b a0 w r h) ⟨Nat.le_of_ble_eq_true rfl, Nat.le_of_ble_eq_true rfl⟩ (Nat.le_of_ble_eq_true rfl) dX0_hook_2 (fun r1 => ?_)
  refine V_if_eq (pc := 5) (tgt := 39) hk dX0_hook_5 rfl ?_ ?_
  · refine V_iconst (pc := 39) (v := 0) hk dX0_hook_39 rfl ?_
    exact V_zreturn (pc := 40) hk hR rfl dX0_hook_40
  · refine V_aload_n (pc := 8) hk dX0_hook_8 0 rfl ?_
    refine g_X0_21 (pc := 9) hk dX0_hook_9 (fun v3 => ?_)
    refine g_X0_176 (pc := 12) hk dX0_hook_12 (fun v4 => ?_)
    refine V_bipush (pc := 15) (v := 11) hk dX0_hook_15 rfl ?_
    refine V_iaload (pc := 17) hk dX0_hook_17 (fun v5 => ?_)
    refine V_iload_n (pc := 18) hk dX0_hook_18 1 rfl ?_
    refine n_X0_218 (pc := 19) hk (fun r h => ctX0_has (fl y) (fK y) hk.2.2.2.2.2.2.2.1 v5 a0 r1.2 r h) ⟨Nat.le_of_ble_eq_true rfl, Nat.le_of_ble_eq_true rfl⟩ (Nat.le_of_ble_eq_true rfl) dX0_hook_19 (fun r6 => ?_)
    refine V_if_ne (pc := 22) (tgt := 39) hk dX0_hook_22 rfl ?_ ?_
    · refine V_iconst (pc := 39) (v := 0) hk dX0_hook_39 rfl ?_
      exact V_zreturn (pc := 40) hk hR rfl dX0_hook_40
    · refine V_aload_n (pc := 25) hk dX0_hook_25 0 rfl ?_
      refine g_X0_21 (pc := 26) hk dX0_hook_26 (fun v7 => ?_)
      refine g_X0_176 (pc := 29) hk dX0_hook_29 (fun v8 => ?_)
      refine V_bipush (pc := 32) (v := 10) hk dX0_hook_32 rfl ?_
      refine V_iaload (pc := 34) hk dX0_hook_34 (fun v9 => ?_)
      refine V_iconst (pc := 35) (v := (-1)) hk dX0_hook_35 (by decide +kernel) ?_
      refine V_icmp_eq (pc := 36) (tgt := 41) hk dX0_hook_36 rfl ?_ ?_
      · refine V_aload_n (pc := 41) hk dX0_hook_41 0 rfl ?_
        refine g_X0_21 (pc := 42) hk dX0_hook_42 (fun v10 => ?_)
        refine n_X0_200 (pc := 45) hk (fun b r h => ctX1_keeps (fl y) (fK y) hk.2.2.2.2.2.2.2.1 b r6.2 r h) ⟨Nat.le_of_ble_eq_true rfl, Nat.le_of_ble_eq_true rfl⟩ (Nat.le_of_ble_eq_true rfl) dX0_hook_45 (fun r11 => ?_)
        refine V_aload_n (pc := 48) hk dX0_hook_48 0 rfl ?_
        refine g_X0_21 (pc := 49) hk dX0_hook_49 (fun v13 => ?_)
        refine g_X0_176 (pc := 52) hk dX0_hook_52 (fun v14 => ?_)
        refine V_bipush (pc := 55) (v := 10) hk dX0_hook_55 rfl ?_
        refine V_iload_n (pc := 57) hk dX0_hook_57 1 rfl ?_
        refine V_iastore (pc := 58) hk dX0_hook_58 (fun w15 => ?_)
        refine V_aload_n (pc := 59) hk dX0_hook_59 0 rfl ?_
        refine g_X0_21 (pc := 60) hk dX0_hook_60 (fun v16 => ?_)
        refine g_X0_176 (pc := 63) hk dX0_hook_63 (fun v17 => ?_)
        refine V_iconst (pc := 66) (v := 5) hk dX0_hook_66 rfl ?_
        refine V_aload_n (pc := 67) hk dX0_hook_67 0 rfl ?_
        refine g_X0_21 (pc := 68) hk dX0_hook_68 (fun v18 => ?_)
        refine g_X0_86 (pc := 71) hk dX0_hook_71 (fun v19 => ?_)
        refine V_iload_n (pc := 74) hk dX0_hook_74 1 rfl ?_
        refine V_aaload (pc := 75) hk dX0_hook_75 (fun v20 => ?_)
        refine V_iconst (pc := 76) (v := 0) hk dX0_hook_76 rfl ?_
        refine V_iaload (pc := 77) hk dX0_hook_77 (fun v21 => ?_)
        refine V_iastore (pc := 78) hk dX0_hook_78 (fun w22 => ?_)
        refine V_aload_n (pc := 79) hk dX0_hook_79 0 rfl ?_
        refine g_X0_21 (pc := 80) hk dX0_hook_80 (fun v23 => ?_)
        refine g_X0_176 (pc := 83) hk dX0_hook_83 (fun v24 => ?_)
        refine V_bipush (pc := 86) (v := 7) hk dX0_hook_86 rfl ?_
        refine V_aload_n (pc := 88) hk dX0_hook_88 0 rfl ?_
        refine g_X0_21 (pc := 89) hk dX0_hook_89 (fun v25 => ?_)
        refine g_X0_86 (pc := 92) hk dX0_hook_92 (fun v26 => ?_)
        refine V_iload_n (pc := 95) hk dX0_hook_95 1 rfl ?_
        refine V_aaload (pc := 96) hk dX0_hook_96 (fun v27 => ?_)
        refine V_iconst (pc := 97) (v := 1) hk dX0_hook_97 rfl ?_
        refine V_iaload (pc := 98) hk dX0_hook_98 (fun v28 => ?_)
        refine V_bipush (pc := 99) (v := 10) hk dX0_hook_99 rfl ?_
        refine V_imul (pc := 101) hk dX0_hook_101 ?_
        refine V_iastore (pc := 102) hk dX0_hook_102 (fun w29 => ?_)
        refine V_iconst (pc := 103) (v := 1) hk dX0_hook_103 rfl ?_
        exact V_zreturn (pc := 104) hk hR rfl dX0_hook_104
      · refine V_iconst (pc := 39) (v := 0) hk dX0_hook_39 rfl ?_
        exact V_zreturn (pc := 40) hk hR rfl dX0_hook_40
theorem ctX0_hook (l : Launch) (K : Kx) (hI : Ini K) (b : Nat) (a0 : Int32) (w : Wd) : ∀ r, mX0_hook b a0 w = some r → Ct l K 4 103 yX0_hook (ws_ yX0_hook cX0_hook 2 (some (.boolean))) [.ref b, .int a0] w (rvI r.1) r.2 := Ct_of rvI l K hI 4 103 [.ref b, .int a0] w (by decide) (lc0 := [(0, .ref b), (1, .int a0)]) rfl (Nat.le_of_ble_eq_true rfl) (fun y hk hR _ _ hin => eX0_hook hk hR b a0 w)
noncomputable def mX0_hangsStill (this : Nat) (a0 : Option Nat) (w : Wd) : Option (Int32 × Wd) :=
(gR w ((some this)) 0 0).bind fun v1 =>
(gR w v1 1 0).bind fun v2 =>
(ia w v2 1).bind fun v3 =>
(ia w a0 1).bind fun v4 =>
if ¬ v4 = 0 then (
(nok (.boolean) 0).bind fun _ => some (0, w))
else (
(ia w a0 0).bind fun v5 =>
(ia w a0 7).bind fun v6 =>
if v3 < (jabsI (v5 - v6)) then (
(nok (.boolean) 0).bind fun _ => some (0, w))
else (
(ia w a0 0).bind fun v7 =>
(ia w a0 2).bind fun v8 =>
if v3 < (jabsI (v7 - v8)) then (
(nok (.boolean) 0).bind fun _ => some (0, w))
else (
(ia w a0 3).bind fun v9 =>
if 1 < (jabsI v9) then (
(nok (.boolean) 0).bind fun _ => some (0, w))
else (
(nok (.boolean) 1).bind fun _ => some (1, w)))))
theorem eX0_hangsStill {y : Fx (Int32 × Wd)} (hk : OkF y RX0 cX0_hangsStill 3 2 60) (hR : RetM y rvI (some (.boolean))) (this : Nat) (a0 : Option Nat) (w : Wd) : V y w [(0, va_rf (some this)), (1, va_rf a0)] [] 0 (mX0_hangsStill this a0 w) := by
  unfold mX0_hangsStill
  refine V_aload_n (pc := 0) hk dX0_hangsStill_0 0 rfl ?_
  refine g_X0_21 (pc := 1) hk dX0_hangsStill_1 (fun v1 => ?_)
  refine g_X0_79 (pc := 4) hk dX0_hangsStill_4 (fun v2 => ?_)
  refine V_iconst (pc := 7) (v := 1) hk dX0_hangsStill_7 rfl ?_
  refine V_iaload (pc := 8) hk dX0_hangsStill_8 (fun v3 => ?_)
  refine V_istore_n (pc := 9) (lc' := [(2, .int v3), (0, va_rf ((some this))), (1, va_rf a0)]) (i := 2) hk dX0_hangsStill_9 rfl (Nat.le_of_ble_eq_true rfl) (by simp [rf_cat, cat_int, cat_long, cat_ref]) ?_
  refine V_aload_n (pc := 10) hk dX0_hangsStill_10 2 rfl ?_
  refine V_iconst (pc := 11) (v := 1) hk dX0_hangsStill_11 rfl ?_
  refine V_iaload (pc := 12) hk dX0_hangsStill_12 (fun v4 => ?_)
  refine V_if_ne (pc := 13) (tgt := 59) hk dX0_hangsStill_13 rfl ?_ ?_
  · refine V_iconst (pc := 59) (v := 0) hk dX0_hangsStill_59 rfl ?_
    exact V_zreturn (pc := 60) hk hR rfl dX0_hangsStill_60
  · refine V_aload_n (pc := 16) hk dX0_hangsStill_16 2 rfl ?_
    refine V_iconst (pc := 17) (v := 0) hk dX0_hangsStill_17 rfl ?_
    refine V_iaload (pc := 18) hk dX0_hangsStill_18 (fun v5 => ?_)
    refine V_aload_n (pc := 19) hk dX0_hangsStill_19 2 rfl ?_
    refine V_bipush (pc := 20) (v := 7) hk dX0_hangsStill_20 rfl ?_
    refine V_iaload (pc := 22) hk dX0_hangsStill_22 (fun v6 => ?_)
    refine V_isub (pc := 23) hk dX0_hangsStill_23 ?_
    refine V_mabs (pc := 24) hk q1077 ⟨Nat.le_of_ble_eq_true rfl, Nat.le_of_ble_eq_true rfl⟩ (Nat.le_of_ble_eq_true rfl) dX0_hangsStill_24 ?_
    refine V_iload_n (pc := 27) hk dX0_hangsStill_27 0 rfl ?_
    refine V_icmp_gt (pc := 28) (tgt := 59) hk dX0_hangsStill_28 rfl ?_ ?_
    · refine V_iconst (pc := 59) (v := 0) hk dX0_hangsStill_59 rfl ?_
      exact V_zreturn (pc := 60) hk hR rfl dX0_hangsStill_60
    · refine V_aload_n (pc := 31) hk dX0_hangsStill_31 2 rfl ?_
      refine V_iconst (pc := 32) (v := 0) hk dX0_hangsStill_32 rfl ?_
      refine V_iaload (pc := 33) hk dX0_hangsStill_33 (fun v7 => ?_)
      refine V_aload_n (pc := 34) hk dX0_hangsStill_34 2 rfl ?_
      refine V_iconst (pc := 35) (v := 2) hk dX0_hangsStill_35 rfl ?_
      refine V_iaload (pc := 36) hk dX0_hangsStill_36 (fun v8 => ?_)
      refine V_isub (pc := 37) hk dX0_hangsStill_37 ?_
      refine V_mabs (pc := 38) hk q1077 ⟨Nat.le_of_ble_eq_true rfl, Nat.le_of_ble_eq_true rfl⟩ (Nat.le_of_ble_eq_true rfl) dX0_hangsStill_38 ?_
      refine V_iload_n (pc := 41) hk dX0_hangsStill_41 0 rfl ?_
      refine V_icmp_gt (pc := 42) (tgt := 59) hk dX0_hangsStill_42 rfl ?_ ?_
      · refine V_iconst (pc := 59) (v := 0) hk dX0_hangsStill_59 rfl ?_
        exact V_zreturn (pc := 60) hk hR rfl dX0_hangsStill_60
      · refine V_aload_n (pc := 45) hk dX0_hangsStill_45 2 rfl ?_
        refine V_iconst (pc := 46) (v := 3) hk dX0_hangsStill_46 rfl ?_
        refine V_iaload (pc := 47) hk dX0_hangsStill_47 (fun v9 => ?_)
        refine V_mabs (pc := 48) hk q1077 ⟨Nat.le_of_ble_eq_true rfl, Nat.le_of_ble_eq_true rfl⟩ (Nat.le_of_ble_eq_true rfl) dX0_hangsStill_48 ?_
        refine V_iconst (pc := 51) (v := 1) hk dX0_hangsStill_51 rfl ?_
        refine V_icmp_gt (pc := 52) (tgt := 59) hk dX0_hangsStill_52 rfl ?_ ?_
        · refine V_iconst (pc := 59) (v := 0) hk dX0_hangsStill_59 rfl ?_
          exact V_zreturn (pc := 60) hk hR rfl dX0_hangsStill_60
        · refine V_iconst (pc := 55) (v := 1) hk dX0_hangsStill_55 rfl ?_
          refine V_goto (pc := 56) (tgt := 60) hk dX0_hangsStill_56 rfl ?_
          exact V_zreturn (pc := 60) hk hR rfl dX0_hangsStill_60
theorem ctX0_hangsStill (l : Launch) (K : Kx) (hI : Ini K) (b : Nat) (a0 : Option Nat) (w : Wd) : ∀ r, mX0_hangsStill b a0 w = some r → Ct l K 2 60 yX0_hangsStill (ws_ yX0_hangsStill cX0_hangsStill 3 (some (.boolean))) [.ref b, va_rf a0] w (rvI r.1) r.2 := Ct_of rvI l K hI 2 60 [.ref b, va_rf a0] w (by decide) (lc0 := [(0, .ref b), (1, va_rf a0)]) (by simp [lv_args, rf_cat, cat_int, cat_long, cat_ref]) (lg_len _ _ (by simp [rf_cat, cat_int, cat_long, cat_ref])) (fun y hk hR _ _ hin => eX0_hangsStill hk hR b a0 w)
noncomputable def mX0_writes_p36 (w : Wd) (l1 : Int32) (l2 : Option Nat) : Option (Unit × Wd) :=
(ia w l2 12).bind fun v1 =>
(ias w l2 (13 + (2 * v1)) l1).bind fun w2 =>
(ia w2 l2 12).bind fun v3 =>
(ia w2 l2 8).bind fun v4 =>
(ias w2 l2 ((13 + (2 * v3)) + 1) v4).bind fun w5 =>
(ia w5 l2 12).bind fun v6 =>
(ias w5 l2 12 (v6 + 1)).bind fun w7 =>
some ((), w7)
noncomputable def mX0_writes (this : Nat) (a0 : Int32) (w : Wd) : Option (Unit × Wd) :=
(gR w ((some this)) 0 0).bind fun v1 =>
(gR w v1 1 1).bind fun v2 =>
(ia w v2 12).bind fun v3 =>
if ¬ v3 = 20 then (
mX0_writes_p36 w a0 v2)
else (
(acpI w v2 15 v2 13 38).bind fun w4 =>
(ia w4 v2 12).bind fun v5 =>
(ias w4 v2 12 (v5 - 1)).bind fun w6 =>
mX0_writes_p36 w6 a0 v2)
theorem eX0_writes_p36 {y : Fx (Unit × Wd)} (hk : OkF y RX0 cX0_writes 3 2 60) (hR : RetM y rvV none) (w : Wd) (l1 : Int32) (l2 : Option Nat) : V y w [(1, .int l1), (2, va_rf l2)] [] 36 (mX0_writes_p36 w l1 l2) := by
  unfold mX0_writes_p36
  refine V_aload_n (pc := 36) hk dX0_writes_36 1 rfl ?_
  refine V_bipush (pc := 37) (v := 13) hk dX0_writes_37 rfl ?_
  refine V_iconst (pc := 39) (v := 2) hk dX0_writes_39 rfl ?_
  refine V_aload_n (pc := 40) hk dX0_writes_40 1 rfl ?_
  refine V_bipush (pc := 41) (v := 12) hk dX0_writes_41 rfl ?_
  refine V_iaload (pc := 43) hk dX0_writes_43 (fun v1 => ?_)
  refine V_imul (pc := 44) hk dX0_writes_44 ?_
  refine V_iadd (pc := 45) hk dX0_writes_45 ?_
  refine V_iload_n (pc := 46) hk dX0_writes_46 0 rfl ?_
  refine V_iastore (pc := 47) hk dX0_writes_47 (fun w2 => ?_)
  refine V_aload_n (pc := 48) hk dX0_writes_48 1 rfl ?_
  refine V_bipush (pc := 49) (v := 13) hk dX0_writes_49 rfl ?_
  refine V_iconst (pc := 51) (v := 2) hk dX0_writes_51 rfl ?_
  refine V_aload_n (pc := 52) hk dX0_writes_52 1 rfl ?_
  refine V_bipush (pc := 53) (v := 12) hk dX0_writes_53 rfl ?_
  refine V_iaload (pc := 55) hk dX0_writes_55 (fun v3 => ?_)
  refine V_imul (pc := 56) hk dX0_writes_56 ?_
  refine V_iadd (pc := 57) hk dX0_writes_57 ?_
  refine V_iconst (pc := 58) (v := 1) hk dX0_writes_58 rfl ?_
  refine V_iadd (pc := 59) hk dX0_writes_59 ?_
  refine V_aload_n (pc := 60) hk dX0_writes_60 1 rfl ?_
  refine V_bipush (pc := 61) (v := 8) hk dX0_writes_61 rfl ?_
  refine V_iaload (pc := 63) hk dX0_writes_63 (fun v4 => ?_)
  refine V_iastore (pc := 64) hk dX0_writes_64 (fun w5 => ?_)
  refine V_aload_n (pc := 65) hk dX0_writes_65 1 rfl ?_
  refine V_bipush (pc := 66) (v := 12) hk dX0_writes_66 rfl ?_
  refine V_dup2 (pc := 68) hk dX0_writes_68 rfl (rf_cat _) ?_
  refine V_iaload (pc := 69) hk dX0_writes_69 (fun v6 => ?_)
  refine V_iconst (pc := 70) (v := 1) hk dX0_writes_70 rfl ?_
  refine V_iadd (pc := 71) hk dX0_writes_71 ?_
  refine V_iastore (pc := 72) hk dX0_writes_72 (fun w7 => ?_)
  exact V_return (pc := 73) hk hR rfl dX0_writes_73
theorem eX0_writes {y : Fx (Unit × Wd)} (hk : OkF y RX0 cX0_writes 3 2 60) (hR : RetM y rvV none) (this : Nat) (a0 : Int32) (w : Wd) : V y w [(0, va_rf (some this)), (1, .int a0)] [] 0 (mX0_writes this a0 w) := by
  unfold mX0_writes
  refine V_aload_n (pc := 0) hk dX0_writes_0 0 rfl ?_
  refine g_X0_21 (pc := 1) hk dX0_writes_1 (fun v1 => ?_)
  refine g_X0_176 (pc := 4) hk dX0_writes_4 (fun v2 => ?_)
  refine V_astore_n (pc := 7) (lc' := [(2, va_rf v2), (0, va_rf ((some this))), (1, .int a0)]) (i := 2) hk dX0_writes_7 rfl (Nat.le_of_ble_eq_true rfl) rfl ?_
  refine V_aload_n (pc := 8) hk dX0_writes_8 0 rfl ?_
  refine V_bipush (pc := 9) (v := 12) hk dX0_writes_9 rfl ?_
  refine V_iaload (pc := 11) hk dX0_writes_11 (fun v3 => ?_)
  refine V_bipush (pc := 12) (v := 20) hk dX0_writes_12 rfl ?_
  refine V_icmp_ne (pc := 14) (tgt := 36) hk dX0_writes_14 rfl ?_ ?_
  · refine V_pick (lc' := [(1, .int a0), (2, va_rf v2)]) [2, 0] rfl ?_
    exact eX0_writes_p36 hk hR w a0 v2
  · refine V_aload_n (pc := 17) hk dX0_writes_17 0 rfl ?_
    refine V_bipush (pc := 18) (v := 15) hk dX0_writes_18 rfl ?_
    refine V_aload_n (pc := 20) hk dX0_writes_20 0 rfl ?_
    refine V_bipush (pc := 21) (v := 13) hk dX0_writes_21 rfl ?_
    refine V_bipush (pc := 23) (v := 38) hk dX0_writes_23 rfl ?_
    refine V_acpI (pc := 25) hk (acpW hk q909 q222 q221 q132) ⟨Nat.le_of_ble_eq_true rfl, Nat.le_of_ble_eq_true rfl⟩ (Nat.le_of_ble_eq_true rfl) dX0_writes_25 (fun w4 => ?_)
    refine V_aload_n (pc := 28) hk dX0_writes_28 0 rfl ?_
    refine V_bipush (pc := 29) (v := 12) hk dX0_writes_29 rfl ?_
    refine V_dup2 (pc := 31) hk dX0_writes_31 rfl (rf_cat _) ?_
    refine V_iaload (pc := 32) hk dX0_writes_32 (fun v5 => ?_)
    refine V_iconst (pc := 33) (v := 1) hk dX0_writes_33 rfl ?_
    refine V_isub (pc := 34) hk dX0_writes_34 ?_
    refine V_iastore (pc := 35) hk dX0_writes_35 (fun w6 => ?_)
    refine V_pick (lc' := [(1, .int a0), (2, va_rf v2)]) [2, 0] rfl ?_
    exact eX0_writes_p36 hk hR w6 a0 v2
theorem ctX0_writes (l : Launch) (K : Kx) (hI : Ini K) (b : Nat) (a0 : Int32) (w : Wd) : ∀ r, mX0_writes b a0 w = some r → Ct l K 2 60 yX0_writes (ws_ yX0_writes cX0_writes 3 none) [.ref b, .int a0] w (rvV r.1) r.2 := Ct_of rvV l K hI 2 60 [.ref b, .int a0] w (by decide) (lc0 := [(0, .ref b), (1, .int a0)]) rfl (Nat.le_of_ble_eq_true rfl) (fun y hk hR _ _ hin => eX0_writes hk hR b a0 w)
noncomputable def mX0_land (this : Nat) (w : Wd) : Option (Int32 × Wd) :=
(gR w ((some this)) 0 0).bind fun v1 =>
(gR w v1 1 1).bind fun v2 =>
(ia w v2 10).bind fun v3 =>
if v3 = (-1) then (
some ((-1), w))
else (
(gR w ((some this)) 0 0).bind fun v4 =>
(gR w v4 1 1).bind fun v5 =>
(recv w ((some this)) 0).bind fun b7 => (cal w (mX0_hangsStill b7 v5 w)).bind fun r6 =>
if ¬ r6.1 = 0 then (
(gR r6.2 ((some this)) 0 0).bind fun v8 =>
(recv r6.2 v8 1).bind fun b10 => (cal r6.2 (mX1_keeps b10 r6.2)).bind fun r9 =>
(gR r9.2 ((some this)) 0 0).bind fun v11 =>
(gR r9.2 v11 1 1).bind fun v12 =>
(ias r9.2 v12 10 (-1)).bind fun w13 =>
(gR w13 ((some this)) 0 0).bind fun v14 =>
(gR w13 v14 1 1).bind fun v15 =>
(ias w13 v15 5 0).bind fun w16 =>
(gR w16 ((some this)) 0 0).bind fun v17 =>
(gR w16 v17 1 1).bind fun v18 =>
(ia w16 v18 11).bind fun v19 =>
(ias w16 v18 11 (v19 ||| (1 <<< (v3 &&& 31)))).bind fun w20 =>
(recv w20 ((some this)) 0).bind fun b22 => (cal w20 (mX0_writes b22 v3 w20)).bind fun r21 =>
some (v3, r21.2))
else (
some ((-1), r6.2)))
theorem eX0_land {y : Fx (Int32 × Wd)} (hk : OkF y RX0 cX0_land 2 4 102) (hR : RetM y rvI (some (.int))) (this : Nat) (w : Wd) : V y w [(0, va_rf (some this))] [] 0 (mX0_land this w) := by
  unfold mX0_land
  refine V_aload_n (pc := 0) hk dX0_land_0 0 rfl ?_
  refine g_X0_21 (pc := 1) hk dX0_land_1 (fun v1 => ?_)
  refine g_X0_176 (pc := 4) hk dX0_land_4 (fun v2 => ?_)
  refine V_bipush (pc := 7) (v := 10) hk dX0_land_7 rfl ?_
  refine V_iaload (pc := 9) hk dX0_land_9 (fun v3 => ?_)
  refine V_istore_n (pc := 10) (lc' := [(1, .int v3), (0, va_rf ((some this)))]) (i := 1) hk dX0_land_10 rfl (Nat.le_of_ble_eq_true rfl) (by simp [rf_cat, cat_int, cat_long, cat_ref]) ?_
  refine V_iload_n (pc := 11) hk dX0_land_11 0 rfl ?_
  refine V_iconst (pc := 12) (v := (-1)) hk dX0_land_12 (by decide +kernel) ?_
  refine V_icmp_eq (pc := 13) (tgt := 30) hk dX0_land_13 rfl ?_ ?_
  · refine V_iconst (pc := 30) (v := (-1)) hk dX0_land_30 (by decide +kernel) ?_
    exact V_ireturn (pc := 31) hk hR rfl dX0_land_31
  · refine V_aload_n (pc := 16) hk dX0_land_16 1 rfl ?_
    refine V_aload_n (pc := 17) hk dX0_land_17 1 rfl ?_
    refine g_X0_21 (pc := 18) hk dX0_land_18 (fun v4 => ?_)
    refine g_X0_176 (pc := 21) hk dX0_land_21 (fun v5 => ?_)
    refine n_X0_221 (pc := 24) hk (fun b r h => ctX0_hangsStill (fl y) (fK y) hk.2.2.2.2.2.2.2.1 b v5 w r h) ⟨Nat.le_of_ble_eq_true rfl, Nat.le_of_ble_eq_true rfl⟩ (Nat.le_of_ble_eq_true rfl) dX0_land_24 (fun r6 => ?_)
    refine V_if_ne (pc := 27) (tgt := 32) hk dX0_land_27 rfl ?_ ?_
    · refine V_aload_n (pc := 32) hk dX0_land_32 1 rfl ?_
      refine g_X0_21 (pc := 33) hk dX0_land_33 (fun v8 => ?_)
      refine n_X0_200 (pc := 36) hk (fun b r h => ctX1_keeps (fl y) (fK y) hk.2.2.2.2.2.2.2.1 b r6.2 r h) ⟨Nat.le_of_ble_eq_true rfl, Nat.le_of_ble_eq_true rfl⟩ (Nat.le_of_ble_eq_true rfl) dX0_land_36 (fun r9 => ?_)
      refine V_aload_n (pc := 39) hk dX0_land_39 1 rfl ?_
      refine g_X0_21 (pc := 40) hk dX0_land_40 (fun v11 => ?_)
      refine g_X0_176 (pc := 43) hk dX0_land_43 (fun v12 => ?_)
      refine V_bipush (pc := 46) (v := 10) hk dX0_land_46 rfl ?_
      refine V_iconst (pc := 48) (v := (-1)) hk dX0_land_48 (by decide +kernel) ?_
      refine V_iastore (pc := 49) hk dX0_land_49 (fun w13 => ?_)
      refine V_aload_n (pc := 50) hk dX0_land_50 1 rfl ?_
      refine g_X0_21 (pc := 51) hk dX0_land_51 (fun v14 => ?_)
      refine g_X0_176 (pc := 54) hk dX0_land_54 (fun v15 => ?_)
      refine V_iconst (pc := 57) (v := 5) hk dX0_land_57 rfl ?_
      refine V_iconst (pc := 58) (v := 0) hk dX0_land_58 rfl ?_
      refine V_iastore (pc := 59) hk dX0_land_59 (fun w16 => ?_)
      refine V_aload_n (pc := 60) hk dX0_land_60 1 rfl ?_
      refine g_X0_21 (pc := 61) hk dX0_land_61 (fun v17 => ?_)
      refine g_X0_176 (pc := 64) hk dX0_land_64 (fun v18 => ?_)
      refine V_bipush (pc := 67) (v := 11) hk dX0_land_67 rfl ?_
      refine V_dup2 (pc := 69) hk dX0_land_69 rfl (rf_cat _) ?_
      refine V_iaload (pc := 70) hk dX0_land_70 (fun v19 => ?_)
      refine V_iconst (pc := 71) (v := 1) hk dX0_land_71 rfl ?_
      refine V_iload_n (pc := 72) hk dX0_land_72 0 rfl ?_
      refine V_ishl (pc := 73) hk dX0_land_73 ?_
      refine V_ior (pc := 74) hk dX0_land_74 ?_
      refine V_iastore (pc := 75) hk dX0_land_75 (fun w20 => ?_)
      refine V_aload_n (pc := 76) hk dX0_land_76 1 rfl ?_
      refine V_iload_n (pc := 77) hk dX0_land_77 0 rfl ?_
      refine n_X0_225 (pc := 78) hk (fun b r h => ctX0_writes (fl y) (fK y) hk.2.2.2.2.2.2.2.1 b v3 w20 r h) ⟨Nat.le_of_ble_eq_true rfl, Nat.le_of_ble_eq_true rfl⟩ (Nat.le_of_ble_eq_true rfl) dX0_land_78 (fun r21 => ?_)
      refine V_iload_n (pc := 81) hk dX0_land_81 0 rfl ?_
      exact V_ireturn (pc := 82) hk hR rfl dX0_land_82
    · refine V_iconst (pc := 30) (v := (-1)) hk dX0_land_30 (by decide +kernel) ?_
      exact V_ireturn (pc := 31) hk hR rfl dX0_land_31
theorem ctX0_land (l : Launch) (K : Kx) (hI : Ini K) (b : Nat) (w : Wd) : ∀ r, mX0_land b w = some r → Ct l K 4 102 yX0_land (ws_ yX0_land cX0_land 2 (some (.int))) [.ref b] w (rvI r.1) r.2 := Ct_of rvI l K hI 4 102 [.ref b] w (by decide) (lc0 := [(0, .ref b)]) rfl (Nat.le_of_ble_eq_true rfl) (fun y hk hR _ _ hin => eX0_land hk hR b w)
noncomputable def mX0_runs_b2 (k2 : Wd → (Option Nat) → Int32 → Int32 → Option (Int32 × Wd)) (w : Wd) (l0 : Option Nat) (l1 : Int32) (l2 : Int32) : Option (Int32 × Wd) :=
if l1 ≤ l2 then (
(nok (.boolean) 1).bind fun _ => some (1, w))
else (
(recv w l0 0).bind fun b2 => (cal w (mX0_run b2 1 w)).bind fun r1 =>
if ¬ r1.1 = (-1) then (
k2 r1.2 l0 l1 (l2 + 1))
else (
(nok (.boolean) 0).bind fun _ => some (0, r1.2)))
noncomputable def mX0_runs_l2 : Nat → Wd → (Option Nat) → Int32 → Int32 → Option (Int32 × Wd)
  | 0, _, _, _, _ => none
  | n + 1, w, l0, l1, l2 => mX0_runs_b2 (mX0_runs_l2 n) w l0 l1 l2
noncomputable def mX0_runs (this : Nat) (a0 : Int32) (w : Wd) : Option (Int32 × Wd) :=
mX0_runs_l2 FU w ((some this)) a0 0
theorem eX0_runs_b2 {y : Fx (Int32 × Wd)} (hk : OkF y RX0 cX0_runs 3 110 6246) (hR : RetM y rvI (some (.boolean))) {k2 : Wd → (Option Nat) → Int32 → Int32 → Option (Int32 × Wd)} (h2 : ∀ (w : Wd) (l0 : Option Nat) (l1 : Int32) (l2 : Int32), V y w [(0, va_rf l0), (1, .int l1), (2, .int l2)] [] 2 (k2 w l0 l1 l2)) (w : Wd) (l0 : Option Nat) (l1 : Int32) (l2 : Int32) : V y w [(0, va_rf l0), (1, .int l1), (2, .int l2)] [] 2 (mX0_runs_b2 k2 w l0 l1 l2) := by
  unfold mX0_runs_b2
  refine V_iload_n (pc := 2) hk dX0_runs_2 2 rfl ?_
  refine V_iload_n (pc := 3) hk dX0_runs_3 1 rfl ?_
  refine V_icmp_ge (pc := 4) (tgt := 24) hk dX0_runs_4 rfl ?_ ?_
  · refine V_iconst (pc := 24) (v := 1) hk dX0_runs_24 rfl ?_
    exact V_zreturn (pc := 25) hk hR rfl dX0_runs_25
  · refine V_aload_n (pc := 7) hk dX0_runs_7 0 rfl ?_
    refine V_iconst (pc := 8) (v := 1) hk dX0_runs_8 rfl ?_
    refine n_X0_228 (pc := 9) hk (fun b r h => ctX0_run (fl y) (fK y) hk.2.2.2.2.2.2.2.1 b 1 w r h) ⟨Nat.le_of_ble_eq_true rfl, Nat.le_of_ble_eq_true rfl⟩ (Nat.le_of_ble_eq_true rfl) dX0_runs_9 (fun r1 => ?_)
    refine V_iconst (pc := 12) (v := (-1)) hk dX0_runs_12 (by decide +kernel) ?_
    refine V_icmp_ne (pc := 13) (tgt := 18) hk dX0_runs_13 rfl ?_ ?_
    · refine V_iinc (pc := 18) (v := 1) (lc' := [(2, .int (l2 + 1)), (0, va_rf l0), (1, .int l1)]) hk dX0_runs_18 2 rfl rfl (Nat.le_of_ble_eq_true rfl) rfl ?_
      refine V_goto (pc := 21) (tgt := 2) hk dX0_runs_21 rfl ?_
      refine V_pick (lc' := [(0, va_rf l0), (1, .int l1), (2, .int (l2 + 1))]) [1, 2, 0] rfl ?_
      exact h2 r1.2 l0 l1 (l2 + 1)
    · refine V_iconst (pc := 16) (v := 0) hk dX0_runs_16 rfl ?_
      exact V_zreturn (pc := 17) hk hR rfl dX0_runs_17
theorem eX0_runs_l2 {y : Fx (Int32 × Wd)} (hk : OkF y RX0 cX0_runs 3 110 6246) (hR : RetM y rvI (some (.boolean))) : ∀ (n : Nat) (w : Wd) (l0 : Option Nat) (l1 : Int32) (l2 : Int32), V y w [(0, va_rf l0), (1, .int l1), (2, .int l2)] [] 2 (mX0_runs_l2 n w l0 l1 l2) := by
  intro n
  induction n with
  | zero => intro w l0 l1 l2; exact V_none
  | succ n ih => intro w l0 l1 l2; exact eX0_runs_b2 hk hR ih w l0 l1 l2
theorem eX0_runs {y : Fx (Int32 × Wd)} (hk : OkF y RX0 cX0_runs 3 110 6246) (hR : RetM y rvI (some (.boolean))) (this : Nat) (a0 : Int32) (w : Wd) : V y w [(0, va_rf (some this)), (1, .int a0)] [] 0 (mX0_runs this a0 w) := by
  unfold mX0_runs
  refine V_iconst (pc := 0) (v := 0) hk dX0_runs_0 rfl ?_
  refine V_istore_n (pc := 1) (lc' := [(2, .int 0), (0, va_rf ((some this))), (1, .int a0)]) (i := 2) hk dX0_runs_1 rfl (Nat.le_of_ble_eq_true rfl) rfl ?_
  refine V_pick (lc' := [(0, va_rf ((some this))), (1, .int a0), (2, .int 0)]) [1, 2, 0] rfl ?_
  exact eX0_runs_l2 hk hR FU w ((some this)) a0 0
theorem ctX0_runs (l : Launch) (K : Kx) (hI : Ini K) (b : Nat) (a0 : Int32) (w : Wd) : ∀ r, mX0_runs b a0 w = some r → Ct l K 110 6246 yX0_runs (ws_ yX0_runs cX0_runs 3 (some (.boolean))) [.ref b, .int a0] w (rvI r.1) r.2 := Ct_of rvI l K hI 110 6246 [.ref b, .int a0] w (by decide) (lc0 := [(0, .ref b), (1, .int a0)]) rfl (Nat.le_of_ble_eq_true rfl) (fun y hk hR _ _ hin => eX0_runs hk hR b a0 w)
noncomputable def mX0_does (this : Nat) (a0 : Option Nat) (w : Wd) : Option (Int32 × Wd) :=
(recv w a0 15).bind fun b2 => (cal w (mX15_sort b2 w)).bind fun r1 =>
if r1.1 = 205 then (
(recv r1.2 a0 15).bind fun b4 => (cal r1.2 (mX15_a b4 r1.2)).bind fun r3 =>
(recv r3.2 a0 15).bind fun b6 => (cal r3.2 (mX15_b b6 r3.2)).bind fun r5 =>
(recv r5.2 a0 15).bind fun b8 => (cal r5.2 (mX15_c b8 r5.2)).bind fun r7 =>
(recv r7.2 a0 15).bind fun b10 => (cal r7.2 (mX15_d b10 r7.2)).bind fun r9 =>
(recv r9.2 a0 15).bind fun b12 => (cal r9.2 (mX15_e b12 r9.2)).bind fun r11 =>
(recv r11.2 ((some this)) 0).bind fun b14 => (cal r11.2 (mX0_order b14 r3.1 r5.1 r7.1 r9.1 r11.1 r11.2)).bind fun r13 =>
if r13.1 = (-1) then (
(nok (.boolean) 0).bind fun _ => some (0, r13.2))
else (
(nok (.boolean) 1).bind fun _ => some (1, r13.2)))
else (
if r1.1 = 206 then (
(recv r1.2 a0 15).bind fun b16 => (cal r1.2 (mX15_a b16 r1.2)).bind fun r15 =>
(recv r15.2 ((some this)) 0).bind fun b18 => (cal r15.2 (mX0_move b18 r15.1 r15.2)).bind fun r17 =>
if r17.1 = (-1) then (
(nok (.boolean) 0).bind fun _ => some (0, r17.2))
else (
(nok (.boolean) 1).bind fun _ => some (1, r17.2)))
else (
if r1.1 = 207 then (
(recv r1.2 a0 15).bind fun b20 => (cal r1.2 (mX15_a b20 r1.2)).bind fun r19 =>
(recv r19.2 ((some this)) 0).bind fun b22 => (cal r19.2 (mX0_runs b22 r19.1 r19.2)).bind fun r21 =>
(nok (.boolean) r21.1).bind fun _ => some (r21.1, r21.2))
else (
if r1.1 = 208 then (
(recv r1.2 a0 15).bind fun b24 => (cal r1.2 (mX15_a b24 r1.2)).bind fun r23 =>
(recv r23.2 ((some this)) 0).bind fun b26 => (cal r23.2 (mX0_hoist b26 r23.1 r23.2)).bind fun r25 =>
(nok (.boolean) r25.1).bind fun _ => some (r25.1, r25.2))
else (
if r1.1 = 209 then (
(recv r1.2 a0 15).bind fun b28 => (cal r1.2 (mX15_a b28 r1.2)).bind fun r27 =>
(recv r27.2 ((some this)) 0).bind fun b30 => (cal r27.2 (mX0_aim b30 r27.1 r27.2)).bind fun r29 =>
(nok (.boolean) r29.1).bind fun _ => some (r29.1, r29.2))
else (
if r1.1 = 210 then (
(recv r1.2 a0 15).bind fun b32 => (cal r1.2 (mX15_a b32 r1.2)).bind fun r31 =>
(recv r31.2 ((some this)) 0).bind fun b34 => (cal r31.2 (mX0_hook b34 r31.1 r31.2)).bind fun r33 =>
(nok (.boolean) r33.1).bind fun _ => some (r33.1, r33.2))
else (
(recv r1.2 ((some this)) 0).bind fun b36 => (cal r1.2 (mX0_land b36 r1.2)).bind fun r35 =>
if r35.1 = (-1) then (
(nok (.boolean) 0).bind fun _ => some (0, r35.2))
else (
(nok (.boolean) 1).bind fun _ => some (1, r35.2))))))))
theorem eX0_does {y : Fx (Int32 × Wd)} (hk : OkF y RX0 cX0_does 2 111 6268) (hR : RetM y rvI (some (.boolean))) (this : Nat) (a0 : Option Nat) (w : Wd) : V y w [(0, va_rf (some this)), (1, va_rf a0)] [] 0 (mX0_does this a0 w) := by
  unfold mX0_does
  refine V_aload_n (pc := 0) hk dX0_does_0 1 rfl ?_
  refine n_X0_231 (pc := 1) hk (fun b r h => ctX15_sort (fl y) (fK y) hk.2.2.2.2.2.2.2.1 b w r h) ⟨Nat.le_of_ble_eq_true rfl, Nat.le_of_ble_eq_true rfl⟩ (Nat.le_of_ble_eq_true rfl) dX0_does_1 (fun r1 => ?_)
  refine V_if (fun hx => ?_) (fun hn205 => ?_)
  · refine V_tblIn (pc := 4) (tgt := 44) (off := 40) hk 205 hx dX0_does_4 (by decide) (by decide) (by decide +kernel) rfl ?_
    refine V_aload_n (pc := 44) hk dX0_does_44 0 rfl ?_
    refine V_aload_n (pc := 45) hk dX0_does_45 1 rfl ?_
    refine n_X0_237 (pc := 46) hk (fun b r h => ctX15_a (fl y) (fK y) hk.2.2.2.2.2.2.2.1 b r1.2 r h) ⟨Nat.le_of_ble_eq_true rfl, Nat.le_of_ble_eq_true rfl⟩ (by simp [rf_cat, cat_int, cat_long, cat_ref]) dX0_does_46 (fun r3 => ?_)
    refine V_aload_n (pc := 49) hk dX0_does_49 1 rfl ?_
    refine n_X0_240 (pc := 50) hk (fun b r h => ctX15_b (fl y) (fK y) hk.2.2.2.2.2.2.2.1 b r3.2 r h) ⟨Nat.le_of_ble_eq_true rfl, Nat.le_of_ble_eq_true rfl⟩ (by simp [rf_cat, cat_int, cat_long, cat_ref]) dX0_does_50 (fun r5 => ?_)
    refine V_aload_n (pc := 53) hk dX0_does_53 1 rfl ?_
    refine n_X0_243 (pc := 54) hk (fun b r h => ctX15_c (fl y) (fK y) hk.2.2.2.2.2.2.2.1 b r5.2 r h) ⟨Nat.le_of_ble_eq_true rfl, Nat.le_of_ble_eq_true rfl⟩ (by simp [rf_cat, cat_int, cat_long, cat_ref]) dX0_does_54 (fun r7 => ?_)
    refine V_aload_n (pc := 57) hk dX0_does_57 1 rfl ?_
    refine n_X0_246 (pc := 58) hk (fun b r h => ctX15_d (fl y) (fK y) hk.2.2.2.2.2.2.2.1 b r7.2 r h) ⟨Nat.le_of_ble_eq_true rfl, Nat.le_of_ble_eq_true rfl⟩ (by simp [rf_cat, cat_int, cat_long, cat_ref]) dX0_does_58 (fun r9 => ?_)
    refine V_aload_n (pc := 61) hk dX0_does_61 1 rfl ?_
    refine n_X0_249 (pc := 62) hk (fun b r h => ctX15_e (fl y) (fK y) hk.2.2.2.2.2.2.2.1 b r9.2 r h) ⟨Nat.le_of_ble_eq_true rfl, Nat.le_of_ble_eq_true rfl⟩ (by simp [rf_cat, cat_int, cat_long, cat_ref]) dX0_does_62 (fun r11 => ?_)
    refine n_X0_252 (pc := 65) hk (fun b r h => ctX0_order (fl y) (fK y) hk.2.2.2.2.2.2.2.1 b r3.1 r5.1 r7.1 r9.1 r11.1 r11.2 r h) ⟨Nat.le_of_ble_eq_true rfl, Nat.le_of_ble_eq_true rfl⟩ (Nat.le_of_ble_eq_true rfl) dX0_does_65 (fun r13 => ?_)
    refine V_iconst (pc := 68) (v := (-1)) hk dX0_does_68 (by decide +kernel) ?_
    refine V_icmp_eq (pc := 69) (tgt := 76) hk dX0_does_69 rfl ?_ ?_
    · refine V_iconst (pc := 76) (v := 0) hk dX0_does_76 rfl ?_
      exact V_zreturn (pc := 77) hk hR rfl dX0_does_77
    · refine V_iconst (pc := 72) (v := 1) hk dX0_does_72 rfl ?_
      refine V_goto (pc := 73) (tgt := 77) hk dX0_does_73 rfl ?_
      exact V_zreturn (pc := 77) hk hR rfl dX0_does_77
  refine V_if (fun hx => ?_) (fun hn206 => ?_)
  · refine V_tblIn (pc := 4) (tgt := 78) (off := 74) hk 206 hx dX0_does_4 (by decide) (by decide) (by decide +kernel) rfl ?_
    refine V_aload_n (pc := 78) hk dX0_does_78 0 rfl ?_
    refine V_aload_n (pc := 79) hk dX0_does_79 1 rfl ?_
    refine n_X0_237 (pc := 80) hk (fun b r h => ctX15_a (fl y) (fK y) hk.2.2.2.2.2.2.2.1 b r1.2 r h) ⟨Nat.le_of_ble_eq_true rfl, Nat.le_of_ble_eq_true rfl⟩ (by simp [rf_cat, cat_int, cat_long, cat_ref]) dX0_does_80 (fun r15 => ?_)
    refine n_X0_255 (pc := 83) hk (fun b r h => ctX0_move (fl y) (fK y) hk.2.2.2.2.2.2.2.1 b r15.1 r15.2 r h) ⟨Nat.le_of_ble_eq_true rfl, Nat.le_of_ble_eq_true rfl⟩ (Nat.le_of_ble_eq_true rfl) dX0_does_83 (fun r17 => ?_)
    refine V_iconst (pc := 86) (v := (-1)) hk dX0_does_86 (by decide +kernel) ?_
    refine V_icmp_eq (pc := 87) (tgt := 94) hk dX0_does_87 rfl ?_ ?_
    · refine V_iconst (pc := 94) (v := 0) hk dX0_does_94 rfl ?_
      exact V_zreturn (pc := 95) hk hR rfl dX0_does_95
    · refine V_iconst (pc := 90) (v := 1) hk dX0_does_90 rfl ?_
      refine V_goto (pc := 91) (tgt := 95) hk dX0_does_91 rfl ?_
      exact V_zreturn (pc := 95) hk hR rfl dX0_does_95
  refine V_if (fun hx => ?_) (fun hn207 => ?_)
  · refine V_tblIn (pc := 4) (tgt := 96) (off := 92) hk 207 hx dX0_does_4 (by decide) (by decide) (by decide +kernel) rfl ?_
    refine V_aload_n (pc := 96) hk dX0_does_96 0 rfl ?_
    refine V_aload_n (pc := 97) hk dX0_does_97 1 rfl ?_
    refine n_X0_237 (pc := 98) hk (fun b r h => ctX15_a (fl y) (fK y) hk.2.2.2.2.2.2.2.1 b r1.2 r h) ⟨Nat.le_of_ble_eq_true rfl, Nat.le_of_ble_eq_true rfl⟩ (by simp [rf_cat, cat_int, cat_long, cat_ref]) dX0_does_98 (fun r19 => ?_)
    refine n_X0_258 (pc := 101) hk (fun b r h => ctX0_runs (fl y) (fK y) hk.2.2.2.2.2.2.2.1 b r19.1 r19.2 r h) ⟨Nat.le_of_ble_eq_true rfl, Nat.le_of_ble_eq_true rfl⟩ (Nat.le_of_ble_eq_true rfl) dX0_does_101 (fun r21 => ?_)
    exact V_zreturn (pc := 104) hk hR rfl dX0_does_104
  refine V_if (fun hx => ?_) (fun hn208 => ?_)
  · refine V_tblIn (pc := 4) (tgt := 105) (off := 101) hk 208 hx dX0_does_4 (by decide) (by decide) (by decide +kernel) rfl ?_
    refine V_aload_n (pc := 105) hk dX0_does_105 0 rfl ?_
    refine V_aload_n (pc := 106) hk dX0_does_106 1 rfl ?_
    refine n_X0_237 (pc := 107) hk (fun b r h => ctX15_a (fl y) (fK y) hk.2.2.2.2.2.2.2.1 b r1.2 r h) ⟨Nat.le_of_ble_eq_true rfl, Nat.le_of_ble_eq_true rfl⟩ (by simp [rf_cat, cat_int, cat_long, cat_ref]) dX0_does_107 (fun r23 => ?_)
    refine n_X0_261 (pc := 110) hk (fun b r h => ctX0_hoist (fl y) (fK y) hk.2.2.2.2.2.2.2.1 b r23.1 r23.2 r h) ⟨Nat.le_of_ble_eq_true rfl, Nat.le_of_ble_eq_true rfl⟩ (Nat.le_of_ble_eq_true rfl) dX0_does_110 (fun r25 => ?_)
    exact V_zreturn (pc := 113) hk hR rfl dX0_does_113
  refine V_if (fun hx => ?_) (fun hn209 => ?_)
  · refine V_tblIn (pc := 4) (tgt := 114) (off := 110) hk 209 hx dX0_does_4 (by decide) (by decide) (by decide +kernel) rfl ?_
    refine V_aload_n (pc := 114) hk dX0_does_114 0 rfl ?_
    refine V_aload_n (pc := 115) hk dX0_does_115 1 rfl ?_
    refine n_X0_237 (pc := 116) hk (fun b r h => ctX15_a (fl y) (fK y) hk.2.2.2.2.2.2.2.1 b r1.2 r h) ⟨Nat.le_of_ble_eq_true rfl, Nat.le_of_ble_eq_true rfl⟩ (by simp [rf_cat, cat_int, cat_long, cat_ref]) dX0_does_116 (fun r27 => ?_)
    refine n_X0_264 (pc := 119) hk (fun b r h => ctX0_aim (fl y) (fK y) hk.2.2.2.2.2.2.2.1 b r27.1 r27.2 r h) ⟨Nat.le_of_ble_eq_true rfl, Nat.le_of_ble_eq_true rfl⟩ (Nat.le_of_ble_eq_true rfl) dX0_does_119 (fun r29 => ?_)
    exact V_zreturn (pc := 122) hk hR rfl dX0_does_122
  refine V_if (fun hx => ?_) (fun hn210 => ?_)
  · refine V_tblIn (pc := 4) (tgt := 123) (off := 119) hk 210 hx dX0_does_4 (by decide) (by decide) (by decide +kernel) rfl ?_
    refine V_aload_n (pc := 123) hk dX0_does_123 0 rfl ?_
    refine V_aload_n (pc := 124) hk dX0_does_124 1 rfl ?_
    refine n_X0_237 (pc := 125) hk (fun b r h => ctX15_a (fl y) (fK y) hk.2.2.2.2.2.2.2.1 b r1.2 r h) ⟨Nat.le_of_ble_eq_true rfl, Nat.le_of_ble_eq_true rfl⟩ (by simp [rf_cat, cat_int, cat_long, cat_ref]) dX0_does_125 (fun r31 => ?_)
    refine n_X0_267 (pc := 128) hk (fun b r h => ctX0_hook (fl y) (fK y) hk.2.2.2.2.2.2.2.1 b r31.1 r31.2 r h) ⟨Nat.le_of_ble_eq_true rfl, Nat.le_of_ble_eq_true rfl⟩ (Nat.le_of_ble_eq_true rfl) dX0_does_128 (fun r33 => ?_)
    exact V_zreturn (pc := 131) hk hR rfl dX0_does_131
  refine V_tblOut (pc := 4) (tgt := 132) hk dX0_does_4 (tbl_out 205 210 (by intro k h1 h2; obtain rfl | rfl | rfl | rfl | rfl | rfl : k = 205 ∨ k = 206 ∨ k = 207 ∨ k = 208 ∨ k = 209 ∨ k = 210 := (by omega); exact hn205; exact hn206; exact hn207; exact hn208; exact hn209; exact hn210)) rfl ?_
  refine V_aload_n (pc := 132) hk dX0_does_132 0 rfl ?_
  refine n_X0_270 (pc := 133) hk (fun b r h => ctX0_land (fl y) (fK y) hk.2.2.2.2.2.2.2.1 b r1.2 r h) ⟨Nat.le_of_ble_eq_true rfl, Nat.le_of_ble_eq_true rfl⟩ (Nat.le_of_ble_eq_true rfl) dX0_does_133 (fun r35 => ?_)
  refine V_iconst (pc := 136) (v := (-1)) hk dX0_does_136 (by decide +kernel) ?_
  refine V_icmp_eq (pc := 137) (tgt := 144) hk dX0_does_137 rfl ?_ ?_
  · refine V_iconst (pc := 144) (v := 0) hk dX0_does_144 rfl ?_
    exact V_zreturn (pc := 145) hk hR rfl dX0_does_145
  · refine V_iconst (pc := 140) (v := 1) hk dX0_does_140 rfl ?_
    refine V_goto (pc := 141) (tgt := 145) hk dX0_does_141 rfl ?_
    exact V_zreturn (pc := 145) hk hR rfl dX0_does_145
theorem ctX0_does (l : Launch) (K : Kx) (hI : Ini K) (b : Nat) (a0 : Option Nat) (w : Wd) : ∀ r, mX0_does b a0 w = some r → Ct l K 111 6268 yX0_does (ws_ yX0_does cX0_does 2 (some (.boolean))) [.ref b, va_rf a0] w (rvI r.1) r.2 := Ct_of rvI l K hI 111 6268 [.ref b, va_rf a0] w (by decide) (lc0 := [(0, .ref b), (1, va_rf a0)]) (by simp [lv_args, rf_cat, cat_int, cat_long, cat_ref]) (lg_len _ _ (by simp [rf_cat, cat_int, cat_long, cat_ref])) (fun y hk hR _ _ hin => eX0_does hk hR b a0 w)
noncomputable def mX0_played_b26 (k26 : Wd → (Option Nat) → (Option Nat) → Int32 → Option (Int32 × Wd)) (w : Wd) (l0 : Option Nat) (l2 : Option Nat) (l3 : Int32) : Option (Int32 × Wd) :=
(recv w l2 16).bind fun b2 => (cal w (mJ2_size b2 w)).bind fun r1 =>
if r1.1 ≤ l3 then (
some ((-1), r1.2))
else (
(recv r1.2 l2 16).bind fun b4 => (cal r1.2 (mJ2_get b4 l3 r1.2)).bind fun r3 =>
(ccast r3.2 clDoing r3.1).bind fun _ =>
(recv r3.2 l0 0).bind fun b7 => (cal r3.2 (mX0_does b7 r3.1 r3.2)).bind fun r6 =>
if ¬ r6.1 = 0 then (
k26 r6.2 l0 l2 (l3 + 1))
else (
(recv r6.2 l2 16).bind fun b9 => (cal r6.2 (mJ2_get b9 l3 r6.2)).bind fun r8 =>
(ccast r8.2 clDoing r8.1).bind fun _ =>
(recv r8.2 r8.1 15).bind fun b12 => (cal r8.2 (mX15_number b12 r8.2)).bind fun r11 =>
some (r11.1, r11.2)))
noncomputable def mX0_played_l26 : Nat → Wd → (Option Nat) → (Option Nat) → Int32 → Option (Int32 × Wd)
  | 0, _, _, _, _ => none
  | n + 1, w, l0, l2, l3 => mX0_played_b26 (mX0_played_l26 n) w l0 l2 l3
noncomputable def mX0_played (this : Nat) (a0 : Int32) (w : Wd) : Option (Int32 × Wd) :=
(recv w ((some this)) 0).bind fun b2 => (cal w (mX0_isText b2 a0 w)).bind fun r1 =>
if ¬ r1.1 = 0 then (
(gR r1.2 ((some this)) 0 0).bind fun v3 =>
(gR r1.2 v3 1 6).bind fun v4 =>
(aa r1.2 v4 a0).bind fun v5 =>
(gR r1.2 v5 4 2).bind fun v6 =>
mX0_played_l26 FU r1.2 ((some this)) v6 0)
else (
some ((-2), r1.2))
theorem eX0_played_b26 {y : Fx (Int32 × Wd)} (hk : OkF y RX0 cX0_played 4 112 6289) (hR : RetM y rvI (some (.int))) {k26 : Wd → (Option Nat) → (Option Nat) → Int32 → Option (Int32 × Wd)} (h26 : ∀ (w : Wd) (l0 : Option Nat) (l2 : Option Nat) (l3 : Int32), V y w [(0, va_rf l0), (2, va_rf l2), (3, .int l3)] [] 26 (k26 w l0 l2 l3)) (w : Wd) (l0 : Option Nat) (l2 : Option Nat) (l3 : Int32) : V y w [(0, va_rf l0), (2, va_rf l2), (3, .int l3)] [] 26 (mX0_played_b26 k26 w l0 l2 l3) := by
  unfold mX0_played_b26
  refine V_iload_n (pc := 26) hk dX0_played_26 2 rfl ?_
  refine V_aload_n (pc := 27) hk dX0_played_27 1 rfl ?_
  refine n_X0_277 (pc := 28) hk (fun b r h => ctJ2_size (fl y) (fK y) hk.2.2.2.2.2.2.2.1 b w r h) ⟨Nat.le_of_ble_eq_true rfl, Nat.le_of_ble_eq_true rfl⟩ (Nat.le_of_ble_eq_true rfl) dX0_played_28 (fun r1 => ?_)
  refine V_icmp_ge (pc := 31) (tgt := 67) hk dX0_played_31 rfl ?_ ?_
  · refine V_iconst (pc := 67) (v := (-1)) hk dX0_played_67 (by decide +kernel) ?_
    exact V_ireturn (pc := 68) hk hR rfl dX0_played_68
  · refine V_aload_n (pc := 34) hk dX0_played_34 0 rfl ?_
    refine V_aload_n (pc := 35) hk dX0_played_35 1 rfl ?_
    refine V_iload_n (pc := 36) hk dX0_played_36 2 rfl ?_
    refine n_X0_282 (pc := 37) hk (fun b r h => ctJ2_get (fl y) (fK y) hk.2.2.2.2.2.2.2.1 b l3 r1.2 r h) ⟨Nat.le_of_ble_eq_true rfl, Nat.le_of_ble_eq_true rfl⟩ (by simp [rf_cat, cat_int, cat_long, cat_ref]) dX0_played_37 (fun r3 => ?_)
    refine V_cast (pc := 40) hk cst_Doing q1090 dX0_played_40 ?_
    refine n_X0_286 (pc := 43) hk (fun b r h => ctX0_does (fl y) (fK y) hk.2.2.2.2.2.2.2.1 b r3.1 r3.2 r h) ⟨Nat.le_of_ble_eq_true rfl, Nat.le_of_ble_eq_true rfl⟩ (Nat.le_of_ble_eq_true rfl) dX0_played_43 (fun r6 => ?_)
    refine V_if_ne (pc := 46) (tgt := 61) hk dX0_played_46 rfl ?_ ?_
    · refine V_iinc (pc := 61) (v := 1) (lc' := [(3, .int (l3 + 1)), (0, va_rf l0), (2, va_rf l2)]) hk dX0_played_61 2 rfl rfl (Nat.le_of_ble_eq_true rfl) (by simp [rf_cat, cat_int, cat_long, cat_ref]) ?_
      refine V_goto (pc := 64) (tgt := 26) hk dX0_played_64 rfl ?_
      refine V_pick (lc' := [(0, va_rf l0), (2, va_rf l2), (3, .int (l3 + 1))]) [1, 2, 0] rfl ?_
      exact h26 r6.2 l0 l2 (l3 + 1)
    · refine V_aload_n (pc := 49) hk dX0_played_49 1 rfl ?_
      refine V_iload_n (pc := 50) hk dX0_played_50 2 rfl ?_
      refine n_X0_282 (pc := 51) hk (fun b r h => ctJ2_get (fl y) (fK y) hk.2.2.2.2.2.2.2.1 b l3 r6.2 r h) ⟨Nat.le_of_ble_eq_true rfl, Nat.le_of_ble_eq_true rfl⟩ (Nat.le_of_ble_eq_true rfl) dX0_played_51 (fun r8 => ?_)
      refine V_cast (pc := 54) hk cst_Doing q1090 dX0_played_54 ?_
      refine n_X0_290 (pc := 57) hk (fun b r h => ctX15_number (fl y) (fK y) hk.2.2.2.2.2.2.2.1 b r8.2 r h) ⟨Nat.le_of_ble_eq_true rfl, Nat.le_of_ble_eq_true rfl⟩ (Nat.le_of_ble_eq_true rfl) dX0_played_57 (fun r11 => ?_)
      exact V_ireturn (pc := 60) hk hR rfl dX0_played_60
theorem eX0_played_l26 {y : Fx (Int32 × Wd)} (hk : OkF y RX0 cX0_played 4 112 6289) (hR : RetM y rvI (some (.int))) : ∀ (n : Nat) (w : Wd) (l0 : Option Nat) (l2 : Option Nat) (l3 : Int32), V y w [(0, va_rf l0), (2, va_rf l2), (3, .int l3)] [] 26 (mX0_played_l26 n w l0 l2 l3) := by
  intro n
  induction n with
  | zero => intro w l0 l2 l3; exact V_none
  | succ n ih => intro w l0 l2 l3; exact eX0_played_b26 hk hR ih w l0 l2 l3
theorem eX0_played {y : Fx (Int32 × Wd)} (hk : OkF y RX0 cX0_played 4 112 6289) (hR : RetM y rvI (some (.int))) (this : Nat) (a0 : Int32) (w : Wd) : V y w [(0, va_rf (some this)), (1, .int a0)] [] 0 (mX0_played this a0 w) := by
  unfold mX0_played
  refine V_aload_n (pc := 0) hk dX0_played_0 0 rfl ?_
  refine V_iload_n (pc := 1) hk dX0_played_1 1 rfl ?_
  refine n_X0_119 (pc := 2) hk (fun b r h => ctX0_isText (fl y) (fK y) hk.2.2.2.2.2.2.2.1 b a0 w r h) ⟨Nat.le_of_ble_eq_true rfl, Nat.le_of_ble_eq_true rfl⟩ (Nat.le_of_ble_eq_true rfl) dX0_played_2 (fun r1 => ?_)
  refine V_if_ne (pc := 5) (tgt := 11) hk dX0_played_5 rfl ?_ ?_
  · refine V_aload_n (pc := 11) hk dX0_played_11 0 rfl ?_
    refine g_X0_21 (pc := 12) hk dX0_played_12 (fun v3 => ?_)
    refine g_X0_100 (pc := 15) hk dX0_played_15 (fun v4 => ?_)
    refine V_iload_n (pc := 18) hk dX0_played_18 1 rfl ?_
    refine V_aaload (pc := 19) hk dX0_played_19 (fun v5 => ?_)
    refine g_X0_273 (pc := 20) hk dX0_played_20 (fun v6 => ?_)
    refine V_astore_n (pc := 23) (lc' := [(2, va_rf v6), (0, va_rf ((some this))), (1, .int a0)]) (i := 2) hk dX0_played_23 rfl (Nat.le_of_ble_eq_true rfl) rfl ?_
    refine V_iconst (pc := 24) (v := 0) hk dX0_played_24 rfl ?_
    refine V_istore_n (pc := 25) (lc' := [(3, .int 0), (2, va_rf v6), (0, va_rf ((some this))), (1, .int a0)]) (i := 3) hk dX0_played_25 rfl (Nat.le_of_ble_eq_true rfl) (by simp [rf_cat, cat_int, cat_long, cat_ref]) ?_
    refine V_pick (lc' := [(0, va_rf ((some this))), (2, va_rf v6), (3, .int 0)]) [2, 1, 0] rfl ?_
    exact eX0_played_l26 hk hR FU r1.2 ((some this)) v6 0
  · refine V_bipush (pc := 8) (v := (-2)) hk dX0_played_8 (by decide +kernel) ?_
    exact V_ireturn (pc := 10) hk hR rfl dX0_played_10
theorem ctX0_played (l : Launch) (K : Kx) (hI : Ini K) (b : Nat) (a0 : Int32) (w : Wd) : ∀ r, mX0_played b a0 w = some r → Ct l K 112 6289 yX0_played (ws_ yX0_played cX0_played 4 (some (.int))) [.ref b, .int a0] w (rvI r.1) r.2 := Ct_of rvI l K hI 112 6289 [.ref b, .int a0] w (by decide) (lc0 := [(0, .ref b), (1, .int a0)]) rfl (Nat.le_of_ble_eq_true rfl) (fun y hk hR _ _ hin => eX0_played hk hR b a0 w)
noncomputable def mX0_storm_b66 (k66 : Wd → (Option Nat) → Int32 → Int32 → Option (Int32 × Wd)) (w : Wd) (l0 : Option Nat) (l2 : Int32) (l3 : Int32) : Option (Int32 × Wd) :=
if l2 ≤ l3 then (
(gR w l0 0 0).bind fun v1 =>
(gR w v1 1 1).bind fun v2 =>
(ia w v2 0).bind fun v3 =>
some (v3, w))
else (
(gR w l0 0 0).bind fun v4 =>
(gR w v4 1 1).bind fun v5 =>
(gR w l0 0 0).bind fun v6 =>
(gR w v6 1 1).bind fun v7 =>
(ia w v7 9).bind fun v8 =>
(irm v8 10).bind fun v9 =>
(ias w v5 6 v9).bind fun w10 =>
(gR w10 l0 0 0).bind fun v11 =>
(gR w10 v11 1 1).bind fun v12 =>
(cal w10 (mX0_draws v12 w10)).bind fun r13 =>
(gR r13.2 l0 0 0).bind fun v14 =>
(gR r13.2 v14 1 1).bind fun v15 =>
(gR r13.2 l0 0 0).bind fun v16 =>
(gR r13.2 v16 1 1).bind fun v17 =>
(ia r13.2 v17 9).bind fun v18 =>
(irm v18 3).bind fun v19 =>
(recv r13.2 l0 0).bind fun b21 => (cal r13.2 (mX0_tenth b21 v15 (v19 - 1) r13.2)).bind fun r20 =>
(gR r20.2 l0 0 0).bind fun v22 =>
(gR r20.2 v22 1 1).bind fun v23 =>
(cal r20.2 (mX0_draws v23 r20.2)).bind fun r24 =>
k66 r24.2 l0 l2 (l3 + 1))
noncomputable def mX0_storm_l66 : Nat → Wd → (Option Nat) → Int32 → Int32 → Option (Int32 × Wd)
  | 0, _, _, _, _ => none
  | n + 1, w, l0, l2, l3 => mX0_storm_b66 (mX0_storm_l66 n) w l0 l2 l3
noncomputable def mX0_storm (this : Nat) (a0 : Int32) (a1 : Int32) (w : Wd) : Option (Int32 × Wd) :=
(cal w (mX0_in a0 0 9999 w)).bind fun r1 =>
if r1.1 = 0 then (
some ((-1), r1.2))
else (
(cal r1.2 (mX0_in a1 1 40 r1.2)).bind fun r2 =>
if r2.1 = 0 then (
some ((-1), r2.2))
else (
(gR r2.2 ((some this)) 0 0).bind fun v3 =>
(gR r2.2 v3 1 1).bind fun v4 =>
(ia r2.2 v4 8).bind fun v5 =>
if (v5 + a1) ≤ 9999 then (
(gR r2.2 ((some this)) 0 0).bind fun v6 =>
(recv r2.2 v6 1).bind fun b8 => (cal r2.2 (mX1_keeps b8 r2.2)).bind fun r7 =>
(gR r7.2 ((some this)) 0 0).bind fun v9 =>
(gR r7.2 v9 1 1).bind fun v10 =>
(ias r7.2 v10 9 ((a0 * 3) + 59)).bind fun w11 =>
mX0_storm_l66 FU w11 ((some this)) a1 0)
else (
some ((-1), r2.2))))
theorem eX0_storm_b66 {y : Fx (Int32 × Wd)} (hk : OkF y RX0 cX0_storm 4 109 6224) (hR : RetM y rvI (some (.int))) {k66 : Wd → (Option Nat) → Int32 → Int32 → Option (Int32 × Wd)} (h66 : ∀ (w : Wd) (l0 : Option Nat) (l2 : Int32) (l3 : Int32), V y w [(0, va_rf l0), (2, .int l2), (3, .int l3)] [] 66 (k66 w l0 l2 l3)) (w : Wd) (l0 : Option Nat) (l2 : Int32) (l3 : Int32) : V y w [(0, va_rf l0), (2, .int l2), (3, .int l3)] [] 66 (mX0_storm_b66 k66 w l0 l2 l3) := by
  unfold mX0_storm_b66
  refine V_iload_n (pc := 66) hk dX0_storm_66 2 rfl ?_
  refine V_iload_n (pc := 67) hk dX0_storm_67 1 rfl ?_
  refine V_icmp_ge (pc := 68) (tgt := 145) hk dX0_storm_68 rfl ?_ ?_
  · refine V_aload_n (pc := 145) hk dX0_storm_145 0 rfl ?_
    refine g_X0_21 (pc := 146) hk dX0_storm_146 (fun v1 => ?_)
    refine g_X0_176 (pc := 149) hk dX0_storm_149 (fun v2 => ?_)
    refine V_iconst (pc := 152) (v := 0) hk dX0_storm_152 rfl ?_
    refine V_iaload (pc := 153) hk dX0_storm_153 (fun v3 => ?_)
    exact V_ireturn (pc := 154) hk hR rfl dX0_storm_154
  · refine V_aload_n (pc := 71) hk dX0_storm_71 0 rfl ?_
    refine g_X0_21 (pc := 72) hk dX0_storm_72 (fun v4 => ?_)
    refine g_X0_176 (pc := 75) hk dX0_storm_75 (fun v5 => ?_)
    refine V_bipush (pc := 78) (v := 6) hk dX0_storm_78 rfl ?_
    refine V_aload_n (pc := 80) hk dX0_storm_80 0 rfl ?_
    refine g_X0_21 (pc := 81) hk dX0_storm_81 (fun v6 => ?_)
    refine g_X0_176 (pc := 84) hk dX0_storm_84 (fun v7 => ?_)
    refine V_bipush (pc := 87) (v := 9) hk dX0_storm_87 rfl ?_
    refine V_iaload (pc := 89) hk dX0_storm_89 (fun v8 => ?_)
    refine V_bipush (pc := 90) (v := 10) hk dX0_storm_90 rfl ?_
    refine V_irem (pc := 92) hk dX0_storm_92 (fun v9 => ?_)
    refine V_iastore (pc := 93) hk dX0_storm_93 (fun w10 => ?_)
    refine V_aload_n (pc := 94) hk dX0_storm_94 0 rfl ?_
    refine g_X0_21 (pc := 95) hk dX0_storm_95 (fun v11 => ?_)
    refine g_X0_176 (pc := 98) hk dX0_storm_98 (fun v12 => ?_)
    refine n_X0_194 (pc := 101) hk (fun r h => ctX0_draws (fl y) (fK y) hk.2.2.2.2.2.2.2.1 v12 w10 r h) ⟨Nat.le_of_ble_eq_true rfl, Nat.le_of_ble_eq_true rfl⟩ (Nat.le_of_ble_eq_true rfl) dX0_storm_101 (fun r13 => ?_)
    refine V_aload_n (pc := 104) hk dX0_storm_104 0 rfl ?_
    refine V_aload_n (pc := 105) hk dX0_storm_105 0 rfl ?_
    refine g_X0_21 (pc := 106) hk dX0_storm_106 (fun v14 => ?_)
    refine g_X0_176 (pc := 109) hk dX0_storm_109 (fun v15 => ?_)
    refine V_aload_n (pc := 112) hk dX0_storm_112 0 rfl ?_
    refine g_X0_21 (pc := 113) hk dX0_storm_113 (fun v16 => ?_)
    refine g_X0_176 (pc := 116) hk dX0_storm_116 (fun v17 => ?_)
    refine V_bipush (pc := 119) (v := 9) hk dX0_storm_119 rfl ?_
    refine V_iaload (pc := 121) hk dX0_storm_121 (fun v18 => ?_)
    refine V_iconst (pc := 122) (v := 3) hk dX0_storm_122 rfl ?_
    refine V_irem (pc := 123) hk dX0_storm_123 (fun v19 => ?_)
    refine V_iconst (pc := 124) (v := 1) hk dX0_storm_124 rfl ?_
    refine V_isub (pc := 125) hk dX0_storm_125 ?_
    refine n_X0_203 (pc := 126) hk (fun b r h => ctX0_tenth (fl y) (fK y) hk.2.2.2.2.2.2.2.1 b v15 (v19 - 1) r13.2 r h) ⟨Nat.le_of_ble_eq_true rfl, Nat.le_of_ble_eq_true rfl⟩ (Nat.le_of_ble_eq_true rfl) dX0_storm_126 (fun r20 => ?_)
    refine V_aload_n (pc := 129) hk dX0_storm_129 0 rfl ?_
    refine g_X0_21 (pc := 130) hk dX0_storm_130 (fun v22 => ?_)
    refine g_X0_176 (pc := 133) hk dX0_storm_133 (fun v23 => ?_)
    refine n_X0_194 (pc := 136) hk (fun r h => ctX0_draws (fl y) (fK y) hk.2.2.2.2.2.2.2.1 v23 r20.2 r h) ⟨Nat.le_of_ble_eq_true rfl, Nat.le_of_ble_eq_true rfl⟩ (Nat.le_of_ble_eq_true rfl) dX0_storm_136 (fun r24 => ?_)
    refine V_iinc (pc := 139) (v := 1) (lc' := [(3, .int (l3 + 1)), (0, va_rf l0), (2, .int l2)]) hk dX0_storm_139 2 rfl rfl (Nat.le_of_ble_eq_true rfl) rfl ?_
    refine V_goto (pc := 142) (tgt := 66) hk dX0_storm_142 rfl ?_
    refine V_pick (lc' := [(0, va_rf l0), (2, .int l2), (3, .int (l3 + 1))]) [1, 2, 0] rfl ?_
    exact h66 r24.2 l0 l2 (l3 + 1)
theorem eX0_storm_l66 {y : Fx (Int32 × Wd)} (hk : OkF y RX0 cX0_storm 4 109 6224) (hR : RetM y rvI (some (.int))) : ∀ (n : Nat) (w : Wd) (l0 : Option Nat) (l2 : Int32) (l3 : Int32), V y w [(0, va_rf l0), (2, .int l2), (3, .int l3)] [] 66 (mX0_storm_l66 n w l0 l2 l3) := by
  intro n
  induction n with
  | zero => intro w l0 l2 l3; exact V_none
  | succ n ih => intro w l0 l2 l3; exact eX0_storm_b66 hk hR ih w l0 l2 l3
theorem eX0_storm {y : Fx (Int32 × Wd)} (hk : OkF y RX0 cX0_storm 4 109 6224) (hR : RetM y rvI (some (.int))) (this : Nat) (a0 : Int32) (a1 : Int32) (w : Wd) : V y w [(0, va_rf (some this)), (1, .int a0), (2, .int a1)] [] 0 (mX0_storm this a0 a1 w) := by
  unfold mX0_storm
  refine V_iload_n (pc := 0) hk dX0_storm_0 1 rfl ?_
  refine V_iconst (pc := 1) (v := 0) hk dX0_storm_1 rfl ?_
  refine V_sipush (pc := 2) (v := 9999) hk dX0_storm_2 rfl ?_
  refine n_X0_82 (pc := 5) hk (fun r h => ctX0_in (fl y) (fK y) hk.2.2.2.2.2.2.2.1 a0 0 9999 w r h) ⟨Nat.le_of_ble_eq_true rfl, Nat.le_of_ble_eq_true rfl⟩ (Nat.le_of_ble_eq_true rfl) dX0_storm_5 (fun r1 => ?_)
  refine V_if_eq (pc := 8) (tgt := 39) hk dX0_storm_8 rfl ?_ ?_
  · refine V_iconst (pc := 39) (v := (-1)) hk dX0_storm_39 (by decide +kernel) ?_
    exact V_ireturn (pc := 40) hk hR rfl dX0_storm_40
  · refine V_iload_n (pc := 11) hk dX0_storm_11 2 rfl ?_
    refine V_iconst (pc := 12) (v := 1) hk dX0_storm_12 rfl ?_
    refine V_bipush (pc := 13) (v := 40) hk dX0_storm_13 rfl ?_
    refine n_X0_82 (pc := 15) hk (fun r h => ctX0_in (fl y) (fK y) hk.2.2.2.2.2.2.2.1 a1 1 40 r1.2 r h) ⟨Nat.le_of_ble_eq_true rfl, Nat.le_of_ble_eq_true rfl⟩ (Nat.le_of_ble_eq_true rfl) dX0_storm_15 (fun r2 => ?_)
    refine V_if_eq (pc := 18) (tgt := 39) hk dX0_storm_18 rfl ?_ ?_
    · refine V_iconst (pc := 39) (v := (-1)) hk dX0_storm_39 (by decide +kernel) ?_
      exact V_ireturn (pc := 40) hk hR rfl dX0_storm_40
    · refine V_aload_n (pc := 21) hk dX0_storm_21 0 rfl ?_
      refine g_X0_21 (pc := 22) hk dX0_storm_22 (fun v3 => ?_)
      refine g_X0_176 (pc := 25) hk dX0_storm_25 (fun v4 => ?_)
      refine V_bipush (pc := 28) (v := 8) hk dX0_storm_28 rfl ?_
      refine V_iaload (pc := 30) hk dX0_storm_30 (fun v5 => ?_)
      refine V_iload_n (pc := 31) hk dX0_storm_31 2 rfl ?_
      refine V_iadd (pc := 32) hk dX0_storm_32 ?_
      refine V_sipush (pc := 33) (v := 9999) hk dX0_storm_33 rfl ?_
      refine V_icmp_le (pc := 36) (tgt := 41) hk dX0_storm_36 rfl ?_ ?_
      · refine V_aload_n (pc := 41) hk dX0_storm_41 0 rfl ?_
        refine g_X0_21 (pc := 42) hk dX0_storm_42 (fun v6 => ?_)
        refine n_X0_200 (pc := 45) hk (fun b r h => ctX1_keeps (fl y) (fK y) hk.2.2.2.2.2.2.2.1 b r2.2 r h) ⟨Nat.le_of_ble_eq_true rfl, Nat.le_of_ble_eq_true rfl⟩ (Nat.le_of_ble_eq_true rfl) dX0_storm_45 (fun r7 => ?_)
        refine V_aload_n (pc := 48) hk dX0_storm_48 0 rfl ?_
        refine g_X0_21 (pc := 49) hk dX0_storm_49 (fun v9 => ?_)
        refine g_X0_176 (pc := 52) hk dX0_storm_52 (fun v10 => ?_)
        refine V_bipush (pc := 55) (v := 9) hk dX0_storm_55 rfl ?_
        refine V_iload_n (pc := 57) hk dX0_storm_57 1 rfl ?_
        refine V_iconst (pc := 58) (v := 3) hk dX0_storm_58 rfl ?_
        refine V_imul (pc := 59) hk dX0_storm_59 ?_
        refine V_bipush (pc := 60) (v := 59) hk dX0_storm_60 rfl ?_
        refine V_iadd (pc := 62) hk dX0_storm_62 ?_
        refine V_iastore (pc := 63) hk dX0_storm_63 (fun w11 => ?_)
        refine V_iconst (pc := 64) (v := 0) hk dX0_storm_64 rfl ?_
        refine V_istore_n (pc := 65) (lc' := [(3, .int 0), (0, va_rf ((some this))), (1, .int a0), (2, .int a1)]) (i := 3) hk dX0_storm_65 rfl (Nat.le_of_ble_eq_true rfl) rfl ?_
        refine V_pick (lc' := [(0, va_rf ((some this))), (2, .int a1), (3, .int 0)]) [1, 3, 0] rfl ?_
        exact eX0_storm_l66 hk hR FU w11 ((some this)) a1 0
      · refine V_iconst (pc := 39) (v := (-1)) hk dX0_storm_39 (by decide +kernel) ?_
        exact V_ireturn (pc := 40) hk hR rfl dX0_storm_40
theorem ctX0_storm (l : Launch) (K : Kx) (hI : Ini K) (b : Nat) (a0 : Int32) (a1 : Int32) (w : Wd) : ∀ r, mX0_storm b a0 a1 w = some r → Ct l K 109 6224 yX0_storm (ws_ yX0_storm cX0_storm 4 (some (.int))) [.ref b, .int a0, .int a1] w (rvI r.1) r.2 := Ct_of rvI l K hI 109 6224 [.ref b, .int a0, .int a1] w (by decide) (lc0 := [(0, .ref b), (1, .int a0), (2, .int a1)]) rfl (Nat.le_of_ble_eq_true rfl) (fun y hk hR _ _ hin => eX0_storm hk hR b a0 a1 w)
noncomputable def mX0_undo (this : Nat) (w : Wd) : Option (Int32 × Wd) :=
(gR w ((some this)) 0 0).bind fun v1 =>
(gR w v1 1 0).bind fun v2 =>
(ia w v2 4).bind fun v3 =>
if ¬ v3 = 0 then (
(gR w ((some this)) 0 0).bind fun v4 =>
(gR w v4 1 0).bind fun v5 =>
(ia w v5 4).bind fun v6 =>
(ias w v5 4 (v6 - 1)).bind fun w7 =>
(gR w7 ((some this)) 0 0).bind fun v8 =>
(gR w7 v8 1 5).bind fun v9 =>
(gR w7 ((some this)) 0 0).bind fun v10 =>
(gR w7 v10 1 0).bind fun v11 =>
(ia w7 v11 4).bind fun v12 =>
(aa w7 v9 v12).bind fun v13 =>
(gR w7 ((some this)) 0 0).bind fun v14 =>
(gR w7 v14 1 1).bind fun v15 =>
(cal w7 (mX1_copy v13 v15 w7)).bind fun r16 =>
(gR r16.2 ((some this)) 0 0).bind fun v17 =>
(gR r16.2 v17 1 0).bind fun v18 =>
(ia r16.2 v18 4).bind fun v19 =>
some (v19, r16.2))
else (
some ((-1), w))
theorem eX0_undo {y : Fx (Int32 × Wd)} (hk : OkF y RX0 cX0_undo 1 3 81) (hR : RetM y rvI (some (.int))) (this : Nat) (w : Wd) : V y w [(0, va_rf (some this))] [] 0 (mX0_undo this w) := by
  unfold mX0_undo
  refine V_aload_n (pc := 0) hk dX0_undo_0 0 rfl ?_
  refine g_X0_21 (pc := 1) hk dX0_undo_1 (fun v1 => ?_)
  refine g_X0_79 (pc := 4) hk dX0_undo_4 (fun v2 => ?_)
  refine V_iconst (pc := 7) (v := 4) hk dX0_undo_7 rfl ?_
  refine V_iaload (pc := 8) hk dX0_undo_8 (fun v3 => ?_)
  refine V_if_ne (pc := 9) (tgt := 14) hk dX0_undo_9 rfl ?_ ?_
  · refine V_aload_n (pc := 14) hk dX0_undo_14 0 rfl ?_
    refine g_X0_21 (pc := 15) hk dX0_undo_15 (fun v4 => ?_)
    refine g_X0_79 (pc := 18) hk dX0_undo_18 (fun v5 => ?_)
    refine V_iconst (pc := 21) (v := 4) hk dX0_undo_21 rfl ?_
    refine V_dup2 (pc := 22) hk dX0_undo_22 rfl (rf_cat _) ?_
    refine V_iaload (pc := 23) hk dX0_undo_23 (fun v6 => ?_)
    refine V_iconst (pc := 24) (v := 1) hk dX0_undo_24 rfl ?_
    refine V_isub (pc := 25) hk dX0_undo_25 ?_
    refine V_iastore (pc := 26) hk dX0_undo_26 (fun w7 => ?_)
    refine V_aload_n (pc := 27) hk dX0_undo_27 0 rfl ?_
    refine g_X0_21 (pc := 28) hk dX0_undo_28 (fun v8 => ?_)
    refine g_X0_293 (pc := 31) hk dX0_undo_31 (fun v9 => ?_)
    refine V_aload_n (pc := 34) hk dX0_undo_34 0 rfl ?_
    refine g_X0_21 (pc := 35) hk dX0_undo_35 (fun v10 => ?_)
    refine g_X0_79 (pc := 38) hk dX0_undo_38 (fun v11 => ?_)
    refine V_iconst (pc := 41) (v := 4) hk dX0_undo_41 rfl ?_
    refine V_iaload (pc := 42) hk dX0_undo_42 (fun v12 => ?_)
    refine V_aaload (pc := 43) hk dX0_undo_43 (fun v13 => ?_)
    refine V_aload_n (pc := 44) hk dX0_undo_44 0 rfl ?_
    refine g_X0_21 (pc := 45) hk dX0_undo_45 (fun v14 => ?_)
    refine g_X0_176 (pc := 48) hk dX0_undo_48 (fun v15 => ?_)
    refine n_X0_89 (pc := 51) hk (fun r h => ctX1_copy (fl y) (fK y) hk.2.2.2.2.2.2.2.1 v13 v15 w7 r h) ⟨Nat.le_of_ble_eq_true rfl, Nat.le_of_ble_eq_true rfl⟩ (Nat.le_of_ble_eq_true rfl) dX0_undo_51 (fun r16 => ?_)
    refine V_aload_n (pc := 54) hk dX0_undo_54 0 rfl ?_
    refine g_X0_21 (pc := 55) hk dX0_undo_55 (fun v17 => ?_)
    refine g_X0_79 (pc := 58) hk dX0_undo_58 (fun v18 => ?_)
    refine V_iconst (pc := 61) (v := 4) hk dX0_undo_61 rfl ?_
    refine V_iaload (pc := 62) hk dX0_undo_62 (fun v19 => ?_)
    exact V_ireturn (pc := 63) hk hR rfl dX0_undo_63
  · refine V_iconst (pc := 12) (v := (-1)) hk dX0_undo_12 (by decide +kernel) ?_
    exact V_ireturn (pc := 13) hk hR rfl dX0_undo_13
theorem ctX0_undo (l : Launch) (K : Kx) (hI : Ini K) (b : Nat) (w : Wd) : ∀ r, mX0_undo b w = some r → Ct l K 3 81 yX0_undo (ws_ yX0_undo cX0_undo 1 (some (.int))) [.ref b] w (rvI r.1) r.2 := Ct_of rvI l K hI 3 81 [.ref b] w (by decide) (lc0 := [(0, .ref b)]) rfl (Nat.le_of_ble_eq_true rfl) (fun y hk hR _ _ hin => eX0_undo hk hR b w)
noncomputable def mX0_jib (this : Nat) (a0 : Int32) (w : Wd) : Option (Int32 × Wd) :=
(gR w ((some this)) 0 0).bind fun v1 =>
(gR w v1 1 1).bind fun v2 =>
if a0 = 0 then (
(ia w v2 0).bind fun v3 =>
some (v3, w))
else (
if a0 = 1 then (
(ia w v2 1).bind fun v4 =>
some (v4, w))
else (
if a0 = 2 then (
(ia w v2 2).bind fun v5 =>
some (v5, w))
else (
if a0 = 3 then (
(ia w v2 3).bind fun v6 =>
some (v6, w))
else (
if a0 = 4 then (
(ia w v2 0).bind fun v7 =>
(ia w v2 2).bind fun v8 =>
some (v7 - v8, w))
else (
if a0 = 5 then (
(ia w v2 4).bind fun v9 =>
some (v9, w))
else (
if a0 = 6 then (
(ia w v2 5).bind fun v10 =>
some (v10, w))
else (
if a0 = 7 then (
(ia w v2 6).bind fun v11 =>
some (v11, w))
else (
if a0 = 8 then (
(ia w v2 7).bind fun v12 =>
some (v12, w))
else (
if a0 = 9 then (
(ia w v2 8).bind fun v13 =>
some (v13, w))
else (
if a0 = 10 then (
(recv w ((some this)) 0).bind fun b15 => (cal w (mX0_hangsStill b15 v2 w)).bind fun r14 =>
if r14.1 = 0 then (
some (0, r14.2))
else (
some (1, r14.2)))
else (
if a0 = 11 then (
(ia w v2 10).bind fun v16 =>
some (v16, w))
else (
if a0 = 12 then (
(recv w ((some this)) 0).bind fun b18 => (cal w (mX0_rules b18 w)).bind fun r17 =>
(recv r17.2 ((some this)) 0).bind fun b20 => (cal r17.2 (mX0_handOf b20 v2 r17.1 r17.2)).bind fun r19 =>
some (r19.1, r19.2))
else (
some ((-100000), w))))))))))))))
theorem eX0_jib {y : Fx (Int32 × Wd)} (hk : OkF y RX0 cX0_jib 3 108 6198) (hR : RetM y rvI (some (.int))) (this : Nat) (a0 : Int32) (w : Wd) : V y w [(0, va_rf (some this)), (1, .int a0)] [] 0 (mX0_jib this a0 w) := by
  unfold mX0_jib
  refine V_aload_n (pc := 0) hk dX0_jib_0 0 rfl ?_
  refine g_X0_21 (pc := 1) hk dX0_jib_1 (fun v1 => ?_)
  refine g_X0_176 (pc := 4) hk dX0_jib_4 (fun v2 => ?_)
  refine V_astore_n (pc := 7) (lc' := [(2, va_rf v2), (0, va_rf ((some this))), (1, .int a0)]) (i := 2) hk dX0_jib_7 rfl (Nat.le_of_ble_eq_true rfl) rfl ?_
  refine V_iload_n (pc := 8) hk dX0_jib_8 2 rfl ?_
  refine V_if (fun hx => ?_) (fun hn0 => ?_)
  · refine V_tblIn (pc := 9) (tgt := 76) (off := 67) hk 0 hx dX0_jib_9 (by decide) (by decide) (by decide +kernel) rfl ?_
    refine V_aload_n (pc := 76) hk dX0_jib_76 0 rfl ?_
    refine V_iconst (pc := 77) (v := 0) hk dX0_jib_77 rfl ?_
    refine V_iaload (pc := 78) hk dX0_jib_78 (fun v3 => ?_)
    exact V_ireturn (pc := 79) hk hR rfl dX0_jib_79
  refine V_if (fun hx => ?_) (fun hn1 => ?_)
  · refine V_tblIn (pc := 9) (tgt := 80) (off := 71) hk 1 hx dX0_jib_9 (by decide) (by decide) (by decide +kernel) rfl ?_
    refine V_aload_n (pc := 80) hk dX0_jib_80 0 rfl ?_
    refine V_iconst (pc := 81) (v := 1) hk dX0_jib_81 rfl ?_
    refine V_iaload (pc := 82) hk dX0_jib_82 (fun v4 => ?_)
    exact V_ireturn (pc := 83) hk hR rfl dX0_jib_83
  refine V_if (fun hx => ?_) (fun hn2 => ?_)
  · refine V_tblIn (pc := 9) (tgt := 84) (off := 75) hk 2 hx dX0_jib_9 (by decide) (by decide) (by decide +kernel) rfl ?_
    refine V_aload_n (pc := 84) hk dX0_jib_84 0 rfl ?_
    refine V_iconst (pc := 85) (v := 2) hk dX0_jib_85 rfl ?_
    refine V_iaload (pc := 86) hk dX0_jib_86 (fun v5 => ?_)
    exact V_ireturn (pc := 87) hk hR rfl dX0_jib_87
  refine V_if (fun hx => ?_) (fun hn3 => ?_)
  · refine V_tblIn (pc := 9) (tgt := 88) (off := 79) hk 3 hx dX0_jib_9 (by decide) (by decide) (by decide +kernel) rfl ?_
    refine V_aload_n (pc := 88) hk dX0_jib_88 0 rfl ?_
    refine V_iconst (pc := 89) (v := 3) hk dX0_jib_89 rfl ?_
    refine V_iaload (pc := 90) hk dX0_jib_90 (fun v6 => ?_)
    exact V_ireturn (pc := 91) hk hR rfl dX0_jib_91
  refine V_if (fun hx => ?_) (fun hn4 => ?_)
  · refine V_tblIn (pc := 9) (tgt := 92) (off := 83) hk 4 hx dX0_jib_9 (by decide) (by decide) (by decide +kernel) rfl ?_
    refine V_aload_n (pc := 92) hk dX0_jib_92 0 rfl ?_
    refine V_iconst (pc := 93) (v := 0) hk dX0_jib_93 rfl ?_
    refine V_iaload (pc := 94) hk dX0_jib_94 (fun v7 => ?_)
    refine V_aload_n (pc := 95) hk dX0_jib_95 0 rfl ?_
    refine V_iconst (pc := 96) (v := 2) hk dX0_jib_96 rfl ?_
    refine V_iaload (pc := 97) hk dX0_jib_97 (fun v8 => ?_)
    refine V_isub (pc := 98) hk dX0_jib_98 ?_
    exact V_ireturn (pc := 99) hk hR rfl dX0_jib_99
  refine V_if (fun hx => ?_) (fun hn5 => ?_)
  · refine V_tblIn (pc := 9) (tgt := 100) (off := 91) hk 5 hx dX0_jib_9 (by decide) (by decide) (by decide +kernel) rfl ?_
    refine V_aload_n (pc := 100) hk dX0_jib_100 0 rfl ?_
    refine V_iconst (pc := 101) (v := 4) hk dX0_jib_101 rfl ?_
    refine V_iaload (pc := 102) hk dX0_jib_102 (fun v9 => ?_)
    exact V_ireturn (pc := 103) hk hR rfl dX0_jib_103
  refine V_if (fun hx => ?_) (fun hn6 => ?_)
  · refine V_tblIn (pc := 9) (tgt := 104) (off := 95) hk 6 hx dX0_jib_9 (by decide) (by decide) (by decide +kernel) rfl ?_
    refine V_aload_n (pc := 104) hk dX0_jib_104 0 rfl ?_
    refine V_iconst (pc := 105) (v := 5) hk dX0_jib_105 rfl ?_
    refine V_iaload (pc := 106) hk dX0_jib_106 (fun v10 => ?_)
    exact V_ireturn (pc := 107) hk hR rfl dX0_jib_107
  refine V_if (fun hx => ?_) (fun hn7 => ?_)
  · refine V_tblIn (pc := 9) (tgt := 108) (off := 99) hk 7 hx dX0_jib_9 (by decide) (by decide) (by decide +kernel) rfl ?_
    refine V_aload_n (pc := 108) hk dX0_jib_108 0 rfl ?_
    refine V_bipush (pc := 109) (v := 6) hk dX0_jib_109 rfl ?_
    refine V_iaload (pc := 111) hk dX0_jib_111 (fun v11 => ?_)
    exact V_ireturn (pc := 112) hk hR rfl dX0_jib_112
  refine V_if (fun hx => ?_) (fun hn8 => ?_)
  · refine V_tblIn (pc := 9) (tgt := 113) (off := 104) hk 8 hx dX0_jib_9 (by decide) (by decide) (by decide +kernel) rfl ?_
    refine V_aload_n (pc := 113) hk dX0_jib_113 0 rfl ?_
    refine V_bipush (pc := 114) (v := 7) hk dX0_jib_114 rfl ?_
    refine V_iaload (pc := 116) hk dX0_jib_116 (fun v12 => ?_)
    exact V_ireturn (pc := 117) hk hR rfl dX0_jib_117
  refine V_if (fun hx => ?_) (fun hn9 => ?_)
  · refine V_tblIn (pc := 9) (tgt := 118) (off := 109) hk 9 hx dX0_jib_9 (by decide) (by decide) (by decide +kernel) rfl ?_
    refine V_aload_n (pc := 118) hk dX0_jib_118 0 rfl ?_
    refine V_bipush (pc := 119) (v := 8) hk dX0_jib_119 rfl ?_
    refine V_iaload (pc := 121) hk dX0_jib_121 (fun v13 => ?_)
    exact V_ireturn (pc := 122) hk hR rfl dX0_jib_122
  refine V_if (fun hx => ?_) (fun hn10 => ?_)
  · refine V_tblIn (pc := 9) (tgt := 123) (off := 114) hk 10 hx dX0_jib_9 (by decide) (by decide) (by decide +kernel) rfl ?_
    refine V_aload_n (pc := 123) hk dX0_jib_123 1 rfl ?_
    refine V_aload_n (pc := 124) hk dX0_jib_124 0 rfl ?_
    refine n_X0_221 (pc := 125) hk (fun b r h => ctX0_hangsStill (fl y) (fK y) hk.2.2.2.2.2.2.2.1 b v2 w r h) ⟨Nat.le_of_ble_eq_true rfl, Nat.le_of_ble_eq_true rfl⟩ (Nat.le_of_ble_eq_true rfl) dX0_jib_125 (fun r14 => ?_)
    refine V_if_eq (pc := 128) (tgt := 135) hk dX0_jib_128 rfl ?_ ?_
    · refine V_iconst (pc := 135) (v := 0) hk dX0_jib_135 rfl ?_
      exact V_ireturn (pc := 136) hk hR rfl dX0_jib_136
    · refine V_iconst (pc := 131) (v := 1) hk dX0_jib_131 rfl ?_
      refine V_goto (pc := 132) (tgt := 136) hk dX0_jib_132 rfl ?_
      exact V_ireturn (pc := 136) hk hR rfl dX0_jib_136
  refine V_if (fun hx => ?_) (fun hn11 => ?_)
  · refine V_tblIn (pc := 9) (tgt := 137) (off := 128) hk 11 hx dX0_jib_9 (by decide) (by decide) (by decide +kernel) rfl ?_
    refine V_aload_n (pc := 137) hk dX0_jib_137 0 rfl ?_
    refine V_bipush (pc := 138) (v := 10) hk dX0_jib_138 rfl ?_
    refine V_iaload (pc := 140) hk dX0_jib_140 (fun v16 => ?_)
    exact V_ireturn (pc := 141) hk hR rfl dX0_jib_141
  refine V_if (fun hx => ?_) (fun hn12 => ?_)
  · refine V_tblIn (pc := 9) (tgt := 142) (off := 133) hk 12 hx dX0_jib_9 (by decide) (by decide) (by decide +kernel) rfl ?_
    refine V_aload_n (pc := 142) hk dX0_jib_142 1 rfl ?_
    refine V_aload_n (pc := 143) hk dX0_jib_143 0 rfl ?_
    refine V_aload_n (pc := 144) hk dX0_jib_144 1 rfl ?_
    refine n_X0_154 (pc := 145) hk (fun b r h => ctX0_rules (fl y) (fK y) hk.2.2.2.2.2.2.2.1 b w r h) ⟨Nat.le_of_ble_eq_true rfl, Nat.le_of_ble_eq_true rfl⟩ (by simp [rf_cat, cat_int, cat_long, cat_ref]) dX0_jib_145 (fun r17 => ?_)
    refine n_X0_207 (pc := 148) hk (fun b r h => ctX0_handOf (fl y) (fK y) hk.2.2.2.2.2.2.2.1 b v2 r17.1 r17.2 r h) ⟨Nat.le_of_ble_eq_true rfl, Nat.le_of_ble_eq_true rfl⟩ (Nat.le_of_ble_eq_true rfl) dX0_jib_148 (fun r19 => ?_)
    exact V_ireturn (pc := 151) hk hR rfl dX0_jib_151
  refine V_tblOut (pc := 9) (tgt := 152) hk dX0_jib_9 (tbl_out 0 12 (by intro k h1 h2; obtain rfl | rfl | rfl | rfl | rfl | rfl | rfl | rfl | rfl | rfl | rfl | rfl | rfl : k = 0 ∨ k = 1 ∨ k = 2 ∨ k = 3 ∨ k = 4 ∨ k = 5 ∨ k = 6 ∨ k = 7 ∨ k = 8 ∨ k = 9 ∨ k = 10 ∨ k = 11 ∨ k = 12 := (by omega); exact hn0; exact hn1; exact hn2; exact hn3; exact hn4; exact hn5; exact hn6; exact hn7; exact hn8; exact hn9; exact hn10; exact hn11; exact hn12)) rfl ?_
  refine V_ldcw (pc := 152) (v := (-100000)) hk dX0_jib_152 q1146 ?_
  exact V_ireturn (pc := 155) hk hR rfl dX0_jib_155
theorem ctX0_jib (l : Launch) (K : Kx) (hI : Ini K) (b : Nat) (a0 : Int32) (w : Wd) : ∀ r, mX0_jib b a0 w = some r → Ct l K 108 6198 yX0_jib (ws_ yX0_jib cX0_jib 3 (some (.int))) [.ref b, .int a0] w (rvI r.1) r.2 := Ct_of rvI l K hI 108 6198 [.ref b, .int a0] w (by decide) (lc0 := [(0, .ref b), (1, .int a0)]) rfl (Nat.le_of_ble_eq_true rfl) (fun y hk hR _ _ hin => eX0_jib hk hR b a0 w)
noncomputable def mX0_lastsOf (this : Nat) (a0 : Int32) (w : Wd) : Option (Int32 × Wd) :=
(gR w ((some this)) 0 6).bind fun v1 =>
(gR w ((some this)) 0 0).bind fun v2 =>
(gR w v2 1 1).bind fun v3 =>
(ia w v3 4).bind fun v4 =>
(ias w v1 5 v4).bind fun w5 =>
(gR w5 ((some this)) 0 6).bind fun v6 =>
(gR w5 ((some this)) 0 0).bind fun v7 =>
(gR w5 v7 1 2).bind fun v8 =>
(aa w5 v8 a0).bind fun v9 =>
(ia w5 v9 0).bind fun v10 =>
(ias w5 v6 6 v10).bind fun w11 =>
(gR w11 ((some this)) 0 6).bind fun v12 =>
(gR w11 ((some this)) 0 0).bind fun v13 =>
(gR w11 v13 1 2).bind fun v14 =>
(aa w11 v14 a0).bind fun v15 =>
(ia w11 v15 1).bind fun v16 =>
(ias w11 v12 7 v16).bind fun w17 =>
(gR w17 ((some this)) 0 0).bind fun v18 =>
(gR w17 v18 1 2).bind fun v19 =>
(aa w17 v19 a0).bind fun v20 =>
(ia w17 v20 1).bind fun v21 =>
(idv v21 10).bind fun v22 =>
(recv w17 ((some this)) 0).bind fun b24 => (cal w17 (mX0_law b24 4 (v22 + 1) 1 99 w17)).bind fun r23 =>
some (r23.1, r23.2)
theorem eX0_lastsOf {y : Fx (Int32 × Wd)} (hk : OkF y RX0 cX0_lastsOf 2 107 6178) (hR : RetM y rvI (some (.int))) (this : Nat) (a0 : Int32) (w : Wd) : V y w [(0, va_rf (some this)), (1, .int a0)] [] 0 (mX0_lastsOf this a0 w) := by
  unfold mX0_lastsOf
  refine V_aload_n (pc := 0) hk dX0_lastsOf_0 0 rfl ?_
  refine g_X0_39 (pc := 1) hk dX0_lastsOf_1 (fun v1 => ?_)
  refine V_iconst (pc := 4) (v := 5) hk dX0_lastsOf_4 rfl ?_
  refine V_aload_n (pc := 5) hk dX0_lastsOf_5 0 rfl ?_
  refine g_X0_21 (pc := 6) hk dX0_lastsOf_6 (fun v2 => ?_)
  refine g_X0_176 (pc := 9) hk dX0_lastsOf_9 (fun v3 => ?_)
  refine V_iconst (pc := 12) (v := 4) hk dX0_lastsOf_12 rfl ?_
  refine V_iaload (pc := 13) hk dX0_lastsOf_13 (fun v4 => ?_)
  refine V_iastore (pc := 14) hk dX0_lastsOf_14 (fun w5 => ?_)
  refine V_aload_n (pc := 15) hk dX0_lastsOf_15 0 rfl ?_
  refine g_X0_39 (pc := 16) hk dX0_lastsOf_16 (fun v6 => ?_)
  refine V_bipush (pc := 19) (v := 6) hk dX0_lastsOf_19 rfl ?_
  refine V_aload_n (pc := 21) hk dX0_lastsOf_21 0 rfl ?_
  refine g_X0_21 (pc := 22) hk dX0_lastsOf_22 (fun v7 => ?_)
  refine g_X0_86 (pc := 25) hk dX0_lastsOf_25 (fun v8 => ?_)
  refine V_iload_n (pc := 28) hk dX0_lastsOf_28 1 rfl ?_
  refine V_aaload (pc := 29) hk dX0_lastsOf_29 (fun v9 => ?_)
  refine V_iconst (pc := 30) (v := 0) hk dX0_lastsOf_30 rfl ?_
  refine V_iaload (pc := 31) hk dX0_lastsOf_31 (fun v10 => ?_)
  refine V_iastore (pc := 32) hk dX0_lastsOf_32 (fun w11 => ?_)
  refine V_aload_n (pc := 33) hk dX0_lastsOf_33 0 rfl ?_
  refine g_X0_39 (pc := 34) hk dX0_lastsOf_34 (fun v12 => ?_)
  refine V_bipush (pc := 37) (v := 7) hk dX0_lastsOf_37 rfl ?_
  refine V_aload_n (pc := 39) hk dX0_lastsOf_39 0 rfl ?_
  refine g_X0_21 (pc := 40) hk dX0_lastsOf_40 (fun v13 => ?_)
  refine g_X0_86 (pc := 43) hk dX0_lastsOf_43 (fun v14 => ?_)
  refine V_iload_n (pc := 46) hk dX0_lastsOf_46 1 rfl ?_
  refine V_aaload (pc := 47) hk dX0_lastsOf_47 (fun v15 => ?_)
  refine V_iconst (pc := 48) (v := 1) hk dX0_lastsOf_48 rfl ?_
  refine V_iaload (pc := 49) hk dX0_lastsOf_49 (fun v16 => ?_)
  refine V_iastore (pc := 50) hk dX0_lastsOf_50 (fun w17 => ?_)
  refine V_aload_n (pc := 51) hk dX0_lastsOf_51 0 rfl ?_
  refine V_iconst (pc := 52) (v := 4) hk dX0_lastsOf_52 rfl ?_
  refine V_aload_n (pc := 53) hk dX0_lastsOf_53 0 rfl ?_
  refine g_X0_21 (pc := 54) hk dX0_lastsOf_54 (fun v18 => ?_)
  refine g_X0_86 (pc := 57) hk dX0_lastsOf_57 (fun v19 => ?_)
  refine V_iload_n (pc := 60) hk dX0_lastsOf_60 1 rfl ?_
  refine V_aaload (pc := 61) hk dX0_lastsOf_61 (fun v20 => ?_)
  refine V_iconst (pc := 62) (v := 1) hk dX0_lastsOf_62 rfl ?_
  refine V_iaload (pc := 63) hk dX0_lastsOf_63 (fun v21 => ?_)
  refine V_bipush (pc := 64) (v := 10) hk dX0_lastsOf_64 rfl ?_
  refine V_idiv (pc := 66) hk dX0_lastsOf_66 (fun v22 => ?_)
  refine V_iconst (pc := 67) (v := 1) hk dX0_lastsOf_67 rfl ?_
  refine V_iadd (pc := 68) hk dX0_lastsOf_68 ?_
  refine V_iconst (pc := 69) (v := 1) hk dX0_lastsOf_69 rfl ?_
  refine V_bipush (pc := 70) (v := 99) hk dX0_lastsOf_70 rfl ?_
  refine n_X0_173 (pc := 72) hk (fun b r h => ctX0_law (fl y) (fK y) hk.2.2.2.2.2.2.2.1 b 4 (v22 + 1) 1 99 w17 r h) ⟨Nat.le_of_ble_eq_true rfl, Nat.le_of_ble_eq_true rfl⟩ (Nat.le_of_ble_eq_true rfl) dX0_lastsOf_72 (fun r23 => ?_)
  exact V_ireturn (pc := 75) hk hR rfl dX0_lastsOf_75
theorem ctX0_lastsOf (l : Launch) (K : Kx) (hI : Ini K) (b : Nat) (a0 : Int32) (w : Wd) : ∀ r, mX0_lastsOf b a0 w = some r → Ct l K 107 6178 yX0_lastsOf (ws_ yX0_lastsOf cX0_lastsOf 2 (some (.int))) [.ref b, .int a0] w (rvI r.1) r.2 := Ct_of rvI l K hI 107 6178 [.ref b, .int a0] w (by decide) (lc0 := [(0, .ref b), (1, .int a0)]) rfl (Nat.le_of_ble_eq_true rfl) (fun y hk hR _ _ hin => eX0_lastsOf hk hR b a0 w)
noncomputable def mX0_holdsAt (this : Nat) (a0 : Int32) (w : Wd) : Option (Int32 × Wd) :=
(gR w ((some this)) 0 6).bind fun v1 =>
(ias w v1 7 a0).bind fun w2 =>
(recv w2 ((some this)) 0).bind fun b4 => (cal w2 (mX0_law b4 3 (60 - a0) 0 99 w2)).bind fun r3 =>
some (r3.1, r3.2)
theorem eX0_holdsAt {y : Fx (Int32 × Wd)} (hk : OkF y RX0 cX0_holdsAt 2 107 6178) (hR : RetM y rvI (some (.int))) (this : Nat) (a0 : Int32) (w : Wd) : V y w [(0, va_rf (some this)), (1, .int a0)] [] 0 (mX0_holdsAt this a0 w) := by
  unfold mX0_holdsAt
  refine V_aload_n (pc := 0) hk dX0_holdsAt_0 0 rfl ?_
  refine g_X0_39 (pc := 1) hk dX0_holdsAt_1 (fun v1 => ?_)
  refine V_bipush (pc := 4) (v := 7) hk dX0_holdsAt_4 rfl ?_
  refine V_iload_n (pc := 6) hk dX0_holdsAt_6 1 rfl ?_
  refine V_iastore (pc := 7) hk dX0_holdsAt_7 (fun w2 => ?_)
  refine V_aload_n (pc := 8) hk dX0_holdsAt_8 0 rfl ?_
  refine V_iconst (pc := 9) (v := 3) hk dX0_holdsAt_9 rfl ?_
  refine V_bipush (pc := 10) (v := 60) hk dX0_holdsAt_10 rfl ?_
  refine V_iload_n (pc := 12) hk dX0_holdsAt_12 1 rfl ?_
  refine V_isub (pc := 13) hk dX0_holdsAt_13 ?_
  refine V_iconst (pc := 14) (v := 0) hk dX0_holdsAt_14 rfl ?_
  refine V_bipush (pc := 15) (v := 99) hk dX0_holdsAt_15 rfl ?_
  refine n_X0_173 (pc := 17) hk (fun b r h => ctX0_law (fl y) (fK y) hk.2.2.2.2.2.2.2.1 b 3 (60 - a0) 0 99 w2 r h) ⟨Nat.le_of_ble_eq_true rfl, Nat.le_of_ble_eq_true rfl⟩ (Nat.le_of_ble_eq_true rfl) dX0_holdsAt_17 (fun r3 => ?_)
  exact V_ireturn (pc := 20) hk hR rfl dX0_holdsAt_20
theorem ctX0_holdsAt (l : Launch) (K : Kx) (hI : Ini K) (b : Nat) (a0 : Int32) (w : Wd) : ∀ r, mX0_holdsAt b a0 w = some r → Ct l K 107 6178 yX0_holdsAt (ws_ yX0_holdsAt cX0_holdsAt 2 (some (.int))) [.ref b, .int a0] w (rvI r.1) r.2 := Ct_of rvI l K hI 107 6178 [.ref b, .int a0] w (by decide) (lc0 := [(0, .ref b), (1, .int a0)]) rfl (Nat.le_of_ble_eq_true rfl) (fun y hk hR _ _ hin => eX0_holdsAt hk hR b a0 w)
noncomputable def mX0_ofOrder (this : Nat) (a0 : Int32) (a1 : Int32) (w : Wd) : Option (Int32 × Wd) :=
(recv w ((some this)) 0).bind fun b2 => (cal w (mX0_isOrder b2 a0 w)).bind fun r1 =>
if r1.1 = 0 then (
some ((-1), r1.2))
else (
(cal r1.2 (mX0_in a1 0 7 r1.2)).bind fun r3 =>
if ¬ r3.1 = 0 then (
if 5 ≤ a1 then (
if ¬ a1 = 5 then (
if ¬ a1 = 6 then (
(gR r3.2 ((some this)) 0 0).bind fun v4 =>
(gR r3.2 v4 1 2).bind fun v5 =>
(aa r3.2 v5 a0).bind fun v6 =>
(ia r3.2 v6 1).bind fun v7 =>
(recv r3.2 ((some this)) 0).bind fun b9 => (cal r3.2 (mX0_holdsAt b9 v7 r3.2)).bind fun r8 =>
some (r8.1, r8.2))
else (
(recv r3.2 ((some this)) 0).bind fun b11 => (cal r3.2 (mX0_lastsOf b11 a0 r3.2)).bind fun r10 =>
some (r10.1, r10.2)))
else (
(gR r3.2 ((some this)) 0 0).bind fun v12 =>
(gR r3.2 v12 1 1).bind fun v13 =>
(ia r3.2 v13 11).bind fun v14 =>
some ((v14 >>> (a0 &&& 31)) &&& 1, r3.2)))
else (
(gR r3.2 ((some this)) 0 0).bind fun v15 =>
(gR r3.2 v15 1 2).bind fun v16 =>
(aa r3.2 v16 a0).bind fun v17 =>
(ia r3.2 v17 a1).bind fun v18 =>
some (v18, r3.2)))
else (
some ((-1), r3.2)))
theorem eX0_ofOrder {y : Fx (Int32 × Wd)} (hk : OkF y RX0 cX0_ofOrder 3 108 6199) (hR : RetM y rvI (some (.int))) (this : Nat) (a0 : Int32) (a1 : Int32) (w : Wd) : V y w [(0, va_rf (some this)), (1, .int a0), (2, .int a1)] [] 0 (mX0_ofOrder this a0 a1 w) := by
  unfold mX0_ofOrder
  refine V_aload_n (pc := 0) hk dX0_ofOrder_0 0 rfl ?_
  refine V_iload_n (pc := 1) hk dX0_ofOrder_1 1 rfl ?_
  refine n_X0_215 (pc := 2) hk (fun b r h => ctX0_isOrder (fl y) (fK y) hk.2.2.2.2.2.2.2.1 b a0 w r h) ⟨Nat.le_of_ble_eq_true rfl, Nat.le_of_ble_eq_true rfl⟩ (Nat.le_of_ble_eq_true rfl) dX0_ofOrder_2 (fun r1 => ?_)
  refine V_if_eq (pc := 5) (tgt := 18) hk dX0_ofOrder_5 rfl ?_ ?_
  · refine V_iconst (pc := 18) (v := (-1)) hk dX0_ofOrder_18 (by decide +kernel) ?_
    exact V_ireturn (pc := 19) hk hR rfl dX0_ofOrder_19
  · refine V_iload_n (pc := 8) hk dX0_ofOrder_8 2 rfl ?_
    refine V_iconst (pc := 9) (v := 0) hk dX0_ofOrder_9 rfl ?_
    refine V_bipush (pc := 10) (v := 7) hk dX0_ofOrder_10 rfl ?_
    refine n_X0_82 (pc := 12) hk (fun r h => ctX0_in (fl y) (fK y) hk.2.2.2.2.2.2.2.1 a1 0 7 r1.2 r h) ⟨Nat.le_of_ble_eq_true rfl, Nat.le_of_ble_eq_true rfl⟩ (Nat.le_of_ble_eq_true rfl) dX0_ofOrder_12 (fun r3 => ?_)
    refine V_if_ne (pc := 15) (tgt := 20) hk dX0_ofOrder_15 rfl ?_ ?_
    · refine V_iload_n (pc := 20) hk dX0_ofOrder_20 2 rfl ?_
      refine V_iconst (pc := 21) (v := 5) hk dX0_ofOrder_21 rfl ?_
      refine V_icmp_ge (pc := 22) (tgt := 39) hk dX0_ofOrder_22 rfl ?_ ?_
      · refine V_iload_n (pc := 39) hk dX0_ofOrder_39 2 rfl ?_
        refine V_iconst (pc := 40) (v := 5) hk dX0_ofOrder_40 rfl ?_
        refine V_icmp_ne (pc := 41) (tgt := 61) hk dX0_ofOrder_41 rfl ?_ ?_
        · refine V_iload_n (pc := 61) hk dX0_ofOrder_61 2 rfl ?_
          refine V_bipush (pc := 62) (v := 6) hk dX0_ofOrder_62 rfl ?_
          refine V_icmp_ne (pc := 64) (tgt := 75) hk dX0_ofOrder_64 rfl ?_ ?_
          · refine V_aload_n (pc := 75) hk dX0_ofOrder_75 0 rfl ?_
            refine V_aload_n (pc := 76) hk dX0_ofOrder_76 0 rfl ?_
            refine g_X0_21 (pc := 77) hk dX0_ofOrder_77 (fun v4 => ?_)
            refine g_X0_86 (pc := 80) hk dX0_ofOrder_80 (fun v5 => ?_)
            refine V_iload_n (pc := 83) hk dX0_ofOrder_83 1 rfl ?_
            refine V_aaload (pc := 84) hk dX0_ofOrder_84 (fun v6 => ?_)
            refine V_iconst (pc := 85) (v := 1) hk dX0_ofOrder_85 rfl ?_
            refine V_iaload (pc := 86) hk dX0_ofOrder_86 (fun v7 => ?_)
            refine n_X0_300 (pc := 87) hk (fun b r h => ctX0_holdsAt (fl y) (fK y) hk.2.2.2.2.2.2.2.1 b v7 r3.2 r h) ⟨Nat.le_of_ble_eq_true rfl, Nat.le_of_ble_eq_true rfl⟩ (Nat.le_of_ble_eq_true rfl) dX0_ofOrder_87 (fun r8 => ?_)
            exact V_ireturn (pc := 90) hk hR rfl dX0_ofOrder_90
          · refine V_aload_n (pc := 67) hk dX0_ofOrder_67 0 rfl ?_
            refine V_iload_n (pc := 68) hk dX0_ofOrder_68 1 rfl ?_
            refine n_X0_297 (pc := 69) hk (fun b r h => ctX0_lastsOf (fl y) (fK y) hk.2.2.2.2.2.2.2.1 b a0 r3.2 r h) ⟨Nat.le_of_ble_eq_true rfl, Nat.le_of_ble_eq_true rfl⟩ (Nat.le_of_ble_eq_true rfl) dX0_ofOrder_69 (fun r10 => ?_)
            refine V_goto (pc := 72) (tgt := 90) hk dX0_ofOrder_72 rfl ?_
            exact V_ireturn (pc := 90) hk hR rfl dX0_ofOrder_90
        · refine V_aload_n (pc := 44) hk dX0_ofOrder_44 0 rfl ?_
          refine g_X0_21 (pc := 45) hk dX0_ofOrder_45 (fun v12 => ?_)
          refine g_X0_176 (pc := 48) hk dX0_ofOrder_48 (fun v13 => ?_)
          refine V_bipush (pc := 51) (v := 11) hk dX0_ofOrder_51 rfl ?_
          refine V_iaload (pc := 53) hk dX0_ofOrder_53 (fun v14 => ?_)
          refine V_iload_n (pc := 54) hk dX0_ofOrder_54 1 rfl ?_
          refine V_ishr (pc := 55) hk dX0_ofOrder_55 ?_
          refine V_iconst (pc := 56) (v := 1) hk dX0_ofOrder_56 rfl ?_
          refine V_iand (pc := 57) hk dX0_ofOrder_57 ?_
          refine V_goto (pc := 58) (tgt := 90) hk dX0_ofOrder_58 rfl ?_
          exact V_ireturn (pc := 90) hk hR rfl dX0_ofOrder_90
      · refine V_aload_n (pc := 25) hk dX0_ofOrder_25 0 rfl ?_
        refine g_X0_21 (pc := 26) hk dX0_ofOrder_26 (fun v15 => ?_)
        refine g_X0_86 (pc := 29) hk dX0_ofOrder_29 (fun v16 => ?_)
        refine V_iload_n (pc := 32) hk dX0_ofOrder_32 1 rfl ?_
        refine V_aaload (pc := 33) hk dX0_ofOrder_33 (fun v17 => ?_)
        refine V_iload_n (pc := 34) hk dX0_ofOrder_34 2 rfl ?_
        refine V_iaload (pc := 35) hk dX0_ofOrder_35 (fun v18 => ?_)
        refine V_goto (pc := 36) (tgt := 90) hk dX0_ofOrder_36 rfl ?_
        exact V_ireturn (pc := 90) hk hR rfl dX0_ofOrder_90
    · refine V_iconst (pc := 18) (v := (-1)) hk dX0_ofOrder_18 (by decide +kernel) ?_
      exact V_ireturn (pc := 19) hk hR rfl dX0_ofOrder_19
theorem ctX0_ofOrder (l : Launch) (K : Kx) (hI : Ini K) (b : Nat) (a0 : Int32) (a1 : Int32) (w : Wd) : ∀ r, mX0_ofOrder b a0 a1 w = some r → Ct l K 108 6199 yX0_ofOrder (ws_ yX0_ofOrder cX0_ofOrder 3 (some (.int))) [.ref b, .int a0, .int a1] w (rvI r.1) r.2 := Ct_of rvI l K hI 108 6199 [.ref b, .int a0, .int a1] w (by decide) (lc0 := [(0, .ref b), (1, .int a0), (2, .int a1)]) rfl (Nat.le_of_ble_eq_true rfl) (fun y hk hR _ _ hin => eX0_ofOrder hk hR b a0 a1 w)
noncomputable def mX0_ago (this : Nat) (a0 : Int32) (a1 : Int32) (w : Wd) : Option (Int32 × Wd) :=
(gR w ((some this)) 0 0).bind fun v1 =>
(gR w v1 1 1).bind fun v2 =>
(ia w v2 8).bind fun v3 =>
(gR w ((some this)) 0 0).bind fun v4 =>
(gR w v4 1 1).bind fun v5 =>
(cal w (mX0_firstKept v5 w)).bind fun r6 =>
(cal r6.2 (mX0_in a0 1 (v3 - r6.1) r6.2)).bind fun r7 =>
if r7.1 = 0 then (
some ((-100000), r7.2))
else (
(cal r7.2 (mX0_in a1 0 5 r7.2)).bind fun r8 =>
if r8.1 = 0 then (
some ((-100000), r8.2))
else (
(gR r8.2 ((some this)) 0 0).bind fun v9 =>
(gR r8.2 v9 1 1).bind fun v10 =>
(gR r8.2 ((some this)) 0 0).bind fun v11 =>
(gR r8.2 v11 1 1).bind fun v12 =>
(ia r8.2 v12 8).bind fun v13 =>
(cal r8.2 (mX0_tenthAt (v13 - a0) r8.2)).bind fun r14 =>
(ia r14.2 v10 (r14.1 + a1)).bind fun v15 =>
some (v15, r14.2)))
theorem eX0_ago {y : Fx (Int32 × Wd)} (hk : OkF y RX0 cX0_ago 3 3 82) (hR : RetM y rvI (some (.int))) (this : Nat) (a0 : Int32) (a1 : Int32) (w : Wd) : V y w [(0, va_rf (some this)), (1, .int a0), (2, .int a1)] [] 0 (mX0_ago this a0 a1 w) := by
  unfold mX0_ago
  refine V_iload_n (pc := 0) hk dX0_ago_0 1 rfl ?_
  refine V_iconst (pc := 1) (v := 1) hk dX0_ago_1 rfl ?_
  refine V_aload_n (pc := 2) hk dX0_ago_2 0 rfl ?_
  refine g_X0_21 (pc := 3) hk dX0_ago_3 (fun v1 => ?_)
  refine g_X0_176 (pc := 6) hk dX0_ago_6 (fun v2 => ?_)
  refine V_bipush (pc := 9) (v := 8) hk dX0_ago_9 rfl ?_
  refine V_iaload (pc := 11) hk dX0_ago_11 (fun v3 => ?_)
  refine V_aload_n (pc := 12) hk dX0_ago_12 0 rfl ?_
  refine g_X0_21 (pc := 13) hk dX0_ago_13 (fun v4 => ?_)
  refine g_X0_176 (pc := 16) hk dX0_ago_16 (fun v5 => ?_)
  refine n_X0_146 (pc := 19) hk (fun r h => ctX0_firstKept (fl y) (fK y) hk.2.2.2.2.2.2.2.1 v5 w r h) ⟨Nat.le_of_ble_eq_true rfl, Nat.le_of_ble_eq_true rfl⟩ (Nat.le_of_ble_eq_true rfl) dX0_ago_19 (fun r6 => ?_)
  refine V_isub (pc := 22) hk dX0_ago_22 ?_
  refine n_X0_82 (pc := 23) hk (fun r h => ctX0_in (fl y) (fK y) hk.2.2.2.2.2.2.2.1 a0 1 (v3 - r6.1) r6.2 r h) ⟨Nat.le_of_ble_eq_true rfl, Nat.le_of_ble_eq_true rfl⟩ (Nat.le_of_ble_eq_true rfl) dX0_ago_23 (fun r7 => ?_)
  refine V_if_eq (pc := 26) (tgt := 66) hk dX0_ago_26 rfl ?_ ?_
  · refine V_ldcw (pc := 66) (v := (-100000)) hk dX0_ago_66 q1146 ?_
    exact V_ireturn (pc := 69) hk hR rfl dX0_ago_69
  · refine V_iload_n (pc := 29) hk dX0_ago_29 2 rfl ?_
    refine V_iconst (pc := 30) (v := 0) hk dX0_ago_30 rfl ?_
    refine V_iconst (pc := 31) (v := 5) hk dX0_ago_31 rfl ?_
    refine n_X0_82 (pc := 32) hk (fun r h => ctX0_in (fl y) (fK y) hk.2.2.2.2.2.2.2.1 a1 0 5 r7.2 r h) ⟨Nat.le_of_ble_eq_true rfl, Nat.le_of_ble_eq_true rfl⟩ (Nat.le_of_ble_eq_true rfl) dX0_ago_32 (fun r8 => ?_)
    refine V_if_eq (pc := 35) (tgt := 66) hk dX0_ago_35 rfl ?_ ?_
    · refine V_ldcw (pc := 66) (v := (-100000)) hk dX0_ago_66 q1146 ?_
      exact V_ireturn (pc := 69) hk hR rfl dX0_ago_69
    · refine V_aload_n (pc := 38) hk dX0_ago_38 0 rfl ?_
      refine g_X0_21 (pc := 39) hk dX0_ago_39 (fun v9 => ?_)
      refine g_X0_176 (pc := 42) hk dX0_ago_42 (fun v10 => ?_)
      refine V_aload_n (pc := 45) hk dX0_ago_45 0 rfl ?_
      refine g_X0_21 (pc := 46) hk dX0_ago_46 (fun v11 => ?_)
      refine g_X0_176 (pc := 49) hk dX0_ago_49 (fun v12 => ?_)
      refine V_bipush (pc := 52) (v := 8) hk dX0_ago_52 rfl ?_
      refine V_iaload (pc := 54) hk dX0_ago_54 (fun v13 => ?_)
      refine V_iload_n (pc := 55) hk dX0_ago_55 1 rfl ?_
      refine V_isub (pc := 56) hk dX0_ago_56 ?_
      refine n_X0_133 (pc := 57) hk (fun r h => ctX0_tenthAt (fl y) (fK y) hk.2.2.2.2.2.2.2.1 (v13 - a0) r8.2 r h) ⟨Nat.le_of_ble_eq_true rfl, Nat.le_of_ble_eq_true rfl⟩ (by simp [rf_cat, cat_int, cat_long, cat_ref]) dX0_ago_57 (fun r14 => ?_)
      refine V_iload_n (pc := 60) hk dX0_ago_60 2 rfl ?_
      refine V_iadd (pc := 61) hk dX0_ago_61 ?_
      refine V_iaload (pc := 62) hk dX0_ago_62 (fun v15 => ?_)
      refine V_goto (pc := 63) (tgt := 69) hk dX0_ago_63 rfl ?_
      exact V_ireturn (pc := 69) hk hR rfl dX0_ago_69
theorem ctX0_ago (l : Launch) (K : Kx) (hI : Ini K) (b : Nat) (a0 : Int32) (a1 : Int32) (w : Wd) : ∀ r, mX0_ago b a0 a1 w = some r → Ct l K 3 82 yX0_ago (ws_ yX0_ago cX0_ago 3 (some (.int))) [.ref b, .int a0, .int a1] w (rvI r.1) r.2 := Ct_of rvI l K hI 3 82 [.ref b, .int a0, .int a1] w (by decide) (lc0 := [(0, .ref b), (1, .int a0), (2, .int a1)]) rfl (Nat.le_of_ble_eq_true rfl) (fun y hk hR _ _ hin => eX0_ago hk hR b a0 a1 w)
noncomputable def mX0_goes_p91 (k27 : Wd → (Option Nat) → Int32 → (Option Nat) → Int32 → Int32 → Option (Unit × Wd)) (w : Wd) (l0 : Option Nat) (l1 : Int32) (l2 : Option Nat) (l3 : Int32) (l4 : Int32) : Option (Unit × Wd) :=
(gI w l0 0 10).bind fun v1 =>
if ¬ v1 = (-1) then (
k27 w l0 l1 l2 l3 (l4 + 1))
else (
(gR w l0 0 8).bind fun v2 =>
(recv w l0 0).bind fun b4 => (cal w (mX0_hangsStill b4 v2 w)).bind fun r3 =>
if r3.1 = 0 then (
k27 r3.2 l0 l1 l2 l3 (l4 + 1))
else (
(pf r3.2 l0 0 10 (.int l4)).bind fun w5 =>
k27 w5 l0 l1 l2 l3 (l4 + 1)))
noncomputable def mX0_goes_p55 (k27 : Wd → (Option Nat) → Int32 → (Option Nat) → Int32 → Int32 → Option (Unit × Wd)) (w : Wd) (l0 : Option Nat) (l1 : Int32) (l2 : Option Nat) (l3 : Int32) (l4 : Int32) (t0 : Int32) (t1 : Option Nat) (t2 : Option Nat) : Option (Unit × Wd) :=
(recv w t2 0).bind fun b2 => (cal w (mX0_tenth b2 t1 t0 w)).bind fun r1 =>
if l4 < l3 then (
mX0_goes_p91 k27 r1.2 l0 l1 l2 l3 l4)
else (
(gI r1.2 l0 0 9).bind fun v3 =>
(gR r1.2 l0 0 8).bind fun v4 =>
(ia r1.2 v4 0).bind fun v5 =>
(gR r1.2 l0 0 8).bind fun v6 =>
(ia r1.2 v6 2).bind fun v7 =>
(pf r1.2 l0 0 9 (.int (jmaxI v3 (jabsI (v5 - v7))))).bind fun w8 =>
mX0_goes_p91 k27 w8 l0 l1 l2 l3 l4)
noncomputable def mX0_goes_b27 (k27 : Wd → (Option Nat) → Int32 → (Option Nat) → Int32 → Int32 → Option (Unit × Wd)) (w : Wd) (l0 : Option Nat) (l1 : Int32) (l2 : Option Nat) (l3 : Int32) (l4 : Int32) : Option (Unit × Wd) :=
if l1 < l4 then (
some ((), w))
else (
(gR w l0 0 8).bind fun v1 =>
if ¬ l2 = none then (
(gR w l0 0 8).bind fun v2 =>
(recv w l0 0).bind fun b4 => (cal w (mX0_handOf b4 v2 l2 w)).bind fun r3 =>
mX0_goes_p55 k27 r3.2 l0 l1 l2 l3 l4 r3.1 v1 l0)
else (
mX0_goes_p55 k27 w l0 l1 l2 l3 l4 0 v1 l0))
noncomputable def mX0_goes_l27 : Nat → Wd → (Option Nat) → Int32 → (Option Nat) → Int32 → Int32 → Option (Unit × Wd)
  | 0, _, _, _, _, _, _ => none
  | n + 1, w, l0, l1, l2, l3, l4 => mX0_goes_b27 (mX0_goes_l27 n) w l0 l1 l2 l3 l4
noncomputable def mX0_goes (this : Nat) (a0 : Int32) (a1 : Option Nat) (a2 : Int32) (w : Wd) : Option (Unit × Wd) :=
(gR w ((some this)) 0 0).bind fun v1 =>
(gR w v1 1 1).bind fun v2 =>
(gR w ((some this)) 0 8).bind fun v3 =>
(cal w (mX1_copy v2 v3 w)).bind fun r4 =>
(pf r4.2 ((some this)) 0 9 (.int 0)).bind fun w5 =>
(pf w5 ((some this)) 0 10 (.int (-1))).bind fun w6 =>
mX0_goes_l27 FU w6 ((some this)) a0 a1 a2 1
theorem eX0_goes_p91 {y : Fx (Unit × Wd)} (hk : OkF y RX0 cX0_goes 5 109 6224) (hR : RetM y rvV none) {k27 : Wd → (Option Nat) → Int32 → (Option Nat) → Int32 → Int32 → Option (Unit × Wd)} (h27 : ∀ (w : Wd) (l0 : Option Nat) (l1 : Int32) (l2 : Option Nat) (l3 : Int32) (l4 : Int32), V y w [(0, va_rf l0), (1, .int l1), (2, va_rf l2), (3, .int l3), (4, .int l4)] [] 27 (k27 w l0 l1 l2 l3 l4)) (w : Wd) (l0 : Option Nat) (l1 : Int32) (l2 : Option Nat) (l3 : Int32) (l4 : Int32) : V y w [(0, va_rf l0), (1, .int l1), (2, va_rf l2), (3, .int l3), (4, .int l4)] [] 91 (mX0_goes_p91 k27 w l0 l1 l2 l3 l4) := by
  unfold mX0_goes_p91
  refine V_aload_n (pc := 91) hk dX0_goes_91 0 rfl ?_
  refine g_X0_306 (pc := 92) hk dX0_goes_92 (fun v1 => ?_)
  refine V_iconst (pc := 95) (v := (-1)) hk dX0_goes_95 (by decide +kernel) ?_
  refine V_icmp_ne (pc := 96) (tgt := 116) hk dX0_goes_96 rfl ?_ ?_
  · refine V_iinc (pc := 116) (v := 1) (lc' := [(4, .int (l4 + 1)), (0, va_rf l0), (1, .int l1), (2, va_rf l2), (3, .int l3)]) hk dX0_goes_116 4 rfl rfl (Nat.le_of_ble_eq_true rfl) rfl ?_
    refine V_goto (pc := 119) (tgt := 27) hk dX0_goes_119 rfl ?_
    refine V_pick (lc' := [(0, va_rf l0), (1, .int l1), (2, va_rf l2), (3, .int l3), (4, .int (l4 + 1))]) [1, 2, 3, 4, 0] rfl ?_
    exact h27 w l0 l1 l2 l3 (l4 + 1)
  · refine V_aload_n (pc := 99) hk dX0_goes_99 0 rfl ?_
    refine V_aload_n (pc := 100) hk dX0_goes_100 0 rfl ?_
    refine g_X0_43 (pc := 101) hk dX0_goes_101 (fun v2 => ?_)
    refine n_X0_221 (pc := 104) hk (fun b r h => ctX0_hangsStill (fl y) (fK y) hk.2.2.2.2.2.2.2.1 b v2 w r h) ⟨Nat.le_of_ble_eq_true rfl, Nat.le_of_ble_eq_true rfl⟩ (Nat.le_of_ble_eq_true rfl) dX0_goes_104 (fun r3 => ?_)
    refine V_if_eq (pc := 107) (tgt := 116) hk dX0_goes_107 rfl ?_ ?_
    · refine V_iinc (pc := 116) (v := 1) (lc' := [(4, .int (l4 + 1)), (0, va_rf l0), (1, .int l1), (2, va_rf l2), (3, .int l3)]) hk dX0_goes_116 4 rfl rfl (Nat.le_of_ble_eq_true rfl) rfl ?_
      refine V_goto (pc := 119) (tgt := 27) hk dX0_goes_119 rfl ?_
      refine V_pick (lc' := [(0, va_rf l0), (1, .int l1), (2, va_rf l2), (3, .int l3), (4, .int (l4 + 1))]) [1, 2, 3, 4, 0] rfl ?_
      exact h27 r3.2 l0 l1 l2 l3 (l4 + 1)
    · refine V_aload_n (pc := 110) hk dX0_goes_110 0 rfl ?_
      refine V_iload (pc := 111) hk dX0_goes_111 4 rfl ?_
      refine p_X0_306 (pc := 113) hk dX0_goes_113 (fun w5 => ?_)
      refine V_iinc (pc := 116) (v := 1) (lc' := [(4, .int (l4 + 1)), (0, va_rf l0), (1, .int l1), (2, va_rf l2), (3, .int l3)]) hk dX0_goes_116 4 rfl rfl (Nat.le_of_ble_eq_true rfl) rfl ?_
      refine V_goto (pc := 119) (tgt := 27) hk dX0_goes_119 rfl ?_
      refine V_pick (lc' := [(0, va_rf l0), (1, .int l1), (2, va_rf l2), (3, .int l3), (4, .int (l4 + 1))]) [1, 2, 3, 4, 0] rfl ?_
      exact h27 w5 l0 l1 l2 l3 (l4 + 1)
theorem eX0_goes_p55 {y : Fx (Unit × Wd)} (hk : OkF y RX0 cX0_goes 5 109 6224) (hR : RetM y rvV none) {k27 : Wd → (Option Nat) → Int32 → (Option Nat) → Int32 → Int32 → Option (Unit × Wd)} (h27 : ∀ (w : Wd) (l0 : Option Nat) (l1 : Int32) (l2 : Option Nat) (l3 : Int32) (l4 : Int32), V y w [(0, va_rf l0), (1, .int l1), (2, va_rf l2), (3, .int l3), (4, .int l4)] [] 27 (k27 w l0 l1 l2 l3 l4)) (w : Wd) (l0 : Option Nat) (l1 : Int32) (l2 : Option Nat) (l3 : Int32) (l4 : Int32) (t0 : Int32) (t1 : Option Nat) (t2 : Option Nat) : V y w [(0, va_rf l0), (1, .int l1), (2, va_rf l2), (3, .int l3), (4, .int l4)] [.int t0, va_rf t1, va_rf t2] 55 (mX0_goes_p55 k27 w l0 l1 l2 l3 l4 t0 t1 t2) := by
  unfold mX0_goes_p55
  refine n_X0_203 (pc := 55) hk (fun b r h => ctX0_tenth (fl y) (fK y) hk.2.2.2.2.2.2.2.1 b t1 t0 w r h) ⟨Nat.le_of_ble_eq_true rfl, Nat.le_of_ble_eq_true rfl⟩ (Nat.le_of_ble_eq_true rfl) dX0_goes_55 (fun r1 => ?_)
  refine V_iload (pc := 58) hk dX0_goes_58 4 rfl ?_
  refine V_iload_n (pc := 60) hk dX0_goes_60 3 rfl ?_
  refine V_icmp_lt (pc := 61) (tgt := 91) hk dX0_goes_61 rfl ?_ ?_
  · exact eX0_goes_p91 hk hR h27 r1.2 l0 l1 l2 l3 l4
  · refine V_aload_n (pc := 64) hk dX0_goes_64 0 rfl ?_
    refine V_aload_n (pc := 65) hk dX0_goes_65 0 rfl ?_
    refine g_X0_303 (pc := 66) hk dX0_goes_66 (fun v3 => ?_)
    refine V_aload_n (pc := 69) hk dX0_goes_69 0 rfl ?_
    refine g_X0_43 (pc := 70) hk dX0_goes_70 (fun v4 => ?_)
    refine V_iconst (pc := 73) (v := 0) hk dX0_goes_73 rfl ?_
    refine V_iaload (pc := 74) hk dX0_goes_74 (fun v5 => ?_)
    refine V_aload_n (pc := 75) hk dX0_goes_75 0 rfl ?_
    refine g_X0_43 (pc := 76) hk dX0_goes_76 (fun v6 => ?_)
    refine V_iconst (pc := 79) (v := 2) hk dX0_goes_79 rfl ?_
    refine V_iaload (pc := 80) hk dX0_goes_80 (fun v7 => ?_)
    refine V_isub (pc := 81) hk dX0_goes_81 ?_
    refine V_mabs (pc := 82) hk q1077 ⟨Nat.le_of_ble_eq_true rfl, Nat.le_of_ble_eq_true rfl⟩ (by simp [rf_cat, cat_int, cat_long, cat_ref]) dX0_goes_82 ?_
    refine V_mmax (pc := 85) hk q895 ⟨Nat.le_of_ble_eq_true rfl, Nat.le_of_ble_eq_true rfl⟩ (by simp [rf_cat, cat_int, cat_long, cat_ref]) dX0_goes_85 ?_
    refine p_X0_303 (pc := 88) hk dX0_goes_88 (fun w8 => ?_)
    exact eX0_goes_p91 hk hR h27 w8 l0 l1 l2 l3 l4
theorem eX0_goes_b27 {y : Fx (Unit × Wd)} (hk : OkF y RX0 cX0_goes 5 109 6224) (hR : RetM y rvV none) {k27 : Wd → (Option Nat) → Int32 → (Option Nat) → Int32 → Int32 → Option (Unit × Wd)} (h27 : ∀ (w : Wd) (l0 : Option Nat) (l1 : Int32) (l2 : Option Nat) (l3 : Int32) (l4 : Int32), V y w [(0, va_rf l0), (1, .int l1), (2, va_rf l2), (3, .int l3), (4, .int l4)] [] 27 (k27 w l0 l1 l2 l3 l4)) (w : Wd) (l0 : Option Nat) (l1 : Int32) (l2 : Option Nat) (l3 : Int32) (l4 : Int32) : V y w [(0, va_rf l0), (1, .int l1), (2, va_rf l2), (3, .int l3), (4, .int l4)] [] 27 (mX0_goes_b27 k27 w l0 l1 l2 l3 l4) := by
  unfold mX0_goes_b27
  refine V_iload (pc := 27) hk dX0_goes_27 4 rfl ?_
  refine V_iload_n (pc := 29) hk dX0_goes_29 1 rfl ?_
  refine V_icmp_gt (pc := 30) (tgt := 122) hk dX0_goes_30 rfl ?_ ?_
  · exact V_return (pc := 122) hk hR rfl dX0_goes_122
  · refine V_aload_n (pc := 33) hk dX0_goes_33 0 rfl ?_
    refine V_aload_n (pc := 34) hk dX0_goes_34 0 rfl ?_
    refine g_X0_43 (pc := 35) hk dX0_goes_35 (fun v1 => ?_)
    refine V_aload_n (pc := 38) hk dX0_goes_38 2 rfl ?_
    refine V_ifnonnull (pc := 39) (tgt := 46) hk dX0_goes_39 rfl ?_ ?_
    · refine V_aload_n (pc := 46) hk dX0_goes_46 0 rfl ?_
      refine V_aload_n (pc := 47) hk dX0_goes_47 0 rfl ?_
      refine g_X0_43 (pc := 48) hk dX0_goes_48 (fun v2 => ?_)
      refine V_aload_n (pc := 51) hk dX0_goes_51 2 rfl ?_
      refine n_X0_207 (pc := 52) hk (fun b r h => ctX0_handOf (fl y) (fK y) hk.2.2.2.2.2.2.2.1 b v2 l2 w r h) ⟨Nat.le_of_ble_eq_true rfl, Nat.le_of_ble_eq_true rfl⟩ (by simp [rf_cat, cat_int, cat_long, cat_ref]) dX0_goes_52 (fun r3 => ?_)
      exact eX0_goes_p55 hk hR h27 r3.2 l0 l1 l2 l3 l4 r3.1 v1 l0
    · refine V_iconst (pc := 42) (v := 0) hk dX0_goes_42 rfl ?_
      refine V_goto (pc := 43) (tgt := 55) hk dX0_goes_43 rfl ?_
      exact eX0_goes_p55 hk hR h27 w l0 l1 l2 l3 l4 0 v1 l0
theorem eX0_goes_l27 {y : Fx (Unit × Wd)} (hk : OkF y RX0 cX0_goes 5 109 6224) (hR : RetM y rvV none) : ∀ (n : Nat) (w : Wd) (l0 : Option Nat) (l1 : Int32) (l2 : Option Nat) (l3 : Int32) (l4 : Int32), V y w [(0, va_rf l0), (1, .int l1), (2, va_rf l2), (3, .int l3), (4, .int l4)] [] 27 (mX0_goes_l27 n w l0 l1 l2 l3 l4) := by
  intro n
  induction n with
  | zero => intro w l0 l1 l2 l3 l4; exact V_none
  | succ n ih => intro w l0 l1 l2 l3 l4; exact eX0_goes_b27 hk hR ih w l0 l1 l2 l3 l4
theorem eX0_goes {y : Fx (Unit × Wd)} (hk : OkF y RX0 cX0_goes 5 109 6224) (hR : RetM y rvV none) (this : Nat) (a0 : Int32) (a1 : Option Nat) (a2 : Int32) (w : Wd) : V y w [(0, va_rf (some this)), (1, .int a0), (2, va_rf a1), (3, .int a2)] [] 0 (mX0_goes this a0 a1 a2 w) := by
  unfold mX0_goes
  refine V_aload_n (pc := 0) hk dX0_goes_0 0 rfl ?_
  refine g_X0_21 (pc := 1) hk dX0_goes_1 (fun v1 => ?_)
  refine g_X0_176 (pc := 4) hk dX0_goes_4 (fun v2 => ?_)
  refine V_aload_n (pc := 7) hk dX0_goes_7 0 rfl ?_
  refine g_X0_43 (pc := 8) hk dX0_goes_8 (fun v3 => ?_)
  refine n_X0_89 (pc := 11) hk (fun r h => ctX1_copy (fl y) (fK y) hk.2.2.2.2.2.2.2.1 v2 v3 w r h) ⟨Nat.le_of_ble_eq_true rfl, Nat.le_of_ble_eq_true rfl⟩ (Nat.le_of_ble_eq_true rfl) dX0_goes_11 (fun r4 => ?_)
  refine V_aload_n (pc := 14) hk dX0_goes_14 0 rfl ?_
  refine V_iconst (pc := 15) (v := 0) hk dX0_goes_15 rfl ?_
  refine p_X0_303 (pc := 16) hk dX0_goes_16 (fun w5 => ?_)
  refine V_aload_n (pc := 19) hk dX0_goes_19 0 rfl ?_
  refine V_iconst (pc := 20) (v := (-1)) hk dX0_goes_20 (by decide +kernel) ?_
  refine p_X0_306 (pc := 21) hk dX0_goes_21 (fun w6 => ?_)
  refine V_iconst (pc := 24) (v := 1) hk dX0_goes_24 rfl ?_
  refine V_istore (pc := 25) (lc' := [(4, .int 1), (0, va_rf ((some this))), (1, .int a0), (2, va_rf a1), (3, .int a2)]) (i := 4) hk dX0_goes_25 (Nat.le_of_ble_eq_true rfl) rfl ?_
  refine V_pick (lc' := [(0, va_rf ((some this))), (1, .int a0), (2, va_rf a1), (3, .int a2), (4, .int 1)]) [1, 2, 3, 4, 0] rfl ?_
  exact eX0_goes_l27 hk hR FU w6 ((some this)) a0 a1 a2 1
theorem ctX0_goes (l : Launch) (K : Kx) (hI : Ini K) (b : Nat) (a0 : Int32) (a1 : Option Nat) (a2 : Int32) (w : Wd) : ∀ r, mX0_goes b a0 a1 a2 w = some r → Ct l K 109 6224 yX0_goes (ws_ yX0_goes cX0_goes 5 none) [.ref b, .int a0, va_rf a1, .int a2] w (rvV r.1) r.2 := Ct_of rvV l K hI 109 6224 [.ref b, .int a0, va_rf a1, .int a2] w (by decide) (lc0 := [(0, .ref b), (1, .int a0), (2, va_rf a1), (3, .int a2)]) (by simp [lv_args, rf_cat, cat_int, cat_long, cat_ref]) (lg_len _ _ (by simp [rf_cat, cat_int, cat_long, cat_ref])) (fun y hk hR _ _ hin => eX0_goes hk hR b a0 a1 a2 w)
noncomputable def mX0_foretold_p38 (w : Wd) (l0 : Option Nat) (l3 : Int32) (t0 : Option Nat) (t1 : Int32) (t2 : Option Nat) : Option (Int32 × Wd) :=
(recv w t2 0).bind fun b2 => (cal w (mX0_goes b2 t1 t0 1 w)).bind fun r1 =>
if ¬ l3 = 0 then (
if ¬ l3 = 1 then (
if ¬ l3 = 2 then (
(gI r1.2 l0 0 10).bind fun v3 =>
some (v3, r1.2))
else (
(gI r1.2 l0 0 9).bind fun v4 =>
some (v4, r1.2)))
else (
(gR r1.2 l0 0 8).bind fun v5 =>
(ia r1.2 v5 2).bind fun v6 =>
some (v6, r1.2)))
else (
(gR r1.2 l0 0 8).bind fun v7 =>
(ia r1.2 v7 0).bind fun v8 =>
some (v8, r1.2))
noncomputable def mX0_foretold (this : Nat) (a0 : Int32) (a1 : Int32) (a2 : Int32) (w : Wd) : Option (Int32 × Wd) :=
(cal w (mX0_in a0 1 200 w)).bind fun r1 =>
if r1.1 = 0 then (
some ((-100000), r1.2))
else (
(cal r1.2 (mX0_in a2 0 3 r1.2)).bind fun r2 =>
if ¬ r2.1 = 0 then (
if a1 = 0 then (
mX0_foretold_p38 r2.2 ((some this)) a2 none a0 ((some this)))
else (
(recv r2.2 ((some this)) 0).bind fun b4 => (cal r2.2 (mX0_rules b4 r2.2)).bind fun r3 =>
mX0_foretold_p38 r3.2 ((some this)) a2 r3.1 a0 ((some this))))
else (
some ((-100000), r2.2)))
theorem eX0_foretold_p38 {y : Fx (Int32 × Wd)} (hk : OkF y RX0 cX0_foretold 4 110 6248) (hR : RetM y rvI (some (.int))) (w : Wd) (l0 : Option Nat) (l3 : Int32) (t0 : Option Nat) (t1 : Int32) (t2 : Option Nat) : V y w [(0, va_rf l0), (3, .int l3)] [va_rf t0, .int t1, va_rf t2] 38 (mX0_foretold_p38 w l0 l3 t0 t1 t2) := by
  unfold mX0_foretold_p38
  refine V_iconst (pc := 38) (v := 1) hk dX0_foretold_38 rfl ?_
  refine n_X0_309 (pc := 39) hk (fun b r h => ctX0_goes (fl y) (fK y) hk.2.2.2.2.2.2.2.1 b t1 t0 1 w r h) ⟨Nat.le_of_ble_eq_true rfl, Nat.le_of_ble_eq_true rfl⟩ (Nat.le_of_ble_eq_true rfl) dX0_foretold_39 (fun r1 => ?_)
  refine V_iload_n (pc := 42) hk dX0_foretold_42 1 rfl ?_
  refine V_if_ne (pc := 43) (tgt := 55) hk dX0_foretold_43 rfl ?_ ?_
  · refine V_iload_n (pc := 55) hk dX0_foretold_55 1 rfl ?_
    refine V_iconst (pc := 56) (v := 1) hk dX0_foretold_56 rfl ?_
    refine V_icmp_ne (pc := 57) (tgt := 69) hk dX0_foretold_57 rfl ?_ ?_
    · refine V_iload_n (pc := 69) hk dX0_foretold_69 1 rfl ?_
      refine V_iconst (pc := 70) (v := 2) hk dX0_foretold_70 rfl ?_
      refine V_icmp_ne (pc := 71) (tgt := 81) hk dX0_foretold_71 rfl ?_ ?_
      · refine V_aload_n (pc := 81) hk dX0_foretold_81 0 rfl ?_
        refine g_X0_306 (pc := 82) hk dX0_foretold_82 (fun v3 => ?_)
        exact V_ireturn (pc := 85) hk hR rfl dX0_foretold_85
      · refine V_aload_n (pc := 74) hk dX0_foretold_74 0 rfl ?_
        refine g_X0_303 (pc := 75) hk dX0_foretold_75 (fun v4 => ?_)
        refine V_goto (pc := 78) (tgt := 85) hk dX0_foretold_78 rfl ?_
        exact V_ireturn (pc := 85) hk hR rfl dX0_foretold_85
    · refine V_aload_n (pc := 60) hk dX0_foretold_60 0 rfl ?_
      refine g_X0_43 (pc := 61) hk dX0_foretold_61 (fun v5 => ?_)
      refine V_iconst (pc := 64) (v := 2) hk dX0_foretold_64 rfl ?_
      refine V_iaload (pc := 65) hk dX0_foretold_65 (fun v6 => ?_)
      refine V_goto (pc := 66) (tgt := 85) hk dX0_foretold_66 rfl ?_
      exact V_ireturn (pc := 85) hk hR rfl dX0_foretold_85
  · refine V_aload_n (pc := 46) hk dX0_foretold_46 0 rfl ?_
    refine g_X0_43 (pc := 47) hk dX0_foretold_47 (fun v7 => ?_)
    refine V_iconst (pc := 50) (v := 0) hk dX0_foretold_50 rfl ?_
    refine V_iaload (pc := 51) hk dX0_foretold_51 (fun v8 => ?_)
    refine V_goto (pc := 52) (tgt := 85) hk dX0_foretold_52 rfl ?_
    exact V_ireturn (pc := 85) hk hR rfl dX0_foretold_85
theorem eX0_foretold {y : Fx (Int32 × Wd)} (hk : OkF y RX0 cX0_foretold 4 110 6248) (hR : RetM y rvI (some (.int))) (this : Nat) (a0 : Int32) (a1 : Int32) (a2 : Int32) (w : Wd) : V y w [(0, va_rf (some this)), (1, .int a0), (2, .int a1), (3, .int a2)] [] 0 (mX0_foretold this a0 a1 a2 w) := by
  unfold mX0_foretold
  refine V_iload_n (pc := 0) hk dX0_foretold_0 1 rfl ?_
  refine V_iconst (pc := 1) (v := 1) hk dX0_foretold_1 rfl ?_
  refine V_sipush (pc := 2) (v := 200) hk dX0_foretold_2 rfl ?_
  refine n_X0_82 (pc := 5) hk (fun r h => ctX0_in (fl y) (fK y) hk.2.2.2.2.2.2.2.1 a0 1 200 w r h) ⟨Nat.le_of_ble_eq_true rfl, Nat.le_of_ble_eq_true rfl⟩ (Nat.le_of_ble_eq_true rfl) dX0_foretold_5 (fun r1 => ?_)
  refine V_if_eq (pc := 8) (tgt := 20) hk dX0_foretold_8 rfl ?_ ?_
  · refine V_ldcw (pc := 20) (v := (-100000)) hk dX0_foretold_20 q1146 ?_
    exact V_ireturn (pc := 23) hk hR rfl dX0_foretold_23
  · refine V_iload_n (pc := 11) hk dX0_foretold_11 3 rfl ?_
    refine V_iconst (pc := 12) (v := 0) hk dX0_foretold_12 rfl ?_
    refine V_iconst (pc := 13) (v := 3) hk dX0_foretold_13 rfl ?_
    refine n_X0_82 (pc := 14) hk (fun r h => ctX0_in (fl y) (fK y) hk.2.2.2.2.2.2.2.1 a2 0 3 r1.2 r h) ⟨Nat.le_of_ble_eq_true rfl, Nat.le_of_ble_eq_true rfl⟩ (Nat.le_of_ble_eq_true rfl) dX0_foretold_14 (fun r2 => ?_)
    refine V_if_ne (pc := 17) (tgt := 24) hk dX0_foretold_17 rfl ?_ ?_
    · refine V_aload_n (pc := 24) hk dX0_foretold_24 0 rfl ?_
      refine V_iload_n (pc := 25) hk dX0_foretold_25 1 rfl ?_
      refine V_iload_n (pc := 26) hk dX0_foretold_26 2 rfl ?_
      refine V_if_eq (pc := 27) (tgt := 37) hk dX0_foretold_27 rfl ?_ ?_
      · refine V_null (pc := 37) hk dX0_foretold_37 ?_
        refine V_pick (lc' := [(0, va_rf ((some this))), (3, .int a2)]) [0, 3] rfl ?_
        exact eX0_foretold_p38 hk hR r2.2 ((some this)) a2 none a0 ((some this))
      · refine V_aload_n (pc := 30) hk dX0_foretold_30 0 rfl ?_
        refine n_X0_154 (pc := 31) hk (fun b r h => ctX0_rules (fl y) (fK y) hk.2.2.2.2.2.2.2.1 b r2.2 r h) ⟨Nat.le_of_ble_eq_true rfl, Nat.le_of_ble_eq_true rfl⟩ (by simp [rf_cat, cat_int, cat_long, cat_ref]) dX0_foretold_31 (fun r3 => ?_)
        refine V_goto (pc := 34) (tgt := 38) hk dX0_foretold_34 rfl ?_
        refine V_pick (lc' := [(0, va_rf ((some this))), (3, .int a2)]) [0, 3] rfl ?_
        exact eX0_foretold_p38 hk hR r3.2 ((some this)) a2 r3.1 a0 ((some this))
    · refine V_ldcw (pc := 20) (v := (-100000)) hk dX0_foretold_20 q1146 ?_
      exact V_ireturn (pc := 23) hk hR rfl dX0_foretold_23
theorem ctX0_foretold (l : Launch) (K : Kx) (hI : Ini K) (b : Nat) (a0 : Int32) (a1 : Int32) (a2 : Int32) (w : Wd) : ∀ r, mX0_foretold b a0 a1 a2 w = some r → Ct l K 110 6248 yX0_foretold (ws_ yX0_foretold cX0_foretold 4 (some (.int))) [.ref b, .int a0, .int a1, .int a2] w (rvI r.1) r.2 := Ct_of rvI l K hI 110 6248 [.ref b, .int a0, .int a1, .int a2] w (by decide) (lc0 := [(0, .ref b), (1, .int a0), (2, .int a1), (3, .int a2)]) rfl (Nat.le_of_ble_eq_true rfl) (fun y hk hR _ _ hin => eX0_foretold hk hR b a0 a1 a2 w)
noncomputable def mX0_stills_b18 (s_X0_stills : Nat → Int32 → Int32 → Wd → Option (Int32 × Wd)) (k18 : Wd → (Option Nat) → Int32 → Int32 → Int32 → Option (Int32 × Wd)) (w : Wd) (l0 : Option Nat) (l1 : Int32) (l2 : Int32) (l3 : Int32) : Option (Int32 × Wd) :=
if 2 ≤ l3 then (
(nok (.boolean) 0).bind fun _ => some (0, w))
else (
(gR w l0 0 12).bind fun v1 =>
(ias w v1 l1 l3).bind fun w2 =>
(gR w2 l0 0 11).bind fun v3 =>
(aa w2 v3 l1).bind fun v4 =>
(gR w2 l0 0 11).bind fun v5 =>
(aa w2 v5 (l1 + 1)).bind fun v6 =>
(cal w2 (mX1_copy v4 v6 w2)).bind fun r7 =>
(gR r7.2 l0 0 11).bind fun v8 =>
(aa r7.2 v8 (l1 + 1)).bind fun v9 =>
(recv r7.2 l0 0).bind fun b11 => (cal r7.2 (mX0_tenth b11 v9 l3 r7.2)).bind fun r10 =>
(recv r10.2 l0 0).bind fun b13 => (cal r10.2 (s_X0_stills b13 (l1 + 1) l2 r10.2)).bind fun r12 =>
if r12.1 = 0 then (
k18 r12.2 l0 l1 l2 (l3 + 1))
else (
(nok (.boolean) 1).bind fun _ => some (1, r12.2)))
noncomputable def mX0_stills_l18 (s_X0_stills : Nat → Int32 → Int32 → Wd → Option (Int32 × Wd)) : Nat → Wd → (Option Nat) → Int32 → Int32 → Int32 → Option (Int32 × Wd)
  | 0, _, _, _, _, _ => none
  | n + 1, w, l0, l1, l2, l3 => mX0_stills_b18 s_X0_stills (mX0_stills_l18 s_X0_stills n) w l0 l1 l2 l3
noncomputable def mX0_stills (s_X0_stills : Nat → Int32 → Int32 → Wd → Option (Int32 × Wd)) (this : Nat) (a0 : Int32) (a1 : Int32) (w : Wd) : Option (Int32 × Wd) :=
if ¬ a0 = a1 then (
mX0_stills_l18 s_X0_stills FU w ((some this)) a0 a1 (-1))
else (
(gR w ((some this)) 0 11).bind fun v1 =>
(aa w v1 a0).bind fun v2 =>
(recv w ((some this)) 0).bind fun b4 => (cal w (mX0_hangsStill b4 v2 w)).bind fun r3 =>
(nok (.boolean) r3.1).bind fun _ => some (r3.1, r3.2))
noncomputable def rX0_stills : Nat → Nat → Int32 → Int32 → Wd → Option (Int32 × Wd)
  | 0 => fun _ _ _ _ => none
  | d + 1 => mX0_stills (rX0_stills d)
theorem eX0_stills_b18 {y : Fx (Int32 × Wd)} {F L F9 L9 : Nat} (hk : OkF y RX0 cX0_stills 4 F L) (hR : RetM y rvI (some (.boolean))) (hF1 : F9 + 1 ≤ F ∧ 60 + L9 ≤ L) (hF2 : 109 ≤ F ∧ 6224 ≤ L) {s_X0_stills : Nat → Int32 → Int32 → Wd → Option (Int32 × Wd)} (hs_X0_stills : ∀ (b : Nat) (a0 : Int32) (a1 : Int32) (w : Wd) r, s_X0_stills b a0 a1 w = some r → Ct (fl y) (fK y) F9 L9 yX0_stills (ws_ yX0_stills cX0_stills 4 (some (.boolean))) [.ref b, .int a0, .int a1] w (rvI r.1) r.2) {k18 : Wd → (Option Nat) → Int32 → Int32 → Int32 → Option (Int32 × Wd)} (h18 : ∀ (w : Wd) (l0 : Option Nat) (l1 : Int32) (l2 : Int32) (l3 : Int32), V y w [(0, va_rf l0), (1, .int l1), (2, .int l2), (3, .int l3)] [] 18 (k18 w l0 l1 l2 l3)) (w : Wd) (l0 : Option Nat) (l1 : Int32) (l2 : Int32) (l3 : Int32) : V y w [(0, va_rf l0), (1, .int l1), (2, .int l2), (3, .int l3)] [] 18 (mX0_stills_b18 s_X0_stills k18 w l0 l1 l2 l3) := by
  unfold mX0_stills_b18
  refine V_iload_n (pc := 18) hk dX0_stills_18 3 rfl ?_
  refine V_iconst (pc := 19) (v := 2) hk dX0_stills_19 rfl ?_
  refine V_icmp_ge (pc := 20) (tgt := 79) hk dX0_stills_20 rfl ?_ ?_
  · refine V_iconst (pc := 79) (v := 0) hk dX0_stills_79 rfl ?_
    exact V_zreturn (pc := 80) hk hR rfl dX0_stills_80
  · refine V_aload_n (pc := 23) hk dX0_stills_23 0 rfl ?_
    refine g_X0_51 (pc := 24) hk dX0_stills_24 (fun v1 => ?_)
    refine V_iload_n (pc := 27) hk dX0_stills_27 1 rfl ?_
    refine V_iload_n (pc := 28) hk dX0_stills_28 3 rfl ?_
    refine V_iastore (pc := 29) hk dX0_stills_29 (fun w2 => ?_)
    refine V_aload_n (pc := 30) hk dX0_stills_30 0 rfl ?_
    refine g_X0_48 (pc := 31) hk dX0_stills_31 (fun v3 => ?_)
    refine V_iload_n (pc := 34) hk dX0_stills_34 1 rfl ?_
    refine V_aaload (pc := 35) hk dX0_stills_35 (fun v4 => ?_)
    refine V_aload_n (pc := 36) hk dX0_stills_36 0 rfl ?_
    refine g_X0_48 (pc := 37) hk dX0_stills_37 (fun v5 => ?_)
    refine V_iload_n (pc := 40) hk dX0_stills_40 1 rfl ?_
    refine V_iconst (pc := 41) (v := 1) hk dX0_stills_41 rfl ?_
    refine V_iadd (pc := 42) hk dX0_stills_42 ?_
    refine V_aaload (pc := 43) hk dX0_stills_43 (fun v6 => ?_)
    refine n_X0_89 (pc := 44) hk (fun r h => ctX1_copy (fl y) (fK y) hk.2.2.2.2.2.2.2.1 v4 v6 w2 r h) ⟨by omega, by omega⟩ (Nat.le_of_ble_eq_true rfl) dX0_stills_44 (fun r7 => ?_)
    refine V_aload_n (pc := 47) hk dX0_stills_47 0 rfl ?_
    refine V_aload_n (pc := 48) hk dX0_stills_48 0 rfl ?_
    refine g_X0_48 (pc := 49) hk dX0_stills_49 (fun v8 => ?_)
    refine V_iload_n (pc := 52) hk dX0_stills_52 1 rfl ?_
    refine V_iconst (pc := 53) (v := 1) hk dX0_stills_53 rfl ?_
    refine V_iadd (pc := 54) hk dX0_stills_54 ?_
    refine V_aaload (pc := 55) hk dX0_stills_55 (fun v9 => ?_)
    refine V_iload_n (pc := 56) hk dX0_stills_56 3 rfl ?_
    refine n_X0_203 (pc := 57) hk (fun b r h => ctX0_tenth (fl y) (fK y) hk.2.2.2.2.2.2.2.1 b v9 l3 r7.2 r h) ⟨by omega, by omega⟩ (Nat.le_of_ble_eq_true rfl) dX0_stills_57 (fun r10 => ?_)
    refine V_aload_n (pc := 60) hk dX0_stills_60 0 rfl ?_
    refine V_iload_n (pc := 61) hk dX0_stills_61 1 rfl ?_
    refine V_iconst (pc := 62) (v := 1) hk dX0_stills_62 rfl ?_
    refine V_iadd (pc := 63) hk dX0_stills_63 ?_
    refine V_iload_n (pc := 64) hk dX0_stills_64 2 rfl ?_
    refine n_X0_313 (pc := 65) hk (fun b r h => hs_X0_stills b (l1 + 1) l2 r10.2 r h) ⟨by omega, by omega⟩ (Nat.le_of_ble_eq_true rfl) dX0_stills_65 (fun r12 => ?_)
    refine V_if_eq (pc := 68) (tgt := 73) hk dX0_stills_68 rfl ?_ ?_
    · refine V_iinc (pc := 73) (v := 1) (lc' := [(3, .int (l3 + 1)), (0, va_rf l0), (1, .int l1), (2, .int l2)]) hk dX0_stills_73 3 rfl rfl (Nat.le_of_ble_eq_true rfl) rfl ?_
      refine V_goto (pc := 76) (tgt := 18) hk dX0_stills_76 rfl ?_
      refine V_pick (lc' := [(0, va_rf l0), (1, .int l1), (2, .int l2), (3, .int (l3 + 1))]) [1, 2, 3, 0] rfl ?_
      exact h18 r12.2 l0 l1 l2 (l3 + 1)
    · refine V_iconst (pc := 71) (v := 1) hk dX0_stills_71 rfl ?_
      exact V_zreturn (pc := 72) hk hR rfl dX0_stills_72
theorem eX0_stills_l18 {y : Fx (Int32 × Wd)} {F L F9 L9 : Nat} (hk : OkF y RX0 cX0_stills 4 F L) (hR : RetM y rvI (some (.boolean))) (hF1 : F9 + 1 ≤ F ∧ 60 + L9 ≤ L) (hF2 : 109 ≤ F ∧ 6224 ≤ L) {s_X0_stills : Nat → Int32 → Int32 → Wd → Option (Int32 × Wd)} (hs_X0_stills : ∀ (b : Nat) (a0 : Int32) (a1 : Int32) (w : Wd) r, s_X0_stills b a0 a1 w = some r → Ct (fl y) (fK y) F9 L9 yX0_stills (ws_ yX0_stills cX0_stills 4 (some (.boolean))) [.ref b, .int a0, .int a1] w (rvI r.1) r.2) : ∀ (n : Nat) (w : Wd) (l0 : Option Nat) (l1 : Int32) (l2 : Int32) (l3 : Int32), V y w [(0, va_rf l0), (1, .int l1), (2, .int l2), (3, .int l3)] [] 18 (mX0_stills_l18 s_X0_stills n w l0 l1 l2 l3) := by
  intro n
  induction n with
  | zero => intro w l0 l1 l2 l3; exact V_none
  | succ n ih => intro w l0 l1 l2 l3; exact eX0_stills_b18 hk hR hF1 hF2 hs_X0_stills ih w l0 l1 l2 l3
theorem eX0_stills {y : Fx (Int32 × Wd)} {F L F9 L9 : Nat} (hk : OkF y RX0 cX0_stills 4 F L) (hR : RetM y rvI (some (.boolean))) (hF1 : F9 + 1 ≤ F ∧ 60 + L9 ≤ L) (hF2 : 109 ≤ F ∧ 6224 ≤ L) {s_X0_stills : Nat → Int32 → Int32 → Wd → Option (Int32 × Wd)} (hs_X0_stills : ∀ (b : Nat) (a0 : Int32) (a1 : Int32) (w : Wd) r, s_X0_stills b a0 a1 w = some r → Ct (fl y) (fK y) F9 L9 yX0_stills (ws_ yX0_stills cX0_stills 4 (some (.boolean))) [.ref b, .int a0, .int a1] w (rvI r.1) r.2) (this : Nat) (a0 : Int32) (a1 : Int32) (w : Wd) : V y w [(0, va_rf (some this)), (1, .int a0), (2, .int a1)] [] 0 (mX0_stills s_X0_stills this a0 a1 w) := by
  unfold mX0_stills
  refine V_iload_n (pc := 0) hk dX0_stills_0 1 rfl ?_
  refine V_iload_n (pc := 1) hk dX0_stills_1 2 rfl ?_
  refine V_icmp_ne (pc := 2) (tgt := 16) hk dX0_stills_2 rfl ?_ ?_
  · refine V_iconst (pc := 16) (v := (-1)) hk dX0_stills_16 (by decide +kernel) ?_
    refine V_istore_n (pc := 17) (lc' := [(3, .int (-1)), (0, va_rf ((some this))), (1, .int a0), (2, .int a1)]) (i := 3) hk dX0_stills_17 rfl (Nat.le_of_ble_eq_true rfl) rfl ?_
    refine V_pick (lc' := [(0, va_rf ((some this))), (1, .int a0), (2, .int a1), (3, .int (-1))]) [1, 2, 3, 0] rfl ?_
    exact eX0_stills_l18 hk hR hF1 hF2 hs_X0_stills FU w ((some this)) a0 a1 (-1)
  · refine V_aload_n (pc := 5) hk dX0_stills_5 0 rfl ?_
    refine V_aload_n (pc := 6) hk dX0_stills_6 0 rfl ?_
    refine g_X0_48 (pc := 7) hk dX0_stills_7 (fun v1 => ?_)
    refine V_iload_n (pc := 10) hk dX0_stills_10 1 rfl ?_
    refine V_aaload (pc := 11) hk dX0_stills_11 (fun v2 => ?_)
    refine n_X0_221 (pc := 12) hk (fun b r h => ctX0_hangsStill (fl y) (fK y) hk.2.2.2.2.2.2.2.1 b v2 w r h) ⟨by omega, by omega⟩ (Nat.le_of_ble_eq_true rfl) dX0_stills_12 (fun r3 => ?_)
    exact V_zreturn (pc := 15) hk hR rfl dX0_stills_15
theorem crX0_stills (l : Launch) (K : Kx) (hI : Ini K) : ∀ (d : Nat) (b : Nat) (a0 : Int32) (a1 : Int32) (w : Wd) (r : Int32 × Wd), rX0_stills d b a0 a1 w = some r → Ct l K (109 + d) (6224 + 60 * d) yX0_stills (ws_ yX0_stills cX0_stills 4 (some (.boolean))) [.ref b, .int a0, .int a1] w (rvI r.1) r.2 := by
  intro d
  induction d with
  | zero => intro b a0 a1 w r h; cases h
  | succ d ih =>
    intro b a0 a1 w
    exact Ct_of rvI l K hI (109 + (d + 1)) (6224 + 60 * (d + 1)) [.ref b, .int a0, .int a1] w (by decide) (lc0 := [(0, .ref b), (1, .int a0), (2, .int a1)]) rfl (Nat.le_of_ble_eq_true rfl) (fun y hk hR hl hK hin => eX0_stills (F9 := 109 + d) (L9 := 6224 + 60 * d) hk hR ⟨by omega, by omega⟩ ⟨by omega, by omega⟩ (by rw [hl, hK]; exact ih) b a0 a1 w)
noncomputable def mX0_soonest_b26 (k26 : Wd → (Option Nat) → Int32 → Int32 → Option (Int32 × Wd)) (w : Wd) (l0 : Option Nat) (l1 : Int32) (l2 : Int32) : Option (Int32 × Wd) :=
if 7 < l2 then (
some ((-2), w))
else (
(recv w l0 0).bind fun b2 => (cal w (rX0_stills 10 b2 0 l2 w)).bind fun r1 =>
if r1.1 = 0 then (
k26 r1.2 l0 l1 (l2 + 1))
else (
if ¬ l1 = (-1) then (
if l2 ≤ l1 then (
some ((-2), r1.2))
else (
(gR r1.2 l0 0 12).bind fun v3 =>
(ia r1.2 v3 l1).bind fun v4 =>
some (v4, r1.2)))
else (
some (l2, r1.2))))
noncomputable def mX0_soonest_l26 : Nat → Wd → (Option Nat) → Int32 → Int32 → Option (Int32 × Wd)
  | 0, _, _, _, _ => none
  | n + 1, w, l0, l1, l2 => mX0_soonest_b26 (mX0_soonest_l26 n) w l0 l1 l2
noncomputable def mX0_soonest (this : Nat) (a0 : Int32) (w : Wd) : Option (Int32 × Wd) :=
if (-1) ≤ a0 then (
(gR w ((some this)) 0 0).bind fun v1 =>
(gR w v1 1 1).bind fun v2 =>
(gR w ((some this)) 0 11).bind fun v3 =>
(aa w v3 0).bind fun v4 =>
(cal w (mX1_copy v2 v4 w)).bind fun r5 =>
mX0_soonest_l26 FU r5.2 ((some this)) a0 0)
else (
some ((-2), w))
theorem eX0_soonest_b26 {y : Fx (Int32 × Wd)} (hk : OkF y RX0 cX0_soonest 3 120 6847) (hR : RetM y rvI (some (.int))) {k26 : Wd → (Option Nat) → Int32 → Int32 → Option (Int32 × Wd)} (h26 : ∀ (w : Wd) (l0 : Option Nat) (l1 : Int32) (l2 : Int32), V y w [(0, va_rf l0), (1, .int l1), (2, .int l2)] [] 26 (k26 w l0 l1 l2)) (w : Wd) (l0 : Option Nat) (l1 : Int32) (l2 : Int32) : V y w [(0, va_rf l0), (1, .int l1), (2, .int l2)] [] 26 (mX0_soonest_b26 k26 w l0 l1 l2) := by
  unfold mX0_soonest_b26
  refine V_iload_n (pc := 26) hk dX0_soonest_26 2 rfl ?_
  refine V_bipush (pc := 27) (v := 7) hk dX0_soonest_27 rfl ?_
  refine V_icmp_gt (pc := 29) (tgt := 73) hk dX0_soonest_29 rfl ?_ ?_
  · refine V_bipush (pc := 73) (v := (-2)) hk dX0_soonest_73 (by decide +kernel) ?_
    exact V_ireturn (pc := 75) hk hR rfl dX0_soonest_75
  · refine V_aload_n (pc := 32) hk dX0_soonest_32 0 rfl ?_
    refine V_iconst (pc := 33) (v := 0) hk dX0_soonest_33 rfl ?_
    refine V_iload_n (pc := 34) hk dX0_soonest_34 2 rfl ?_
    refine n_X0_313 (pc := 35) hk (fun b r h => crX0_stills (fl y) (fK y) hk.2.2.2.2.2.2.2.1 10 b 0 l2 w r h) ⟨Nat.le_of_ble_eq_true rfl, Nat.le_of_ble_eq_true rfl⟩ (Nat.le_of_ble_eq_true rfl) dX0_soonest_35 (fun r1 => ?_)
    refine V_if_eq (pc := 38) (tgt := 67) hk dX0_soonest_38 rfl ?_ ?_
    · refine V_iinc (pc := 67) (v := 1) (lc' := [(2, .int (l2 + 1)), (0, va_rf l0), (1, .int l1)]) hk dX0_soonest_67 2 rfl rfl (Nat.le_of_ble_eq_true rfl) rfl ?_
      refine V_goto (pc := 70) (tgt := 26) hk dX0_soonest_70 rfl ?_
      refine V_pick (lc' := [(0, va_rf l0), (1, .int l1), (2, .int (l2 + 1))]) [1, 2, 0] rfl ?_
      exact h26 r1.2 l0 l1 (l2 + 1)
    · refine V_iload_n (pc := 41) hk dX0_soonest_41 1 rfl ?_
      refine V_iconst (pc := 42) (v := (-1)) hk dX0_soonest_42 (by decide +kernel) ?_
      refine V_icmp_ne (pc := 43) (tgt := 50) hk dX0_soonest_43 rfl ?_ ?_
      · refine V_iload_n (pc := 50) hk dX0_soonest_50 1 rfl ?_
        refine V_iload_n (pc := 51) hk dX0_soonest_51 2 rfl ?_
        refine V_icmp_ge (pc := 52) (tgt := 64) hk dX0_soonest_52 rfl ?_ ?_
        · refine V_bipush (pc := 64) (v := (-2)) hk dX0_soonest_64 (by decide +kernel) ?_
          exact V_ireturn (pc := 66) hk hR rfl dX0_soonest_66
        · refine V_aload_n (pc := 55) hk dX0_soonest_55 0 rfl ?_
          refine g_X0_51 (pc := 56) hk dX0_soonest_56 (fun v3 => ?_)
          refine V_iload_n (pc := 59) hk dX0_soonest_59 1 rfl ?_
          refine V_iaload (pc := 60) hk dX0_soonest_60 (fun v4 => ?_)
          refine V_goto (pc := 61) (tgt := 66) hk dX0_soonest_61 rfl ?_
          exact V_ireturn (pc := 66) hk hR rfl dX0_soonest_66
      · refine V_iload_n (pc := 46) hk dX0_soonest_46 2 rfl ?_
        refine V_goto (pc := 47) (tgt := 66) hk dX0_soonest_47 rfl ?_
        exact V_ireturn (pc := 66) hk hR rfl dX0_soonest_66
theorem eX0_soonest_l26 {y : Fx (Int32 × Wd)} (hk : OkF y RX0 cX0_soonest 3 120 6847) (hR : RetM y rvI (some (.int))) : ∀ (n : Nat) (w : Wd) (l0 : Option Nat) (l1 : Int32) (l2 : Int32), V y w [(0, va_rf l0), (1, .int l1), (2, .int l2)] [] 26 (mX0_soonest_l26 n w l0 l1 l2) := by
  intro n
  induction n with
  | zero => intro w l0 l1 l2; exact V_none
  | succ n ih => intro w l0 l1 l2; exact eX0_soonest_b26 hk hR ih w l0 l1 l2
theorem eX0_soonest {y : Fx (Int32 × Wd)} (hk : OkF y RX0 cX0_soonest 3 120 6847) (hR : RetM y rvI (some (.int))) (this : Nat) (a0 : Int32) (w : Wd) : V y w [(0, va_rf (some this)), (1, .int a0)] [] 0 (mX0_soonest this a0 w) := by
  unfold mX0_soonest
  refine V_iload_n (pc := 0) hk dX0_soonest_0 1 rfl ?_
  refine V_iconst (pc := 1) (v := (-1)) hk dX0_soonest_1 (by decide +kernel) ?_
  refine V_icmp_ge (pc := 2) (tgt := 8) hk dX0_soonest_2 rfl ?_ ?_
  · refine V_aload_n (pc := 8) hk dX0_soonest_8 0 rfl ?_
    refine g_X0_21 (pc := 9) hk dX0_soonest_9 (fun v1 => ?_)
    refine g_X0_176 (pc := 12) hk dX0_soonest_12 (fun v2 => ?_)
    refine V_aload_n (pc := 15) hk dX0_soonest_15 0 rfl ?_
    refine g_X0_48 (pc := 16) hk dX0_soonest_16 (fun v3 => ?_)
    refine V_iconst (pc := 19) (v := 0) hk dX0_soonest_19 rfl ?_
    refine V_aaload (pc := 20) hk dX0_soonest_20 (fun v4 => ?_)
    refine n_X0_89 (pc := 21) hk (fun r h => ctX1_copy (fl y) (fK y) hk.2.2.2.2.2.2.2.1 v2 v4 w r h) ⟨Nat.le_of_ble_eq_true rfl, Nat.le_of_ble_eq_true rfl⟩ (Nat.le_of_ble_eq_true rfl) dX0_soonest_21 (fun r5 => ?_)
    refine V_iconst (pc := 24) (v := 0) hk dX0_soonest_24 rfl ?_
    refine V_istore_n (pc := 25) (lc' := [(2, .int 0), (0, va_rf ((some this))), (1, .int a0)]) (i := 2) hk dX0_soonest_25 rfl (Nat.le_of_ble_eq_true rfl) rfl ?_
    refine V_pick (lc' := [(0, va_rf ((some this))), (1, .int a0), (2, .int 0)]) [1, 2, 0] rfl ?_
    exact eX0_soonest_l26 hk hR FU r5.2 ((some this)) a0 0
  · refine V_bipush (pc := 5) (v := (-2)) hk dX0_soonest_5 (by decide +kernel) ?_
    exact V_ireturn (pc := 7) hk hR rfl dX0_soonest_7
theorem ctX0_soonest (l : Launch) (K : Kx) (hI : Ini K) (b : Nat) (a0 : Int32) (w : Wd) : ∀ r, mX0_soonest b a0 w = some r → Ct l K 120 6847 yX0_soonest (ws_ yX0_soonest cX0_soonest 3 (some (.int))) [.ref b, .int a0] w (rvI r.1) r.2 := Ct_of rvI l K hI 120 6847 [.ref b, .int a0] w (by decide) (lc0 := [(0, .ref b), (1, .int a0)]) rfl (Nat.le_of_ble_eq_true rfl) (fun y hk hR _ _ hin => eX0_soonest hk hR b a0 w)
noncomputable def mX0_stillsBy_p48 (s_X0_stillsBy : Nat → Int32 → Int32 → Int32 → Wd → Option (Int32 × Wd)) (k31 : Wd → (Option Nat) → Int32 → Int32 → Int32 → Int32 → Option (Int32 × Wd)) (w : Wd) (l0 : Option Nat) (l1 : Int32) (l2 : Int32) (l3 : Int32) (l4 : Int32) (t0 : Int32) (t1 : Int32) : Option (Int32 × Wd) :=
if (t1 - t0) < 0 then (
k31 w l0 l1 l2 l3 (l4 + 1))
else (
if (t1 - t0) ≤ ((l2 - l1) - 1) then (
(gR w l0 0 12).bind fun v1 =>
(ias w v1 l1 l4).bind fun w2 =>
(gR w2 l0 0 11).bind fun v3 =>
(aa w2 v3 l1).bind fun v4 =>
(gR w2 l0 0 11).bind fun v5 =>
(aa w2 v5 (l1 + 1)).bind fun v6 =>
(cal w2 (mX1_copy v4 v6 w2)).bind fun r7 =>
(gR r7.2 l0 0 11).bind fun v8 =>
(aa r7.2 v8 (l1 + 1)).bind fun v9 =>
(recv r7.2 l0 0).bind fun b11 => (cal r7.2 (mX0_tenth b11 v9 l4 r7.2)).bind fun r10 =>
(recv r10.2 l0 0).bind fun b13 => (cal r10.2 (s_X0_stillsBy b13 (l1 + 1) l2 (t1 - t0) r10.2)).bind fun r12 =>
if r12.1 = 0 then (
k31 r12.2 l0 l1 l2 l3 (l4 + 1))
else (
(nok (.boolean) 1).bind fun _ => some (1, r12.2)))
else (
k31 w l0 l1 l2 l3 (l4 + 1)))
noncomputable def mX0_stillsBy_b31 (s_X0_stillsBy : Nat → Int32 → Int32 → Int32 → Wd → Option (Int32 × Wd)) (k31 : Wd → (Option Nat) → Int32 → Int32 → Int32 → Int32 → Option (Int32 × Wd)) (w : Wd) (l0 : Option Nat) (l1 : Int32) (l2 : Int32) (l3 : Int32) (l4 : Int32) : Option (Int32 × Wd) :=
if 2 ≤ l4 then (
(nok (.boolean) 0).bind fun _ => some (0, w))
else (
if ¬ l4 = 0 then (
mX0_stillsBy_p48 s_X0_stillsBy k31 w l0 l1 l2 l3 l4 1 l3)
else (
mX0_stillsBy_p48 s_X0_stillsBy k31 w l0 l1 l2 l3 l4 0 l3))
noncomputable def mX0_stillsBy_l31 (s_X0_stillsBy : Nat → Int32 → Int32 → Int32 → Wd → Option (Int32 × Wd)) : Nat → Wd → (Option Nat) → Int32 → Int32 → Int32 → Int32 → Option (Int32 × Wd)
  | 0, _, _, _, _, _, _ => none
  | n + 1, w, l0, l1, l2, l3, l4 => mX0_stillsBy_b31 s_X0_stillsBy (mX0_stillsBy_l31 s_X0_stillsBy n) w l0 l1 l2 l3 l4
noncomputable def mX0_stillsBy (s_X0_stillsBy : Nat → Int32 → Int32 → Int32 → Wd → Option (Int32 × Wd)) (this : Nat) (a0 : Int32) (a1 : Int32) (a2 : Int32) (w : Wd) : Option (Int32 × Wd) :=
if ¬ a0 = a1 then (
mX0_stillsBy_l31 s_X0_stillsBy FU w ((some this)) a0 a1 a2 (-1))
else (
if ¬ a2 = 0 then (
(nok (.boolean) 0).bind fun _ => some (0, w))
else (
(gR w ((some this)) 0 11).bind fun v1 =>
(aa w v1 a0).bind fun v2 =>
(recv w ((some this)) 0).bind fun b4 => (cal w (mX0_hangsStill b4 v2 w)).bind fun r3 =>
if r3.1 = 0 then (
(nok (.boolean) 0).bind fun _ => some (0, r3.2))
else (
(nok (.boolean) 1).bind fun _ => some (1, r3.2))))
noncomputable def rX0_stillsBy : Nat → Nat → Int32 → Int32 → Int32 → Wd → Option (Int32 × Wd)
  | 0 => fun _ _ _ _ _ => none
  | d + 1 => mX0_stillsBy (rX0_stillsBy d)
theorem eX0_stillsBy_p48 {y : Fx (Int32 × Wd)} {F L F9 L9 : Nat} (hk : OkF y RX0 cX0_stillsBy 6 F L) (hR : RetM y rvI (some (.boolean))) (hF1 : F9 + 1 ≤ F ∧ 60 + L9 ≤ L) (hF2 : 109 ≤ F ∧ 6224 ≤ L) {s_X0_stillsBy : Nat → Int32 → Int32 → Int32 → Wd → Option (Int32 × Wd)} (hs_X0_stillsBy : ∀ (b : Nat) (a0 : Int32) (a1 : Int32) (a2 : Int32) (w : Wd) r, s_X0_stillsBy b a0 a1 a2 w = some r → Ct (fl y) (fK y) F9 L9 yX0_stillsBy (ws_ yX0_stillsBy cX0_stillsBy 6 (some (.boolean))) [.ref b, .int a0, .int a1, .int a2] w (rvI r.1) r.2) {k31 : Wd → (Option Nat) → Int32 → Int32 → Int32 → Int32 → Option (Int32 × Wd)} (h31 : ∀ (w : Wd) (l0 : Option Nat) (l1 : Int32) (l2 : Int32) (l3 : Int32) (l4 : Int32), V y w [(0, va_rf l0), (1, .int l1), (2, .int l2), (3, .int l3), (4, .int l4)] [] 31 (k31 w l0 l1 l2 l3 l4)) (w : Wd) (l0 : Option Nat) (l1 : Int32) (l2 : Int32) (l3 : Int32) (l4 : Int32) (t0 : Int32) (t1 : Int32) : V y w [(0, va_rf l0), (1, .int l1), (2, .int l2), (3, .int l3), (4, .int l4)] [.int t0, .int t1] 48 (mX0_stillsBy_p48 s_X0_stillsBy k31 w l0 l1 l2 l3 l4 t0 t1) := by
  unfold mX0_stillsBy_p48
  refine V_isub (pc := 48) hk dX0_stillsBy_48 ?_
  refine V_istore (pc := 49) (lc' := [(5, .int (t1 - t0)), (0, va_rf l0), (1, .int l1), (2, .int l2), (3, .int l3), (4, .int l4)]) (i := 5) hk dX0_stillsBy_49 (Nat.le_of_ble_eq_true rfl) rfl ?_
  refine V_iload (pc := 51) hk dX0_stillsBy_51 0 rfl ?_
  refine V_if_lt (pc := 53) (tgt := 123) hk dX0_stillsBy_53 rfl ?_ ?_
  · refine V_iinc (pc := 123) (v := 1) (lc' := [(4, .int (l4 + 1)), (5, .int (t1 - t0)), (0, va_rf l0), (1, .int l1), (2, .int l2), (3, .int l3)]) hk dX0_stillsBy_123 5 rfl rfl (Nat.le_of_ble_eq_true rfl) rfl ?_
    refine V_goto (pc := 126) (tgt := 31) hk dX0_stillsBy_126 rfl ?_
    refine V_pick (lc' := [(0, va_rf l0), (1, .int l1), (2, .int l2), (3, .int l3), (4, .int (l4 + 1))]) [2, 3, 4, 5, 0] rfl ?_
    exact h31 w l0 l1 l2 l3 (l4 + 1)
  · refine V_iload (pc := 56) hk dX0_stillsBy_56 0 rfl ?_
    refine V_iload_n (pc := 58) hk dX0_stillsBy_58 3 rfl ?_
    refine V_iload_n (pc := 59) hk dX0_stillsBy_59 2 rfl ?_
    refine V_isub (pc := 60) hk dX0_stillsBy_60 ?_
    refine V_iconst (pc := 61) (v := 1) hk dX0_stillsBy_61 rfl ?_
    refine V_isub (pc := 62) hk dX0_stillsBy_62 ?_
    refine V_icmp_le (pc := 63) (tgt := 69) hk dX0_stillsBy_63 rfl ?_ ?_
    · refine V_aload_n (pc := 69) hk dX0_stillsBy_69 1 rfl ?_
      refine g_X0_51 (pc := 70) hk dX0_stillsBy_70 (fun v1 => ?_)
      refine V_iload_n (pc := 73) hk dX0_stillsBy_73 2 rfl ?_
      refine V_iload (pc := 74) hk dX0_stillsBy_74 5 rfl ?_
      refine V_iastore (pc := 76) hk dX0_stillsBy_76 (fun w2 => ?_)
      refine V_aload_n (pc := 77) hk dX0_stillsBy_77 1 rfl ?_
      refine g_X0_48 (pc := 78) hk dX0_stillsBy_78 (fun v3 => ?_)
      refine V_iload_n (pc := 81) hk dX0_stillsBy_81 2 rfl ?_
      refine V_aaload (pc := 82) hk dX0_stillsBy_82 (fun v4 => ?_)
      refine V_aload_n (pc := 83) hk dX0_stillsBy_83 1 rfl ?_
      refine g_X0_48 (pc := 84) hk dX0_stillsBy_84 (fun v5 => ?_)
      refine V_iload_n (pc := 87) hk dX0_stillsBy_87 2 rfl ?_
      refine V_iconst (pc := 88) (v := 1) hk dX0_stillsBy_88 rfl ?_
      refine V_iadd (pc := 89) hk dX0_stillsBy_89 ?_
      refine V_aaload (pc := 90) hk dX0_stillsBy_90 (fun v6 => ?_)
      refine n_X0_89 (pc := 91) hk (fun r h => ctX1_copy (fl y) (fK y) hk.2.2.2.2.2.2.2.1 v4 v6 w2 r h) ⟨by omega, by omega⟩ (Nat.le_of_ble_eq_true rfl) dX0_stillsBy_91 (fun r7 => ?_)
      refine V_aload_n (pc := 94) hk dX0_stillsBy_94 1 rfl ?_
      refine V_aload_n (pc := 95) hk dX0_stillsBy_95 1 rfl ?_
      refine g_X0_48 (pc := 96) hk dX0_stillsBy_96 (fun v8 => ?_)
      refine V_iload_n (pc := 99) hk dX0_stillsBy_99 2 rfl ?_
      refine V_iconst (pc := 100) (v := 1) hk dX0_stillsBy_100 rfl ?_
      refine V_iadd (pc := 101) hk dX0_stillsBy_101 ?_
      refine V_aaload (pc := 102) hk dX0_stillsBy_102 (fun v9 => ?_)
      refine V_iload (pc := 103) hk dX0_stillsBy_103 5 rfl ?_
      refine n_X0_203 (pc := 105) hk (fun b r h => ctX0_tenth (fl y) (fK y) hk.2.2.2.2.2.2.2.1 b v9 l4 r7.2 r h) ⟨by omega, by omega⟩ (Nat.le_of_ble_eq_true rfl) dX0_stillsBy_105 (fun r10 => ?_)
      refine V_aload_n (pc := 108) hk dX0_stillsBy_108 1 rfl ?_
      refine V_iload_n (pc := 109) hk dX0_stillsBy_109 2 rfl ?_
      refine V_iconst (pc := 110) (v := 1) hk dX0_stillsBy_110 rfl ?_
      refine V_iadd (pc := 111) hk dX0_stillsBy_111 ?_
      refine V_iload_n (pc := 112) hk dX0_stillsBy_112 3 rfl ?_
      refine V_iload (pc := 113) hk dX0_stillsBy_113 0 rfl ?_
      refine n_X0_316 (pc := 115) hk (fun b r h => hs_X0_stillsBy b (l1 + 1) l2 (t1 - t0) r10.2 r h) ⟨by omega, by omega⟩ (Nat.le_of_ble_eq_true rfl) dX0_stillsBy_115 (fun r12 => ?_)
      refine V_if_eq (pc := 118) (tgt := 123) hk dX0_stillsBy_118 rfl ?_ ?_
      · refine V_iinc (pc := 123) (v := 1) (lc' := [(4, .int (l4 + 1)), (5, .int (t1 - t0)), (0, va_rf l0), (1, .int l1), (2, .int l2), (3, .int l3)]) hk dX0_stillsBy_123 5 rfl rfl (Nat.le_of_ble_eq_true rfl) rfl ?_
        refine V_goto (pc := 126) (tgt := 31) hk dX0_stillsBy_126 rfl ?_
        refine V_pick (lc' := [(0, va_rf l0), (1, .int l1), (2, .int l2), (3, .int l3), (4, .int (l4 + 1))]) [2, 3, 4, 5, 0] rfl ?_
        exact h31 r12.2 l0 l1 l2 l3 (l4 + 1)
      · refine V_iconst (pc := 121) (v := 1) hk dX0_stillsBy_121 rfl ?_
        exact V_zreturn (pc := 122) hk hR rfl dX0_stillsBy_122
    · refine V_goto (pc := 66) (tgt := 123) hk dX0_stillsBy_66 rfl ?_
      refine V_iinc (pc := 123) (v := 1) (lc' := [(4, .int (l4 + 1)), (5, .int (t1 - t0)), (0, va_rf l0), (1, .int l1), (2, .int l2), (3, .int l3)]) hk dX0_stillsBy_123 5 rfl rfl (Nat.le_of_ble_eq_true rfl) rfl ?_
      refine V_goto (pc := 126) (tgt := 31) hk dX0_stillsBy_126 rfl ?_
      refine V_pick (lc' := [(0, va_rf l0), (1, .int l1), (2, .int l2), (3, .int l3), (4, .int (l4 + 1))]) [2, 3, 4, 5, 0] rfl ?_
      exact h31 w l0 l1 l2 l3 (l4 + 1)
theorem eX0_stillsBy_b31 {y : Fx (Int32 × Wd)} {F L F9 L9 : Nat} (hk : OkF y RX0 cX0_stillsBy 6 F L) (hR : RetM y rvI (some (.boolean))) (hF1 : F9 + 1 ≤ F ∧ 60 + L9 ≤ L) (hF2 : 109 ≤ F ∧ 6224 ≤ L) {s_X0_stillsBy : Nat → Int32 → Int32 → Int32 → Wd → Option (Int32 × Wd)} (hs_X0_stillsBy : ∀ (b : Nat) (a0 : Int32) (a1 : Int32) (a2 : Int32) (w : Wd) r, s_X0_stillsBy b a0 a1 a2 w = some r → Ct (fl y) (fK y) F9 L9 yX0_stillsBy (ws_ yX0_stillsBy cX0_stillsBy 6 (some (.boolean))) [.ref b, .int a0, .int a1, .int a2] w (rvI r.1) r.2) {k31 : Wd → (Option Nat) → Int32 → Int32 → Int32 → Int32 → Option (Int32 × Wd)} (h31 : ∀ (w : Wd) (l0 : Option Nat) (l1 : Int32) (l2 : Int32) (l3 : Int32) (l4 : Int32), V y w [(0, va_rf l0), (1, .int l1), (2, .int l2), (3, .int l3), (4, .int l4)] [] 31 (k31 w l0 l1 l2 l3 l4)) (w : Wd) (l0 : Option Nat) (l1 : Int32) (l2 : Int32) (l3 : Int32) (l4 : Int32) : V y w [(0, va_rf l0), (1, .int l1), (2, .int l2), (3, .int l3), (4, .int l4)] [] 31 (mX0_stillsBy_b31 s_X0_stillsBy k31 w l0 l1 l2 l3 l4) := by
  unfold mX0_stillsBy_b31
  refine V_iload (pc := 31) hk dX0_stillsBy_31 4 rfl ?_
  refine V_iconst (pc := 33) (v := 2) hk dX0_stillsBy_33 rfl ?_
  refine V_icmp_ge (pc := 34) (tgt := 129) hk dX0_stillsBy_34 rfl ?_ ?_
  · refine V_iconst (pc := 129) (v := 0) hk dX0_stillsBy_129 rfl ?_
    exact V_zreturn (pc := 130) hk hR rfl dX0_stillsBy_130
  · refine V_iload_n (pc := 37) hk dX0_stillsBy_37 3 rfl ?_
    refine V_iload (pc := 38) hk dX0_stillsBy_38 4 rfl ?_
    refine V_if_ne (pc := 40) (tgt := 47) hk dX0_stillsBy_40 rfl ?_ ?_
    · refine V_iconst (pc := 47) (v := 1) hk dX0_stillsBy_47 rfl ?_
      exact eX0_stillsBy_p48 hk hR hF1 hF2 hs_X0_stillsBy h31 w l0 l1 l2 l3 l4 1 l3
    · refine V_iconst (pc := 43) (v := 0) hk dX0_stillsBy_43 rfl ?_
      refine V_goto (pc := 44) (tgt := 48) hk dX0_stillsBy_44 rfl ?_
      exact eX0_stillsBy_p48 hk hR hF1 hF2 hs_X0_stillsBy h31 w l0 l1 l2 l3 l4 0 l3
theorem eX0_stillsBy_l31 {y : Fx (Int32 × Wd)} {F L F9 L9 : Nat} (hk : OkF y RX0 cX0_stillsBy 6 F L) (hR : RetM y rvI (some (.boolean))) (hF1 : F9 + 1 ≤ F ∧ 60 + L9 ≤ L) (hF2 : 109 ≤ F ∧ 6224 ≤ L) {s_X0_stillsBy : Nat → Int32 → Int32 → Int32 → Wd → Option (Int32 × Wd)} (hs_X0_stillsBy : ∀ (b : Nat) (a0 : Int32) (a1 : Int32) (a2 : Int32) (w : Wd) r, s_X0_stillsBy b a0 a1 a2 w = some r → Ct (fl y) (fK y) F9 L9 yX0_stillsBy (ws_ yX0_stillsBy cX0_stillsBy 6 (some (.boolean))) [.ref b, .int a0, .int a1, .int a2] w (rvI r.1) r.2) : ∀ (n : Nat) (w : Wd) (l0 : Option Nat) (l1 : Int32) (l2 : Int32) (l3 : Int32) (l4 : Int32), V y w [(0, va_rf l0), (1, .int l1), (2, .int l2), (3, .int l3), (4, .int l4)] [] 31 (mX0_stillsBy_l31 s_X0_stillsBy n w l0 l1 l2 l3 l4) := by
  intro n
  induction n with
  | zero => intro w l0 l1 l2 l3 l4; exact V_none
  | succ n ih => intro w l0 l1 l2 l3 l4; exact eX0_stillsBy_b31 hk hR hF1 hF2 hs_X0_stillsBy ih w l0 l1 l2 l3 l4
theorem eX0_stillsBy {y : Fx (Int32 × Wd)} {F L F9 L9 : Nat} (hk : OkF y RX0 cX0_stillsBy 6 F L) (hR : RetM y rvI (some (.boolean))) (hF1 : F9 + 1 ≤ F ∧ 60 + L9 ≤ L) (hF2 : 109 ≤ F ∧ 6224 ≤ L) {s_X0_stillsBy : Nat → Int32 → Int32 → Int32 → Wd → Option (Int32 × Wd)} (hs_X0_stillsBy : ∀ (b : Nat) (a0 : Int32) (a1 : Int32) (a2 : Int32) (w : Wd) r, s_X0_stillsBy b a0 a1 a2 w = some r → Ct (fl y) (fK y) F9 L9 yX0_stillsBy (ws_ yX0_stillsBy cX0_stillsBy 6 (some (.boolean))) [.ref b, .int a0, .int a1, .int a2] w (rvI r.1) r.2) (this : Nat) (a0 : Int32) (a1 : Int32) (a2 : Int32) (w : Wd) : V y w [(0, va_rf (some this)), (1, .int a0), (2, .int a1), (3, .int a2)] [] 0 (mX0_stillsBy s_X0_stillsBy this a0 a1 a2 w) := by
  unfold mX0_stillsBy
  refine V_iload_n (pc := 0) hk dX0_stillsBy_0 1 rfl ?_
  refine V_iload_n (pc := 1) hk dX0_stillsBy_1 2 rfl ?_
  refine V_icmp_ne (pc := 2) (tgt := 28) hk dX0_stillsBy_2 rfl ?_ ?_
  · refine V_iconst (pc := 28) (v := (-1)) hk dX0_stillsBy_28 (by decide +kernel) ?_
    refine V_istore (pc := 29) (lc' := [(4, .int (-1)), (0, va_rf ((some this))), (1, .int a0), (2, .int a1), (3, .int a2)]) (i := 4) hk dX0_stillsBy_29 (Nat.le_of_ble_eq_true rfl) rfl ?_
    refine V_pick (lc' := [(0, va_rf ((some this))), (1, .int a0), (2, .int a1), (3, .int a2), (4, .int (-1))]) [1, 2, 3, 4, 0] rfl ?_
    exact eX0_stillsBy_l31 hk hR hF1 hF2 hs_X0_stillsBy FU w ((some this)) a0 a1 a2 (-1)
  · refine V_iload_n (pc := 5) hk dX0_stillsBy_5 3 rfl ?_
    refine V_if_ne (pc := 6) (tgt := 26) hk dX0_stillsBy_6 rfl ?_ ?_
    · refine V_iconst (pc := 26) (v := 0) hk dX0_stillsBy_26 rfl ?_
      exact V_zreturn (pc := 27) hk hR rfl dX0_stillsBy_27
    · refine V_aload_n (pc := 9) hk dX0_stillsBy_9 0 rfl ?_
      refine V_aload_n (pc := 10) hk dX0_stillsBy_10 0 rfl ?_
      refine g_X0_48 (pc := 11) hk dX0_stillsBy_11 (fun v1 => ?_)
      refine V_iload_n (pc := 14) hk dX0_stillsBy_14 1 rfl ?_
      refine V_aaload (pc := 15) hk dX0_stillsBy_15 (fun v2 => ?_)
      refine n_X0_221 (pc := 16) hk (fun b r h => ctX0_hangsStill (fl y) (fK y) hk.2.2.2.2.2.2.2.1 b v2 w r h) ⟨by omega, by omega⟩ (Nat.le_of_ble_eq_true rfl) dX0_stillsBy_16 (fun r3 => ?_)
      refine V_if_eq (pc := 19) (tgt := 26) hk dX0_stillsBy_19 rfl ?_ ?_
      · refine V_iconst (pc := 26) (v := 0) hk dX0_stillsBy_26 rfl ?_
        exact V_zreturn (pc := 27) hk hR rfl dX0_stillsBy_27
      · refine V_iconst (pc := 22) (v := 1) hk dX0_stillsBy_22 rfl ?_
        refine V_goto (pc := 23) (tgt := 27) hk dX0_stillsBy_23 rfl ?_
        exact V_zreturn (pc := 27) hk hR rfl dX0_stillsBy_27
theorem crX0_stillsBy (l : Launch) (K : Kx) (hI : Ini K) : ∀ (d : Nat) (b : Nat) (a0 : Int32) (a1 : Int32) (a2 : Int32) (w : Wd) (r : Int32 × Wd), rX0_stillsBy d b a0 a1 a2 w = some r → Ct l K (109 + d) (6224 + 60 * d) yX0_stillsBy (ws_ yX0_stillsBy cX0_stillsBy 6 (some (.boolean))) [.ref b, .int a0, .int a1, .int a2] w (rvI r.1) r.2 := by
  intro d
  induction d with
  | zero => intro b a0 a1 a2 w r h; cases h
  | succ d ih =>
    intro b a0 a1 a2 w
    exact Ct_of rvI l K hI (109 + (d + 1)) (6224 + 60 * (d + 1)) [.ref b, .int a0, .int a1, .int a2] w (by decide) (lc0 := [(0, .ref b), (1, .int a0), (2, .int a1), (3, .int a2)]) rfl (Nat.le_of_ble_eq_true rfl) (fun y hk hR hl hK hin => eX0_stillsBy (F9 := 109 + d) (L9 := 6224 + 60 * d) hk hR ⟨by omega, by omega⟩ ⟨by omega, by omega⟩ (by rw [hl, hK]; exact ih) b a0 a1 a2 w)
noncomputable def mX0_fewest_b34 (k26 : Wd → (Option Nat) → Int32 → Int32 → Option (Int32 × Wd)) (k34 : Wd → (Option Nat) → Int32 → Int32 → Int32 → Option (Int32 × Wd)) (w : Wd) (l0 : Option Nat) (l1 : Int32) (l2 : Int32) (l3 : Int32) : Option (Int32 × Wd) :=
if 7 < l3 then (
k26 w l0 l1 (l2 + 1))
else (
(recv w l0 0).bind fun b2 => (cal w (rX0_stillsBy 10 b2 0 l3 l2 w)).bind fun r1 =>
if ¬ r1.1 = 0 then (
if ¬ l1 = (-1) then (
if l3 ≤ l1 then (
some ((-2), r1.2))
else (
(gR r1.2 l0 0 12).bind fun v3 =>
(ia r1.2 v3 l1).bind fun v4 =>
some (v4, r1.2)))
else (
some (l2, r1.2)))
else (
k34 r1.2 l0 l1 l2 (l3 + 1)))
noncomputable def mX0_fewest_l34 (k26 : Wd → (Option Nat) → Int32 → Int32 → Option (Int32 × Wd)) : Nat → Wd → (Option Nat) → Int32 → Int32 → Int32 → Option (Int32 × Wd)
  | 0, _, _, _, _, _ => none
  | n + 1, w, l0, l1, l2, l3 => mX0_fewest_b34 k26 (mX0_fewest_l34 k26 n) w l0 l1 l2 l3
noncomputable def mX0_fewest_b26 (k26 : Wd → (Option Nat) → Int32 → Int32 → Option (Int32 × Wd)) (w : Wd) (l0 : Option Nat) (l1 : Int32) (l2 : Int32) : Option (Int32 × Wd) :=
if 7 < l2 then (
some ((-2), w))
else (
mX0_fewest_l34 k26 FU w l0 l1 l2 l2)
noncomputable def mX0_fewest_l26 : Nat → Wd → (Option Nat) → Int32 → Int32 → Option (Int32 × Wd)
  | 0, _, _, _, _ => none
  | n + 1, w, l0, l1, l2 => mX0_fewest_b26 (mX0_fewest_l26 n) w l0 l1 l2
noncomputable def mX0_fewest (this : Nat) (a0 : Int32) (w : Wd) : Option (Int32 × Wd) :=
if (-1) ≤ a0 then (
(gR w ((some this)) 0 0).bind fun v1 =>
(gR w v1 1 1).bind fun v2 =>
(gR w ((some this)) 0 11).bind fun v3 =>
(aa w v3 0).bind fun v4 =>
(cal w (mX1_copy v2 v4 w)).bind fun r5 =>
mX0_fewest_l26 FU r5.2 ((some this)) a0 0)
else (
some ((-2), w))
theorem eX0_fewest_b34 {y : Fx (Int32 × Wd)} (hk : OkF y RX0 cX0_fewest 4 120 6849) (hR : RetM y rvI (some (.int))) {k26 : Wd → (Option Nat) → Int32 → Int32 → Option (Int32 × Wd)} (h26 : ∀ (w : Wd) (l0 : Option Nat) (l1 : Int32) (l2 : Int32), V y w [(0, va_rf l0), (1, .int l1), (2, .int l2)] [] 26 (k26 w l0 l1 l2)) {k34 : Wd → (Option Nat) → Int32 → Int32 → Int32 → Option (Int32 × Wd)} (h34 : ∀ (w : Wd) (l0 : Option Nat) (l1 : Int32) (l2 : Int32) (l3 : Int32), V y w [(0, va_rf l0), (1, .int l1), (2, .int l2), (3, .int l3)] [] 34 (k34 w l0 l1 l2 l3)) (w : Wd) (l0 : Option Nat) (l1 : Int32) (l2 : Int32) (l3 : Int32) : V y w [(0, va_rf l0), (1, .int l1), (2, .int l2), (3, .int l3)] [] 34 (mX0_fewest_b34 k26 k34 w l0 l1 l2 l3) := by
  unfold mX0_fewest_b34
  refine V_iload_n (pc := 34) hk dX0_fewest_34 3 rfl ?_
  refine V_bipush (pc := 35) (v := 7) hk dX0_fewest_35 rfl ?_
  refine V_icmp_gt (pc := 37) (tgt := 85) hk dX0_fewest_37 rfl ?_ ?_
  · refine V_iinc (pc := 85) (v := 1) (lc' := [(2, .int (l2 + 1)), (0, va_rf l0), (1, .int l1), (3, .int l3)]) hk dX0_fewest_85 2 rfl rfl (Nat.le_of_ble_eq_true rfl) rfl ?_
    refine V_goto (pc := 88) (tgt := 26) hk dX0_fewest_88 rfl ?_
    refine V_pick (lc' := [(0, va_rf l0), (1, .int l1), (2, .int (l2 + 1))]) [1, 2, 0] rfl ?_
    exact h26 w l0 l1 (l2 + 1)
  · refine V_aload_n (pc := 40) hk dX0_fewest_40 0 rfl ?_
    refine V_iconst (pc := 41) (v := 0) hk dX0_fewest_41 rfl ?_
    refine V_iload_n (pc := 42) hk dX0_fewest_42 3 rfl ?_
    refine V_iload_n (pc := 43) hk dX0_fewest_43 2 rfl ?_
    refine n_X0_316 (pc := 44) hk (fun b r h => crX0_stillsBy (fl y) (fK y) hk.2.2.2.2.2.2.2.1 10 b 0 l3 l2 w r h) ⟨Nat.le_of_ble_eq_true rfl, Nat.le_of_ble_eq_true rfl⟩ (Nat.le_of_ble_eq_true rfl) dX0_fewest_44 (fun r1 => ?_)
    refine V_if_ne (pc := 47) (tgt := 53) hk dX0_fewest_47 rfl ?_ ?_
    · refine V_iload_n (pc := 53) hk dX0_fewest_53 1 rfl ?_
      refine V_iconst (pc := 54) (v := (-1)) hk dX0_fewest_54 (by decide +kernel) ?_
      refine V_icmp_ne (pc := 55) (tgt := 62) hk dX0_fewest_55 rfl ?_ ?_
      · refine V_iload_n (pc := 62) hk dX0_fewest_62 1 rfl ?_
        refine V_iload_n (pc := 63) hk dX0_fewest_63 3 rfl ?_
        refine V_icmp_ge (pc := 64) (tgt := 76) hk dX0_fewest_64 rfl ?_ ?_
        · refine V_bipush (pc := 76) (v := (-2)) hk dX0_fewest_76 (by decide +kernel) ?_
          exact V_ireturn (pc := 78) hk hR rfl dX0_fewest_78
        · refine V_aload_n (pc := 67) hk dX0_fewest_67 0 rfl ?_
          refine g_X0_51 (pc := 68) hk dX0_fewest_68 (fun v3 => ?_)
          refine V_iload_n (pc := 71) hk dX0_fewest_71 1 rfl ?_
          refine V_iaload (pc := 72) hk dX0_fewest_72 (fun v4 => ?_)
          refine V_goto (pc := 73) (tgt := 78) hk dX0_fewest_73 rfl ?_
          exact V_ireturn (pc := 78) hk hR rfl dX0_fewest_78
      · refine V_iload_n (pc := 58) hk dX0_fewest_58 2 rfl ?_
        refine V_goto (pc := 59) (tgt := 78) hk dX0_fewest_59 rfl ?_
        exact V_ireturn (pc := 78) hk hR rfl dX0_fewest_78
    · refine V_goto (pc := 50) (tgt := 79) hk dX0_fewest_50 rfl ?_
      refine V_iinc (pc := 79) (v := 1) (lc' := [(3, .int (l3 + 1)), (0, va_rf l0), (1, .int l1), (2, .int l2)]) hk dX0_fewest_79 3 rfl rfl (Nat.le_of_ble_eq_true rfl) rfl ?_
      refine V_goto (pc := 82) (tgt := 34) hk dX0_fewest_82 rfl ?_
      refine V_pick (lc' := [(0, va_rf l0), (1, .int l1), (2, .int l2), (3, .int (l3 + 1))]) [1, 2, 3, 0] rfl ?_
      exact h34 r1.2 l0 l1 l2 (l3 + 1)
theorem eX0_fewest_l34 {y : Fx (Int32 × Wd)} (hk : OkF y RX0 cX0_fewest 4 120 6849) (hR : RetM y rvI (some (.int))) {k26 : Wd → (Option Nat) → Int32 → Int32 → Option (Int32 × Wd)} (h26 : ∀ (w : Wd) (l0 : Option Nat) (l1 : Int32) (l2 : Int32), V y w [(0, va_rf l0), (1, .int l1), (2, .int l2)] [] 26 (k26 w l0 l1 l2)) : ∀ (n : Nat) (w : Wd) (l0 : Option Nat) (l1 : Int32) (l2 : Int32) (l3 : Int32), V y w [(0, va_rf l0), (1, .int l1), (2, .int l2), (3, .int l3)] [] 34 (mX0_fewest_l34 k26 n w l0 l1 l2 l3) := by
  intro n
  induction n with
  | zero => intro w l0 l1 l2 l3; exact V_none
  | succ n ih => intro w l0 l1 l2 l3; exact eX0_fewest_b34 hk hR h26 ih w l0 l1 l2 l3
theorem eX0_fewest_b26 {y : Fx (Int32 × Wd)} (hk : OkF y RX0 cX0_fewest 4 120 6849) (hR : RetM y rvI (some (.int))) {k26 : Wd → (Option Nat) → Int32 → Int32 → Option (Int32 × Wd)} (h26 : ∀ (w : Wd) (l0 : Option Nat) (l1 : Int32) (l2 : Int32), V y w [(0, va_rf l0), (1, .int l1), (2, .int l2)] [] 26 (k26 w l0 l1 l2)) (w : Wd) (l0 : Option Nat) (l1 : Int32) (l2 : Int32) : V y w [(0, va_rf l0), (1, .int l1), (2, .int l2)] [] 26 (mX0_fewest_b26 k26 w l0 l1 l2) := by
  unfold mX0_fewest_b26
  refine V_iload_n (pc := 26) hk dX0_fewest_26 2 rfl ?_
  refine V_bipush (pc := 27) (v := 7) hk dX0_fewest_27 rfl ?_
  refine V_icmp_gt (pc := 29) (tgt := 91) hk dX0_fewest_29 rfl ?_ ?_
  · refine V_bipush (pc := 91) (v := (-2)) hk dX0_fewest_91 (by decide +kernel) ?_
    exact V_ireturn (pc := 93) hk hR rfl dX0_fewest_93
  · refine V_iload_n (pc := 32) hk dX0_fewest_32 2 rfl ?_
    refine V_istore_n (pc := 33) (lc' := [(3, .int l2), (0, va_rf l0), (1, .int l1), (2, .int l2)]) (i := 3) hk dX0_fewest_33 rfl (Nat.le_of_ble_eq_true rfl) rfl ?_
    refine V_pick (lc' := [(0, va_rf l0), (1, .int l1), (2, .int l2), (3, .int l2)]) [1, 2, 3, 0] rfl ?_
    exact eX0_fewest_l34 hk hR h26 FU w l0 l1 l2 l2
theorem eX0_fewest_l26 {y : Fx (Int32 × Wd)} (hk : OkF y RX0 cX0_fewest 4 120 6849) (hR : RetM y rvI (some (.int))) : ∀ (n : Nat) (w : Wd) (l0 : Option Nat) (l1 : Int32) (l2 : Int32), V y w [(0, va_rf l0), (1, .int l1), (2, .int l2)] [] 26 (mX0_fewest_l26 n w l0 l1 l2) := by
  intro n
  induction n with
  | zero => intro w l0 l1 l2; exact V_none
  | succ n ih => intro w l0 l1 l2; exact eX0_fewest_b26 hk hR ih w l0 l1 l2
theorem eX0_fewest {y : Fx (Int32 × Wd)} (hk : OkF y RX0 cX0_fewest 4 120 6849) (hR : RetM y rvI (some (.int))) (this : Nat) (a0 : Int32) (w : Wd) : V y w [(0, va_rf (some this)), (1, .int a0)] [] 0 (mX0_fewest this a0 w) := by
  unfold mX0_fewest
  refine V_iload_n (pc := 0) hk dX0_fewest_0 1 rfl ?_
  refine V_iconst (pc := 1) (v := (-1)) hk dX0_fewest_1 (by decide +kernel) ?_
  refine V_icmp_ge (pc := 2) (tgt := 8) hk dX0_fewest_2 rfl ?_ ?_
  · refine V_aload_n (pc := 8) hk dX0_fewest_8 0 rfl ?_
    refine g_X0_21 (pc := 9) hk dX0_fewest_9 (fun v1 => ?_)
    refine g_X0_176 (pc := 12) hk dX0_fewest_12 (fun v2 => ?_)
    refine V_aload_n (pc := 15) hk dX0_fewest_15 0 rfl ?_
    refine g_X0_48 (pc := 16) hk dX0_fewest_16 (fun v3 => ?_)
    refine V_iconst (pc := 19) (v := 0) hk dX0_fewest_19 rfl ?_
    refine V_aaload (pc := 20) hk dX0_fewest_20 (fun v4 => ?_)
    refine n_X0_89 (pc := 21) hk (fun r h => ctX1_copy (fl y) (fK y) hk.2.2.2.2.2.2.2.1 v2 v4 w r h) ⟨Nat.le_of_ble_eq_true rfl, Nat.le_of_ble_eq_true rfl⟩ (Nat.le_of_ble_eq_true rfl) dX0_fewest_21 (fun r5 => ?_)
    refine V_iconst (pc := 24) (v := 0) hk dX0_fewest_24 rfl ?_
    refine V_istore_n (pc := 25) (lc' := [(2, .int 0), (0, va_rf ((some this))), (1, .int a0)]) (i := 2) hk dX0_fewest_25 rfl (Nat.le_of_ble_eq_true rfl) rfl ?_
    refine V_pick (lc' := [(0, va_rf ((some this))), (1, .int a0), (2, .int 0)]) [1, 2, 0] rfl ?_
    exact eX0_fewest_l26 hk hR FU r5.2 ((some this)) a0 0
  · refine V_bipush (pc := 5) (v := (-2)) hk dX0_fewest_5 (by decide +kernel) ?_
    exact V_ireturn (pc := 7) hk hR rfl dX0_fewest_7
theorem ctX0_fewest (l : Launch) (K : Kx) (hI : Ini K) (b : Nat) (a0 : Int32) (w : Wd) : ∀ r, mX0_fewest b a0 w = some r → Ct l K 120 6849 yX0_fewest (ws_ yX0_fewest cX0_fewest 4 (some (.int))) [.ref b, .int a0] w (rvI r.1) r.2 := Ct_of rvI l K hI 120 6849 [.ref b, .int a0] w (by decide) (lc0 := [(0, .ref b), (1, .int a0)]) rfl (Nat.le_of_ble_eq_true rfl) (fun y hk hR _ _ hin => eX0_fewest hk hR b a0 w)
noncomputable def mX0_toAndFro_b31 (k31 : Wd → (Option Nat) → Int32 → Int32 → Int32 → Option (Int32 × Wd)) (w : Wd) (l0 : Option Nat) (l1 : Int32) (l2 : Int32) (l3 : Int32) : Option (Int32 × Wd) :=
if l1 < l3 then (
some ((-1), w))
else (
(gR w l0 0 8).bind fun v1 =>
(ia w v1 0).bind fun v2 =>
(gR w l0 0 8).bind fun v3 =>
(ia w v3 2).bind fun v4 =>
(gR w l0 0 8).bind fun v5 =>
(recv w l0 0).bind fun b7 => (cal w (mX0_tenth b7 v5 0 w)).bind fun r6 =>
if 0 < (v2 - v4) then (
k31 r6.2 l0 l1 l2 (l3 + 1))
else (
(gR r6.2 l0 0 8).bind fun v8 =>
(ia r6.2 v8 0).bind fun v9 =>
(gR r6.2 l0 0 8).bind fun v10 =>
(ia r6.2 v10 2).bind fun v11 =>
if 0 < (v9 - v11) then (
if l2 = (-1) then (
k31 r6.2 l0 l1 l3 (l3 + 1))
else (
some (l3 - l2, r6.2)))
else (
k31 r6.2 l0 l1 l2 (l3 + 1))))
noncomputable def mX0_toAndFro_l31 : Nat → Wd → (Option Nat) → Int32 → Int32 → Int32 → Option (Int32 × Wd)
  | 0, _, _, _, _, _ => none
  | n + 1, w, l0, l1, l2, l3 => mX0_toAndFro_b31 (mX0_toAndFro_l31 n) w l0 l1 l2 l3
noncomputable def mX0_toAndFro (this : Nat) (a0 : Int32) (w : Wd) : Option (Int32 × Wd) :=
(cal w (mX0_in a0 2 200 w)).bind fun r1 =>
if ¬ r1.1 = 0 then (
(gR r1.2 ((some this)) 0 0).bind fun v2 =>
(gR r1.2 v2 1 1).bind fun v3 =>
(gR r1.2 ((some this)) 0 8).bind fun v4 =>
(cal r1.2 (mX1_copy v3 v4 r1.2)).bind fun r5 =>
mX0_toAndFro_l31 FU r5.2 ((some this)) a0 (-1) 1)
else (
some ((-1), r1.2))
theorem eX0_toAndFro_b31 {y : Fx (Int32 × Wd)} (hk : OkF y RX0 cX0_toAndFro 5 109 6224) (hR : RetM y rvI (some (.int))) {k31 : Wd → (Option Nat) → Int32 → Int32 → Int32 → Option (Int32 × Wd)} (h31 : ∀ (w : Wd) (l0 : Option Nat) (l1 : Int32) (l2 : Int32) (l3 : Int32), V y w [(0, va_rf l0), (1, .int l1), (2, .int l2), (3, .int l3)] [] 31 (k31 w l0 l1 l2 l3)) (w : Wd) (l0 : Option Nat) (l1 : Int32) (l2 : Int32) (l3 : Int32) : V y w [(0, va_rf l0), (1, .int l1), (2, .int l2), (3, .int l3)] [] 31 (mX0_toAndFro_b31 k31 w l0 l1 l2 l3) := by
  unfold mX0_toAndFro_b31
  refine V_iload_n (pc := 31) hk dX0_toAndFro_31 3 rfl ?_
  refine V_iload_n (pc := 32) hk dX0_toAndFro_32 1 rfl ?_
  refine V_icmp_gt (pc := 33) (tgt := 101) hk dX0_toAndFro_33 rfl ?_ ?_
  · refine V_iconst (pc := 101) (v := (-1)) hk dX0_toAndFro_101 (by decide +kernel) ?_
    exact V_ireturn (pc := 102) hk hR rfl dX0_toAndFro_102
  · refine V_aload_n (pc := 36) hk dX0_toAndFro_36 0 rfl ?_
    refine g_X0_43 (pc := 37) hk dX0_toAndFro_37 (fun v1 => ?_)
    refine V_iconst (pc := 40) (v := 0) hk dX0_toAndFro_40 rfl ?_
    refine V_iaload (pc := 41) hk dX0_toAndFro_41 (fun v2 => ?_)
    refine V_aload_n (pc := 42) hk dX0_toAndFro_42 0 rfl ?_
    refine g_X0_43 (pc := 43) hk dX0_toAndFro_43 (fun v3 => ?_)
    refine V_iconst (pc := 46) (v := 2) hk dX0_toAndFro_46 rfl ?_
    refine V_iaload (pc := 47) hk dX0_toAndFro_47 (fun v4 => ?_)
    refine V_isub (pc := 48) hk dX0_toAndFro_48 ?_
    refine V_istore (pc := 49) (lc' := [(4, .int (v2 - v4)), (0, va_rf l0), (1, .int l1), (2, .int l2), (3, .int l3)]) (i := 4) hk dX0_toAndFro_49 (Nat.le_of_ble_eq_true rfl) rfl ?_
    refine V_aload_n (pc := 51) hk dX0_toAndFro_51 1 rfl ?_
    refine V_aload_n (pc := 52) hk dX0_toAndFro_52 1 rfl ?_
    refine g_X0_43 (pc := 53) hk dX0_toAndFro_53 (fun v5 => ?_)
    refine V_iconst (pc := 56) (v := 0) hk dX0_toAndFro_56 rfl ?_
    refine n_X0_203 (pc := 57) hk (fun b r h => ctX0_tenth (fl y) (fK y) hk.2.2.2.2.2.2.2.1 b v5 0 w r h) ⟨Nat.le_of_ble_eq_true rfl, Nat.le_of_ble_eq_true rfl⟩ (Nat.le_of_ble_eq_true rfl) dX0_toAndFro_57 (fun r6 => ?_)
    refine V_iload (pc := 60) hk dX0_toAndFro_60 0 rfl ?_
    refine V_if_gt (pc := 62) (tgt := 95) hk dX0_toAndFro_62 rfl ?_ ?_
    · refine V_iinc (pc := 95) (v := 1) (lc' := [(3, .int (l3 + 1)), (4, .int (v2 - v4)), (0, va_rf l0), (1, .int l1), (2, .int l2)]) hk dX0_toAndFro_95 4 rfl rfl (Nat.le_of_ble_eq_true rfl) rfl ?_
      refine V_goto (pc := 98) (tgt := 31) hk dX0_toAndFro_98 rfl ?_
      refine V_pick (lc' := [(0, va_rf l0), (1, .int l1), (2, .int l2), (3, .int (l3 + 1))]) [2, 3, 4, 0] rfl ?_
      exact h31 r6.2 l0 l1 l2 (l3 + 1)
    · refine V_aload_n (pc := 65) hk dX0_toAndFro_65 1 rfl ?_
      refine g_X0_43 (pc := 66) hk dX0_toAndFro_66 (fun v8 => ?_)
      refine V_iconst (pc := 69) (v := 0) hk dX0_toAndFro_69 rfl ?_
      refine V_iaload (pc := 70) hk dX0_toAndFro_70 (fun v9 => ?_)
      refine V_aload_n (pc := 71) hk dX0_toAndFro_71 1 rfl ?_
      refine g_X0_43 (pc := 72) hk dX0_toAndFro_72 (fun v10 => ?_)
      refine V_iconst (pc := 75) (v := 2) hk dX0_toAndFro_75 rfl ?_
      refine V_iaload (pc := 76) hk dX0_toAndFro_76 (fun v11 => ?_)
      refine V_isub (pc := 77) hk dX0_toAndFro_77 ?_
      refine V_if_gt (pc := 78) (tgt := 84) hk dX0_toAndFro_78 rfl ?_ ?_
      · refine V_iload_n (pc := 84) hk dX0_toAndFro_84 3 rfl ?_
        refine V_iconst (pc := 85) (v := (-1)) hk dX0_toAndFro_85 (by decide +kernel) ?_
        refine V_icmp_eq (pc := 86) (tgt := 93) hk dX0_toAndFro_86 rfl ?_ ?_
        · refine V_iload_n (pc := 93) hk dX0_toAndFro_93 4 rfl ?_
          refine V_istore_n (pc := 94) (lc' := [(2, .int l3), (4, .int (v2 - v4)), (0, va_rf l0), (1, .int l1), (3, .int l3)]) (i := 2) hk dX0_toAndFro_94 rfl (Nat.le_of_ble_eq_true rfl) rfl ?_
          refine V_iinc (pc := 95) (v := 1) (lc' := [(3, .int (l3 + 1)), (2, .int l3), (4, .int (v2 - v4)), (0, va_rf l0), (1, .int l1)]) hk dX0_toAndFro_95 4 rfl rfl (Nat.le_of_ble_eq_true rfl) rfl ?_
          refine V_goto (pc := 98) (tgt := 31) hk dX0_toAndFro_98 rfl ?_
          refine V_pick (lc' := [(0, va_rf l0), (1, .int l1), (2, .int l3), (3, .int (l3 + 1))]) [3, 4, 1, 0] rfl ?_
          exact h31 r6.2 l0 l1 l3 (l3 + 1)
        · refine V_iload_n (pc := 89) hk dX0_toAndFro_89 4 rfl ?_
          refine V_iload_n (pc := 90) hk dX0_toAndFro_90 3 rfl ?_
          refine V_isub (pc := 91) hk dX0_toAndFro_91 ?_
          exact V_ireturn (pc := 92) hk hR rfl dX0_toAndFro_92
      · refine V_goto (pc := 81) (tgt := 95) hk dX0_toAndFro_81 rfl ?_
        refine V_iinc (pc := 95) (v := 1) (lc' := [(3, .int (l3 + 1)), (4, .int (v2 - v4)), (0, va_rf l0), (1, .int l1), (2, .int l2)]) hk dX0_toAndFro_95 4 rfl rfl (Nat.le_of_ble_eq_true rfl) rfl ?_
        refine V_goto (pc := 98) (tgt := 31) hk dX0_toAndFro_98 rfl ?_
        refine V_pick (lc' := [(0, va_rf l0), (1, .int l1), (2, .int l2), (3, .int (l3 + 1))]) [2, 3, 4, 0] rfl ?_
        exact h31 r6.2 l0 l1 l2 (l3 + 1)
theorem eX0_toAndFro_l31 {y : Fx (Int32 × Wd)} (hk : OkF y RX0 cX0_toAndFro 5 109 6224) (hR : RetM y rvI (some (.int))) : ∀ (n : Nat) (w : Wd) (l0 : Option Nat) (l1 : Int32) (l2 : Int32) (l3 : Int32), V y w [(0, va_rf l0), (1, .int l1), (2, .int l2), (3, .int l3)] [] 31 (mX0_toAndFro_l31 n w l0 l1 l2 l3) := by
  intro n
  induction n with
  | zero => intro w l0 l1 l2 l3; exact V_none
  | succ n ih => intro w l0 l1 l2 l3; exact eX0_toAndFro_b31 hk hR ih w l0 l1 l2 l3
theorem eX0_toAndFro {y : Fx (Int32 × Wd)} (hk : OkF y RX0 cX0_toAndFro 5 109 6224) (hR : RetM y rvI (some (.int))) (this : Nat) (a0 : Int32) (w : Wd) : V y w [(0, va_rf (some this)), (1, .int a0)] [] 0 (mX0_toAndFro this a0 w) := by
  unfold mX0_toAndFro
  refine V_iload_n (pc := 0) hk dX0_toAndFro_0 1 rfl ?_
  refine V_iconst (pc := 1) (v := 2) hk dX0_toAndFro_1 rfl ?_
  refine V_sipush (pc := 2) (v := 200) hk dX0_toAndFro_2 rfl ?_
  refine n_X0_82 (pc := 5) hk (fun r h => ctX0_in (fl y) (fK y) hk.2.2.2.2.2.2.2.1 a0 2 200 w r h) ⟨Nat.le_of_ble_eq_true rfl, Nat.le_of_ble_eq_true rfl⟩ (Nat.le_of_ble_eq_true rfl) dX0_toAndFro_5 (fun r1 => ?_)
  refine V_if_ne (pc := 8) (tgt := 13) hk dX0_toAndFro_8 rfl ?_ ?_
  · refine V_aload_n (pc := 13) hk dX0_toAndFro_13 0 rfl ?_
    refine g_X0_21 (pc := 14) hk dX0_toAndFro_14 (fun v2 => ?_)
    refine g_X0_176 (pc := 17) hk dX0_toAndFro_17 (fun v3 => ?_)
    refine V_aload_n (pc := 20) hk dX0_toAndFro_20 0 rfl ?_
    refine g_X0_43 (pc := 21) hk dX0_toAndFro_21 (fun v4 => ?_)
    refine n_X0_89 (pc := 24) hk (fun r h => ctX1_copy (fl y) (fK y) hk.2.2.2.2.2.2.2.1 v3 v4 r1.2 r h) ⟨Nat.le_of_ble_eq_true rfl, Nat.le_of_ble_eq_true rfl⟩ (Nat.le_of_ble_eq_true rfl) dX0_toAndFro_24 (fun r5 => ?_)
    refine V_iconst (pc := 27) (v := (-1)) hk dX0_toAndFro_27 (by decide +kernel) ?_
    refine V_istore_n (pc := 28) (lc' := [(2, .int (-1)), (0, va_rf ((some this))), (1, .int a0)]) (i := 2) hk dX0_toAndFro_28 rfl (Nat.le_of_ble_eq_true rfl) rfl ?_
    refine V_iconst (pc := 29) (v := 1) hk dX0_toAndFro_29 rfl ?_
    refine V_istore_n (pc := 30) (lc' := [(3, .int 1), (2, .int (-1)), (0, va_rf ((some this))), (1, .int a0)]) (i := 3) hk dX0_toAndFro_30 rfl (Nat.le_of_ble_eq_true rfl) rfl ?_
    refine V_pick (lc' := [(0, va_rf ((some this))), (1, .int a0), (2, .int (-1)), (3, .int 1)]) [2, 3, 1, 0] rfl ?_
    exact eX0_toAndFro_l31 hk hR FU r5.2 ((some this)) a0 (-1) 1
  · refine V_iconst (pc := 11) (v := (-1)) hk dX0_toAndFro_11 (by decide +kernel) ?_
    exact V_ireturn (pc := 12) hk hR rfl dX0_toAndFro_12
theorem ctX0_toAndFro (l : Launch) (K : Kx) (hI : Ini K) (b : Nat) (a0 : Int32) (w : Wd) : ∀ r, mX0_toAndFro b a0 w = some r → Ct l K 109 6224 yX0_toAndFro (ws_ yX0_toAndFro cX0_toAndFro 5 (some (.int))) [.ref b, .int a0] w (rvI r.1) r.2 := Ct_of rvI l K hI 109 6224 [.ref b, .int a0] w (by decide) (lc0 := [(0, .ref b), (1, .int a0)]) rfl (Nat.le_of_ble_eq_true rfl) (fun y hk hR _ _ hin => eX0_toAndFro hk hR b a0 w)
noncomputable def mX0_power (s_X0_power : Int64 → Int32 → Wd → Option (Int64 × Wd)) (a0 : Int64) (a1 : Int32) (w : Wd) : Option (Int64 × Wd) :=
if ¬ a1 = 0 then (
(cal w (s_X0_power a0 (a1 - 1) w)).bind fun r1 =>
some (a0 * r1.1, r1.2))
else (
some (1, w))
noncomputable def rX0_power : Nat → Int64 → Int32 → Wd → Option (Int64 × Wd)
  | 0 => fun _ _ _ => none
  | d + 1 => mX0_power (rX0_power d)
theorem eX0_power {y : Fx (Int64 × Wd)} {F L F9 L9 : Nat} (hk : OkF y RX0 cX0_power 3 F L) (hR : RetM y rvJ (some (.long))) (hF1 : F9 + 1 ≤ F ∧ 60 + L9 ≤ L) (hF2 : 2 ≤ F ∧ 60 ≤ L) {s_X0_power : Int64 → Int32 → Wd → Option (Int64 × Wd)} (hs_X0_power : ∀ (a0 : Int64) (a1 : Int32) (w : Wd) r, s_X0_power a0 a1 w = some r → Ct (fl y) (fK y) F9 L9 yX0_power (ws_ yX0_power cX0_power 3 (some (.long))) [.long a0, .int a1] w (rvJ r.1) r.2) (a0 : Int64) (a1 : Int32) (w : Wd) : V y w [(0, .long a0), (2, .int a1)] [] 0 (mX0_power s_X0_power a0 a1 w) := by
  unfold mX0_power
  refine V_iload_n (pc := 0) hk dX0_power_0 1 rfl ?_
  refine V_if_ne (pc := 1) (tgt := 8) hk dX0_power_1 rfl ?_ ?_
  · refine V_lload_n (pc := 8) hk dX0_power_8 0 rfl ?_
    refine V_lload_n (pc := 9) hk dX0_power_9 0 rfl ?_
    refine V_iload_n (pc := 10) hk dX0_power_10 1 rfl ?_
    refine V_iconst (pc := 11) (v := 1) hk dX0_power_11 rfl ?_
    refine V_isub (pc := 12) hk dX0_power_12 ?_
    refine n_X0_319 (pc := 13) hk (fun r h => hs_X0_power a0 (a1 - 1) w r h) ⟨by omega, by omega⟩ (Nat.le_of_ble_eq_true rfl) dX0_power_13 (fun r1 => ?_)
    refine V_lmul (pc := 16) hk dX0_power_16 ?_
    exact V_lreturn (pc := 17) hk hR rfl dX0_power_17
  · refine V_lconst (pc := 4) (v := 1) hk dX0_power_4 rfl ?_
    refine V_goto (pc := 5) (tgt := 17) hk dX0_power_5 rfl ?_
    exact V_lreturn (pc := 17) hk hR rfl dX0_power_17
theorem crX0_power (l : Launch) (K : Kx) (hI : Ini K) : ∀ (d : Nat) (a0 : Int64) (a1 : Int32) (w : Wd) (r : Int64 × Wd), rX0_power d a0 a1 w = some r → Ct l K (2 + d) (60 + 60 * d) yX0_power (ws_ yX0_power cX0_power 3 (some (.long))) [.long a0, .int a1] w (rvJ r.1) r.2 := by
  intro d
  induction d with
  | zero => intro a0 a1 w r h; cases h
  | succ d ih =>
    intro a0 a1 w
    exact Ct_of rvJ l K hI (2 + (d + 1)) (60 + 60 * (d + 1)) [.long a0, .int a1] w (by decide) (lc0 := [(0, .long a0), (2, .int a1)]) rfl (Nat.le_of_ble_eq_true rfl) (fun y hk hR hl hK hin => eX0_power (F9 := 2 + d) (L9 := 60 + 60 * d) hk hR ⟨by omega, by omega⟩ ⟨by omega, by omega⟩ (by rw [hl, hK]; exact ih) a0 a1 w)
noncomputable def mX0_common (s_X0_common : Int64 → Int64 → Wd → Option (Int64 × Wd)) (a0 : Int64) (a1 : Int64) (w : Wd) : Option (Int64 × Wd) :=
if ¬ (lg_cmp a1 0) = 0 then (
(lrm a0 a1).bind fun v1 =>
(cal w (s_X0_common a1 v1 w)).bind fun r2 =>
some (r2.1, r2.2))
else (
some (a0, w))
noncomputable def rX0_common : Nat → Int64 → Int64 → Wd → Option (Int64 × Wd)
  | 0 => fun _ _ _ => none
  | d + 1 => mX0_common (rX0_common d)
theorem eX0_common {y : Fx (Int64 × Wd)} {F L F9 L9 : Nat} (hk : OkF y RX0 cX0_common 4 F L) (hR : RetM y rvJ (some (.long))) (hF1 : F9 + 1 ≤ F ∧ 60 + L9 ≤ L) (hF2 : 2 ≤ F ∧ 60 ≤ L) {s_X0_common : Int64 → Int64 → Wd → Option (Int64 × Wd)} (hs_X0_common : ∀ (a0 : Int64) (a1 : Int64) (w : Wd) r, s_X0_common a0 a1 w = some r → Ct (fl y) (fK y) F9 L9 yX0_common (ws_ yX0_common cX0_common 4 (some (.long))) [.long a0, .long a1] w (rvJ r.1) r.2) (a0 : Int64) (a1 : Int64) (w : Wd) : V y w [(0, .long a0), (2, .long a1)] [] 0 (mX0_common s_X0_common a0 a1 w) := by
  unfold mX0_common
  refine V_lload_n (pc := 0) hk dX0_common_0 1 rfl ?_
  refine V_lconst (pc := 1) (v := 0) hk dX0_common_1 rfl ?_
  refine V_lcmp (pc := 2) hk dX0_common_2 ?_
  refine V_if_ne (pc := 3) (tgt := 10) hk dX0_common_3 rfl ?_ ?_
  · refine V_lload_n (pc := 10) hk dX0_common_10 1 rfl ?_
    refine V_lload_n (pc := 11) hk dX0_common_11 0 rfl ?_
    refine V_lload_n (pc := 12) hk dX0_common_12 1 rfl ?_
    refine V_lrem (pc := 13) hk dX0_common_13 (fun v1 => ?_)
    refine n_X0_323 (pc := 14) hk (fun r h => hs_X0_common a1 v1 w r h) ⟨by omega, by omega⟩ (Nat.le_of_ble_eq_true rfl) dX0_common_14 (fun r2 => ?_)
    exact V_lreturn (pc := 17) hk hR rfl dX0_common_17
  · refine V_lload_n (pc := 6) hk dX0_common_6 0 rfl ?_
    refine V_goto (pc := 7) (tgt := 17) hk dX0_common_7 rfl ?_
    exact V_lreturn (pc := 17) hk hR rfl dX0_common_17
theorem crX0_common (l : Launch) (K : Kx) (hI : Ini K) : ∀ (d : Nat) (a0 : Int64) (a1 : Int64) (w : Wd) (r : Int64 × Wd), rX0_common d a0 a1 w = some r → Ct l K (2 + d) (60 + 60 * d) yX0_common (ws_ yX0_common cX0_common 4 (some (.long))) [.long a0, .long a1] w (rvJ r.1) r.2 := by
  intro d
  induction d with
  | zero => intro a0 a1 w r h; cases h
  | succ d ih =>
    intro a0 a1 w
    exact Ct_of rvJ l K hI (2 + (d + 1)) (60 + 60 * (d + 1)) [.long a0, .long a1] w (by decide) (lc0 := [(0, .long a0), (2, .long a1)]) rfl (Nat.le_of_ble_eq_true rfl) (fun y hk hR hl hK hin => eX0_common (F9 := 2 + d) (L9 := 60 + 60 * d) hk hR ⟨by omega, by omega⟩ ⟨by omega, by omega⟩ (by rw [hl, hK]; exact ih) a0 a1 w)
noncomputable def mX0_inLowest (a0 : Int64) (a1 : Int64) (a2 : Int32) (w : Wd) : Option (Int64 × Wd) :=
(cal w (rX0_common 200 a1 a0 w)).bind fun r1 =>
if a2 = 0 then (
(ldv a0 r1.1).bind fun v2 =>
some (v2, r1.2))
else (
(ldv a1 r1.1).bind fun v3 =>
some (v3, r1.2))
theorem eX0_inLowest {y : Fx (Int64 × Wd)} (hk : OkF y RX0 cX0_inLowest 7 203 12083) (hR : RetM y rvJ (some (.long))) (a0 : Int64) (a1 : Int64) (a2 : Int32) (w : Wd) : V y w [(0, .long a0), (2, .long a1), (4, .int a2)] [] 0 (mX0_inLowest a0 a1 a2 w) := by
  unfold mX0_inLowest
  refine V_lload_n (pc := 0) hk dX0_inLowest_0 1 rfl ?_
  refine V_lload_n (pc := 1) hk dX0_inLowest_1 0 rfl ?_
  refine n_X0_323 (pc := 2) hk (fun r h => crX0_common (fl y) (fK y) hk.2.2.2.2.2.2.2.1 200 a1 a0 w r h) ⟨Nat.le_of_ble_eq_true rfl, Nat.le_of_ble_eq_true rfl⟩ (Nat.le_of_ble_eq_true rfl) dX0_inLowest_2 (fun r1 => ?_)
  refine V_lstore (pc := 5) (lc' := [(5, .long r1.1), (0, .long a0), (2, .long a1), (4, .int a2)]) (i := 5) hk dX0_inLowest_5 (Nat.le_of_ble_eq_true rfl) rfl ?_
  refine V_iload (pc := 7) hk dX0_inLowest_7 3 rfl ?_
  refine V_if_eq (pc := 9) (tgt := 19) hk dX0_inLowest_9 rfl ?_ ?_
  · refine V_lload_n (pc := 19) hk dX0_inLowest_19 1 rfl ?_
    refine V_lload (pc := 20) hk dX0_inLowest_20 0 rfl ?_
    refine V_ldiv (pc := 22) hk dX0_inLowest_22 (fun v2 => ?_)
    exact V_lreturn (pc := 23) hk hR rfl dX0_inLowest_23
  · refine V_lload_n (pc := 12) hk dX0_inLowest_12 2 rfl ?_
    refine V_lload (pc := 13) hk dX0_inLowest_13 0 rfl ?_
    refine V_ldiv (pc := 15) hk dX0_inLowest_15 (fun v3 => ?_)
    refine V_goto (pc := 16) (tgt := 23) hk dX0_inLowest_16 rfl ?_
    exact V_lreturn (pc := 23) hk hR rfl dX0_inLowest_23
theorem ctX0_inLowest (l : Launch) (K : Kx) (hI : Ini K) (a0 : Int64) (a1 : Int64) (a2 : Int32) (w : Wd) : ∀ r, mX0_inLowest a0 a1 a2 w = some r → Ct l K 203 12083 yX0_inLowest (ws_ yX0_inLowest cX0_inLowest 7 (some (.long))) [.long a0, .long a1, .int a2] w (rvJ r.1) r.2 := Ct_of rvJ l K hI 203 12083 [.long a0, .long a1, .int a2] w (by decide) (lc0 := [(0, .long a0), (2, .long a1), (4, .int a2)]) rfl (Nat.le_of_ble_eq_true rfl) (fun y hk hR _ _ hin => eX0_inLowest hk hR a0 a1 a2 w)
noncomputable def mX0_calm (this : Nat) (a0 : Int32) (a1 : Int32) (a2 : Int32) (w : Wd) : Option (Int64 × Wd) :=
(cal w (mX0_in a0 1 9 w)).bind fun r1 =>
if r1.1 = 0 then (
some ((-1), r1.2))
else (
(cal r1.2 (mX0_in a1 0 9 r1.2)).bind fun r2 =>
if r2.1 = 0 then (
some ((-1), r2.2))
else (
(cal r2.2 (rX0_power 12 (((a1 : Int32).toInt64) + 1) a0 r2.2)).bind fun r3 =>
(cal r3.2 (rX0_power 12 10 a0 r3.2)).bind fun r4 =>
(cal r4.2 (mX0_inLowest r3.1 r4.1 a2 r4.2)).bind fun r5 =>
some (r5.1, r5.2)))
theorem eX0_calm {y : Fx (Int64 × Wd)} (hk : OkF y RX0 cX0_calm 4 204 12109) (hR : RetM y rvJ (some (.long))) (this : Nat) (a0 : Int32) (a1 : Int32) (a2 : Int32) (w : Wd) : V y w [(0, va_rf (some this)), (1, .int a0), (2, .int a1), (3, .int a2)] [] 0 (mX0_calm this a0 a1 a2 w) := by
  unfold mX0_calm
  refine V_iload_n (pc := 0) hk dX0_calm_0 1 rfl ?_
  refine V_iconst (pc := 1) (v := 1) hk dX0_calm_1 rfl ?_
  refine V_bipush (pc := 2) (v := 9) hk dX0_calm_2 rfl ?_
  refine n_X0_82 (pc := 4) hk (fun r h => ctX0_in (fl y) (fK y) hk.2.2.2.2.2.2.2.1 a0 1 9 w r h) ⟨Nat.le_of_ble_eq_true rfl, Nat.le_of_ble_eq_true rfl⟩ (Nat.le_of_ble_eq_true rfl) dX0_calm_4 (fun r1 => ?_)
  refine V_if_eq (pc := 7) (tgt := 42) hk dX0_calm_7 rfl ?_ ?_
  · refine V_ldc2 (pc := 42) (v := (-1)) hk dX0_calm_42 q1205 ?_
    exact V_lreturn (pc := 45) hk hR rfl dX0_calm_45
  · refine V_iload_n (pc := 10) hk dX0_calm_10 2 rfl ?_
    refine V_iconst (pc := 11) (v := 0) hk dX0_calm_11 rfl ?_
    refine V_bipush (pc := 12) (v := 9) hk dX0_calm_12 rfl ?_
    refine n_X0_82 (pc := 14) hk (fun r h => ctX0_in (fl y) (fK y) hk.2.2.2.2.2.2.2.1 a1 0 9 r1.2 r h) ⟨Nat.le_of_ble_eq_true rfl, Nat.le_of_ble_eq_true rfl⟩ (Nat.le_of_ble_eq_true rfl) dX0_calm_14 (fun r2 => ?_)
    refine V_if_eq (pc := 17) (tgt := 42) hk dX0_calm_17 rfl ?_ ?_
    · refine V_ldc2 (pc := 42) (v := (-1)) hk dX0_calm_42 q1205 ?_
      exact V_lreturn (pc := 45) hk hR rfl dX0_calm_45
    · refine V_iload_n (pc := 20) hk dX0_calm_20 2 rfl ?_
      refine V_i2l (pc := 21) hk dX0_calm_21 ?_
      refine V_lconst (pc := 22) (v := 1) hk dX0_calm_22 rfl ?_
      refine V_ladd (pc := 23) hk dX0_calm_23 ?_
      refine V_iload_n (pc := 24) hk dX0_calm_24 1 rfl ?_
      refine n_X0_319 (pc := 25) hk (fun r h => crX0_power (fl y) (fK y) hk.2.2.2.2.2.2.2.1 12 (((a1 : Int32).toInt64) + 1) a0 r2.2 r h) ⟨Nat.le_of_ble_eq_true rfl, Nat.le_of_ble_eq_true rfl⟩ (Nat.le_of_ble_eq_true rfl) dX0_calm_25 (fun r3 => ?_)
      refine V_ldc2 (pc := 28) (v := 10) hk dX0_calm_28 q1198 ?_
      refine V_iload_n (pc := 31) hk dX0_calm_31 1 rfl ?_
      refine n_X0_319 (pc := 32) hk (fun r h => crX0_power (fl y) (fK y) hk.2.2.2.2.2.2.2.1 12 10 a0 r3.2 r h) ⟨Nat.le_of_ble_eq_true rfl, Nat.le_of_ble_eq_true rfl⟩ (Nat.le_of_ble_eq_true rfl) dX0_calm_32 (fun r4 => ?_)
      refine V_iload_n (pc := 35) hk dX0_calm_35 3 rfl ?_
      refine n_X0_328 (pc := 36) hk (fun r h => ctX0_inLowest (fl y) (fK y) hk.2.2.2.2.2.2.2.1 r3.1 r4.1 a2 r4.2 r h) ⟨Nat.le_of_ble_eq_true rfl, Nat.le_of_ble_eq_true rfl⟩ (Nat.le_of_ble_eq_true rfl) dX0_calm_36 (fun r5 => ?_)
      refine V_goto (pc := 39) (tgt := 45) hk dX0_calm_39 rfl ?_
      exact V_lreturn (pc := 45) hk hR rfl dX0_calm_45
theorem ctX0_calm (l : Launch) (K : Kx) (hI : Ini K) (b : Nat) (a0 : Int32) (a1 : Int32) (a2 : Int32) (w : Wd) : ∀ r, mX0_calm b a0 a1 a2 w = some r → Ct l K 204 12109 yX0_calm (ws_ yX0_calm cX0_calm 4 (some (.long))) [.ref b, .int a0, .int a1, .int a2] w (rvJ r.1) r.2 := Ct_of rvJ l K hI 204 12109 [.ref b, .int a0, .int a1, .int a2] w (by decide) (lc0 := [(0, .ref b), (1, .int a0), (2, .int a1), (3, .int a2)]) rfl (Nat.le_of_ble_eq_true rfl) (fun y hk hR _ _ hin => eX0_calm hk hR b a0 a1 a2 w)
noncomputable def mX0_dies (this : Nat) (a0 : Int32) (a1 : Int32) (w : Wd) : Option (Int32 × Wd) :=
(recv w ((some this)) 0).bind fun b2 => (cal w (mX0_isText b2 a0 w)).bind fun r1 =>
if r1.1 = 0 then (
some ((-2), r1.2))
else (
(cal r1.2 (mX0_in a1 2 200 r1.2)).bind fun r3 =>
if r3.1 = 0 then (
some ((-2), r3.2))
else (
(irm a1 2).bind fun v4 =>
if ¬ v4 = 1 then (
(idv a1 2).bind fun v5 =>
(gR r3.2 ((some this)) 0 0).bind fun v6 =>
(gR r3.2 v6 1 6).bind fun v7 =>
(aa r3.2 v7 a0).bind fun v8 =>
(recv r3.2 ((some this)) 0).bind fun b10 => (cal r3.2 (mX0_goes b10 v5 v8 1 r3.2)).bind fun r9 =>
(gI r9.2 ((some this)) 0 9).bind fun v11 =>
(gR r9.2 ((some this)) 0 0).bind fun v12 =>
(gR r9.2 v12 1 6).bind fun v13 =>
(aa r9.2 v13 a0).bind fun v14 =>
(idv a1 2).bind fun v15 =>
(recv r9.2 ((some this)) 0).bind fun b17 => (cal r9.2 (mX0_goes b17 a1 v14 (v15 + 1) r9.2)).bind fun r16 =>
(gI r16.2 ((some this)) 0 9).bind fun v18 =>
if v11 ≤ v18 then (
(gI r16.2 ((some this)) 0 9).bind fun v19 =>
if v19 ≤ v11 then (
some (0, r16.2))
else (
some (1, r16.2)))
else (
some ((-1), r16.2)))
else (
some ((-2), r3.2))))
theorem eX0_dies {y : Fx (Int32 × Wd)} (hk : OkF y RX0 cX0_dies 4 110 6248) (hR : RetM y rvI (some (.int))) (this : Nat) (a0 : Int32) (a1 : Int32) (w : Wd) : V y w [(0, va_rf (some this)), (1, .int a0), (2, .int a1)] [] 0 (mX0_dies this a0 a1 w) := by
  unfold mX0_dies
  refine V_aload_n (pc := 0) hk dX0_dies_0 0 rfl ?_
  refine V_iload_n (pc := 1) hk dX0_dies_1 1 rfl ?_
  refine n_X0_119 (pc := 2) hk (fun b r h => ctX0_isText (fl y) (fK y) hk.2.2.2.2.2.2.2.1 b a0 w r h) ⟨Nat.le_of_ble_eq_true rfl, Nat.le_of_ble_eq_true rfl⟩ (Nat.le_of_ble_eq_true rfl) dX0_dies_2 (fun r1 => ?_)
  refine V_if_eq (pc := 5) (tgt := 26) hk dX0_dies_5 rfl ?_ ?_
  · refine V_bipush (pc := 26) (v := (-2)) hk dX0_dies_26 (by decide +kernel) ?_
    exact V_ireturn (pc := 28) hk hR rfl dX0_dies_28
  · refine V_iload_n (pc := 8) hk dX0_dies_8 2 rfl ?_
    refine V_iconst (pc := 9) (v := 2) hk dX0_dies_9 rfl ?_
    refine V_sipush (pc := 10) (v := 200) hk dX0_dies_10 rfl ?_
    refine n_X0_82 (pc := 13) hk (fun r h => ctX0_in (fl y) (fK y) hk.2.2.2.2.2.2.2.1 a1 2 200 r1.2 r h) ⟨Nat.le_of_ble_eq_true rfl, Nat.le_of_ble_eq_true rfl⟩ (Nat.le_of_ble_eq_true rfl) dX0_dies_13 (fun r3 => ?_)
    refine V_if_eq (pc := 16) (tgt := 26) hk dX0_dies_16 rfl ?_ ?_
    · refine V_bipush (pc := 26) (v := (-2)) hk dX0_dies_26 (by decide +kernel) ?_
      exact V_ireturn (pc := 28) hk hR rfl dX0_dies_28
    · refine V_iload_n (pc := 19) hk dX0_dies_19 2 rfl ?_
      refine V_iconst (pc := 20) (v := 2) hk dX0_dies_20 rfl ?_
      refine V_irem (pc := 21) hk dX0_dies_21 (fun v4 => ?_)
      refine V_iconst (pc := 22) (v := 1) hk dX0_dies_22 rfl ?_
      refine V_icmp_ne (pc := 23) (tgt := 29) hk dX0_dies_23 rfl ?_ ?_
      · refine V_aload_n (pc := 29) hk dX0_dies_29 0 rfl ?_
        refine V_iload_n (pc := 30) hk dX0_dies_30 2 rfl ?_
        refine V_iconst (pc := 31) (v := 2) hk dX0_dies_31 rfl ?_
        refine V_idiv (pc := 32) hk dX0_dies_32 (fun v5 => ?_)
        refine V_aload_n (pc := 33) hk dX0_dies_33 0 rfl ?_
        refine g_X0_21 (pc := 34) hk dX0_dies_34 (fun v6 => ?_)
        refine g_X0_100 (pc := 37) hk dX0_dies_37 (fun v7 => ?_)
        refine V_iload_n (pc := 40) hk dX0_dies_40 1 rfl ?_
        refine V_aaload (pc := 41) hk dX0_dies_41 (fun v8 => ?_)
        refine V_iconst (pc := 42) (v := 1) hk dX0_dies_42 rfl ?_
        refine n_X0_309 (pc := 43) hk (fun b r h => ctX0_goes (fl y) (fK y) hk.2.2.2.2.2.2.2.1 b v5 v8 1 r3.2 r h) ⟨Nat.le_of_ble_eq_true rfl, Nat.le_of_ble_eq_true rfl⟩ (Nat.le_of_ble_eq_true rfl) dX0_dies_43 (fun r9 => ?_)
        refine V_aload_n (pc := 46) hk dX0_dies_46 0 rfl ?_
        refine g_X0_303 (pc := 47) hk dX0_dies_47 (fun v11 => ?_)
        refine V_istore_n (pc := 50) (lc' := [(3, .int v11), (0, va_rf ((some this))), (1, .int a0), (2, .int a1)]) (i := 3) hk dX0_dies_50 rfl (Nat.le_of_ble_eq_true rfl) rfl ?_
        refine V_aload_n (pc := 51) hk dX0_dies_51 1 rfl ?_
        refine V_iload_n (pc := 52) hk dX0_dies_52 3 rfl ?_
        refine V_aload_n (pc := 53) hk dX0_dies_53 1 rfl ?_
        refine g_X0_21 (pc := 54) hk dX0_dies_54 (fun v12 => ?_)
        refine g_X0_100 (pc := 57) hk dX0_dies_57 (fun v13 => ?_)
        refine V_iload_n (pc := 60) hk dX0_dies_60 2 rfl ?_
        refine V_aaload (pc := 61) hk dX0_dies_61 (fun v14 => ?_)
        refine V_iload_n (pc := 62) hk dX0_dies_62 3 rfl ?_
        refine V_iconst (pc := 63) (v := 2) hk dX0_dies_63 rfl ?_
        refine V_idiv (pc := 64) hk dX0_dies_64 (fun v15 => ?_)
        refine V_iconst (pc := 65) (v := 1) hk dX0_dies_65 rfl ?_
        refine V_iadd (pc := 66) hk dX0_dies_66 ?_
        refine n_X0_309 (pc := 67) hk (fun b r h => ctX0_goes (fl y) (fK y) hk.2.2.2.2.2.2.2.1 b a1 v14 (v15 + 1) r9.2 r h) ⟨Nat.le_of_ble_eq_true rfl, Nat.le_of_ble_eq_true rfl⟩ (Nat.le_of_ble_eq_true rfl) dX0_dies_67 (fun r16 => ?_)
        refine V_aload_n (pc := 70) hk dX0_dies_70 1 rfl ?_
        refine g_X0_303 (pc := 71) hk dX0_dies_71 (fun v18 => ?_)
        refine V_iload_n (pc := 74) hk dX0_dies_74 0 rfl ?_
        refine V_icmp_ge (pc := 75) (tgt := 82) hk dX0_dies_75 rfl ?_ ?_
        · refine V_aload_n (pc := 82) hk dX0_dies_82 1 rfl ?_
          refine g_X0_303 (pc := 83) hk dX0_dies_83 (fun v19 => ?_)
          refine V_iload_n (pc := 86) hk dX0_dies_86 0 rfl ?_
          refine V_icmp_le (pc := 87) (tgt := 94) hk dX0_dies_87 rfl ?_ ?_
          · refine V_iconst (pc := 94) (v := 0) hk dX0_dies_94 rfl ?_
            exact V_ireturn (pc := 95) hk hR rfl dX0_dies_95
          · refine V_iconst (pc := 90) (v := 1) hk dX0_dies_90 rfl ?_
            refine V_goto (pc := 91) (tgt := 95) hk dX0_dies_91 rfl ?_
            exact V_ireturn (pc := 95) hk hR rfl dX0_dies_95
        · refine V_iconst (pc := 78) (v := (-1)) hk dX0_dies_78 (by decide +kernel) ?_
          refine V_goto (pc := 79) (tgt := 95) hk dX0_dies_79 rfl ?_
          exact V_ireturn (pc := 95) hk hR rfl dX0_dies_95
      · refine V_bipush (pc := 26) (v := (-2)) hk dX0_dies_26 (by decide +kernel) ?_
        exact V_ireturn (pc := 28) hk hR rfl dX0_dies_28
theorem ctX0_dies (l : Launch) (K : Kx) (hI : Ini K) (b : Nat) (a0 : Int32) (a1 : Int32) (w : Wd) : ∀ r, mX0_dies b a0 a1 w = some r → Ct l K 110 6248 yX0_dies (ws_ yX0_dies cX0_dies 4 (some (.int))) [.ref b, .int a0, .int a1] w (rvI r.1) r.2 := Ct_of rvI l K hI 110 6248 [.ref b, .int a0, .int a1] w (by decide) (lc0 := [(0, .ref b), (1, .int a0), (2, .int a1)]) rfl (Nat.le_of_ble_eq_true rfl) (fun y hk hR _ _ hin => eX0_dies hk hR b a0 a1 w)
noncomputable def mX0_calmest_b20 (k20 : Wd → (Option Nat) → Int32 → Int32 → Int32 → Int32 → Option (Int32 × Wd)) (w : Wd) (l0 : Option Nat) (l1 : Int32) (l2 : Int32) (l3 : Int32) (l4 : Int32) : Option (Int32 × Wd) :=
(gR w l0 0 0).bind fun v1 =>
(gR w v1 1 0).bind fun v2 =>
(ia w v2 2).bind fun v3 =>
if v3 ≤ l4 then (
some (l2, w))
else (
(gR w l0 0 0).bind fun v4 =>
(gR w v4 1 6).bind fun v5 =>
(aa w v5 l4).bind fun v6 =>
(recv w l0 0).bind fun b8 => (cal w (mX0_goes b8 l1 v6 1 w)).bind fun r7 =>
if l2 = (-1) then (
(gI r7.2 l0 0 9).bind fun v9 =>
k20 r7.2 l0 l1 l4 v9 (l4 + 1))
else (
(gI r7.2 l0 0 9).bind fun v10 =>
if v10 < l3 then (
(gI r7.2 l0 0 9).bind fun v11 =>
k20 r7.2 l0 l1 l4 v11 (l4 + 1))
else (
k20 r7.2 l0 l1 l2 l3 (l4 + 1))))
noncomputable def mX0_calmest_l20 : Nat → Wd → (Option Nat) → Int32 → Int32 → Int32 → Int32 → Option (Int32 × Wd)
  | 0, _, _, _, _, _, _ => none
  | n + 1, w, l0, l1, l2, l3, l4 => mX0_calmest_b20 (mX0_calmest_l20 n) w l0 l1 l2 l3 l4
noncomputable def mX0_calmest (this : Nat) (a0 : Int32) (w : Wd) : Option (Int32 × Wd) :=
(cal w (mX0_in a0 1 200 w)).bind fun r1 =>
if ¬ r1.1 = 0 then (
mX0_calmest_l20 FU r1.2 ((some this)) a0 (-1) 0 0)
else (
some ((-1), r1.2))
theorem eX0_calmest_b20 {y : Fx (Int32 × Wd)} (hk : OkF y RX0 cX0_calmest 5 110 6248) (hR : RetM y rvI (some (.int))) {k20 : Wd → (Option Nat) → Int32 → Int32 → Int32 → Int32 → Option (Int32 × Wd)} (h20 : ∀ (w : Wd) (l0 : Option Nat) (l1 : Int32) (l2 : Int32) (l3 : Int32) (l4 : Int32), V y w [(0, va_rf l0), (1, .int l1), (2, .int l2), (3, .int l3), (4, .int l4)] [] 20 (k20 w l0 l1 l2 l3 l4)) (w : Wd) (l0 : Option Nat) (l1 : Int32) (l2 : Int32) (l3 : Int32) (l4 : Int32) : V y w [(0, va_rf l0), (1, .int l1), (2, .int l2), (3, .int l3), (4, .int l4)] [] 20 (mX0_calmest_b20 k20 w l0 l1 l2 l3 l4) := by
  unfold mX0_calmest_b20
  refine V_iload (pc := 20) hk dX0_calmest_20 4 rfl ?_
  refine V_aload_n (pc := 22) hk dX0_calmest_22 0 rfl ?_
  refine g_X0_21 (pc := 23) hk dX0_calmest_23 (fun v1 => ?_)
  refine g_X0_79 (pc := 26) hk dX0_calmest_26 (fun v2 => ?_)
  refine V_iconst (pc := 29) (v := 2) hk dX0_calmest_29 rfl ?_
  refine V_iaload (pc := 30) hk dX0_calmest_30 (fun v3 => ?_)
  refine V_icmp_ge (pc := 31) (tgt := 80) hk dX0_calmest_31 rfl ?_ ?_
  · refine V_iload_n (pc := 80) hk dX0_calmest_80 2 rfl ?_
    exact V_ireturn (pc := 81) hk hR rfl dX0_calmest_81
  · refine V_aload_n (pc := 34) hk dX0_calmest_34 0 rfl ?_
    refine V_iload_n (pc := 35) hk dX0_calmest_35 1 rfl ?_
    refine V_aload_n (pc := 36) hk dX0_calmest_36 0 rfl ?_
    refine g_X0_21 (pc := 37) hk dX0_calmest_37 (fun v4 => ?_)
    refine g_X0_100 (pc := 40) hk dX0_calmest_40 (fun v5 => ?_)
    refine V_iload (pc := 43) hk dX0_calmest_43 4 rfl ?_
    refine V_aaload (pc := 45) hk dX0_calmest_45 (fun v6 => ?_)
    refine V_iconst (pc := 46) (v := 1) hk dX0_calmest_46 rfl ?_
    refine n_X0_309 (pc := 47) hk (fun b r h => ctX0_goes (fl y) (fK y) hk.2.2.2.2.2.2.2.1 b l1 v6 1 w r h) ⟨Nat.le_of_ble_eq_true rfl, Nat.le_of_ble_eq_true rfl⟩ (Nat.le_of_ble_eq_true rfl) dX0_calmest_47 (fun r7 => ?_)
    refine V_iload_n (pc := 50) hk dX0_calmest_50 2 rfl ?_
    refine V_iconst (pc := 51) (v := (-1)) hk dX0_calmest_51 (by decide +kernel) ?_
    refine V_icmp_eq (pc := 52) (tgt := 66) hk dX0_calmest_52 rfl ?_ ?_
    · refine V_iload (pc := 66) hk dX0_calmest_66 4 rfl ?_
      refine V_istore_n (pc := 68) (lc' := [(2, .int l4), (0, va_rf l0), (1, .int l1), (3, .int l3), (4, .int l4)]) (i := 2) hk dX0_calmest_68 rfl (Nat.le_of_ble_eq_true rfl) rfl ?_
      refine V_aload_n (pc := 69) hk dX0_calmest_69 1 rfl ?_
      refine g_X0_303 (pc := 70) hk dX0_calmest_70 (fun v9 => ?_)
      refine V_istore_n (pc := 73) (lc' := [(3, .int v9), (2, .int l4), (0, va_rf l0), (1, .int l1), (4, .int l4)]) (i := 3) hk dX0_calmest_73 rfl (Nat.le_of_ble_eq_true rfl) rfl ?_
      refine V_iinc (pc := 74) (v := 1) (lc' := [(4, .int (l4 + 1)), (3, .int v9), (2, .int l4), (0, va_rf l0), (1, .int l1)]) hk dX0_calmest_74 4 rfl rfl (Nat.le_of_ble_eq_true rfl) rfl ?_
      refine V_goto (pc := 77) (tgt := 20) hk dX0_calmest_77 rfl ?_
      refine V_pick (lc' := [(0, va_rf l0), (1, .int l1), (2, .int l4), (3, .int v9), (4, .int (l4 + 1))]) [3, 4, 2, 1, 0] rfl ?_
      exact h20 r7.2 l0 l1 l4 v9 (l4 + 1)
    · refine V_aload_n (pc := 55) hk dX0_calmest_55 0 rfl ?_
      refine g_X0_303 (pc := 56) hk dX0_calmest_56 (fun v10 => ?_)
      refine V_iload_n (pc := 59) hk dX0_calmest_59 3 rfl ?_
      refine V_icmp_lt (pc := 60) (tgt := 66) hk dX0_calmest_60 rfl ?_ ?_
      · refine V_iload (pc := 66) hk dX0_calmest_66 4 rfl ?_
        refine V_istore_n (pc := 68) (lc' := [(2, .int l4), (0, va_rf l0), (1, .int l1), (3, .int l3), (4, .int l4)]) (i := 2) hk dX0_calmest_68 rfl (Nat.le_of_ble_eq_true rfl) rfl ?_
        refine V_aload_n (pc := 69) hk dX0_calmest_69 1 rfl ?_
        refine g_X0_303 (pc := 70) hk dX0_calmest_70 (fun v11 => ?_)
        refine V_istore_n (pc := 73) (lc' := [(3, .int v11), (2, .int l4), (0, va_rf l0), (1, .int l1), (4, .int l4)]) (i := 3) hk dX0_calmest_73 rfl (Nat.le_of_ble_eq_true rfl) rfl ?_
        refine V_iinc (pc := 74) (v := 1) (lc' := [(4, .int (l4 + 1)), (3, .int v11), (2, .int l4), (0, va_rf l0), (1, .int l1)]) hk dX0_calmest_74 4 rfl rfl (Nat.le_of_ble_eq_true rfl) rfl ?_
        refine V_goto (pc := 77) (tgt := 20) hk dX0_calmest_77 rfl ?_
        refine V_pick (lc' := [(0, va_rf l0), (1, .int l1), (2, .int l4), (3, .int v11), (4, .int (l4 + 1))]) [3, 4, 2, 1, 0] rfl ?_
        exact h20 r7.2 l0 l1 l4 v11 (l4 + 1)
      · refine V_goto (pc := 63) (tgt := 74) hk dX0_calmest_63 rfl ?_
        refine V_iinc (pc := 74) (v := 1) (lc' := [(4, .int (l4 + 1)), (0, va_rf l0), (1, .int l1), (2, .int l2), (3, .int l3)]) hk dX0_calmest_74 4 rfl rfl (Nat.le_of_ble_eq_true rfl) rfl ?_
        refine V_goto (pc := 77) (tgt := 20) hk dX0_calmest_77 rfl ?_
        refine V_pick (lc' := [(0, va_rf l0), (1, .int l1), (2, .int l2), (3, .int l3), (4, .int (l4 + 1))]) [1, 2, 3, 4, 0] rfl ?_
        exact h20 r7.2 l0 l1 l2 l3 (l4 + 1)
theorem eX0_calmest_l20 {y : Fx (Int32 × Wd)} (hk : OkF y RX0 cX0_calmest 5 110 6248) (hR : RetM y rvI (some (.int))) : ∀ (n : Nat) (w : Wd) (l0 : Option Nat) (l1 : Int32) (l2 : Int32) (l3 : Int32) (l4 : Int32), V y w [(0, va_rf l0), (1, .int l1), (2, .int l2), (3, .int l3), (4, .int l4)] [] 20 (mX0_calmest_l20 n w l0 l1 l2 l3 l4) := by
  intro n
  induction n with
  | zero => intro w l0 l1 l2 l3 l4; exact V_none
  | succ n ih => intro w l0 l1 l2 l3 l4; exact eX0_calmest_b20 hk hR ih w l0 l1 l2 l3 l4
theorem eX0_calmest {y : Fx (Int32 × Wd)} (hk : OkF y RX0 cX0_calmest 5 110 6248) (hR : RetM y rvI (some (.int))) (this : Nat) (a0 : Int32) (w : Wd) : V y w [(0, va_rf (some this)), (1, .int a0)] [] 0 (mX0_calmest this a0 w) := by
  unfold mX0_calmest
  refine V_iload_n (pc := 0) hk dX0_calmest_0 1 rfl ?_
  refine V_iconst (pc := 1) (v := 1) hk dX0_calmest_1 rfl ?_
  refine V_sipush (pc := 2) (v := 200) hk dX0_calmest_2 rfl ?_
  refine n_X0_82 (pc := 5) hk (fun r h => ctX0_in (fl y) (fK y) hk.2.2.2.2.2.2.2.1 a0 1 200 w r h) ⟨Nat.le_of_ble_eq_true rfl, Nat.le_of_ble_eq_true rfl⟩ (Nat.le_of_ble_eq_true rfl) dX0_calmest_5 (fun r1 => ?_)
  refine V_if_ne (pc := 8) (tgt := 13) hk dX0_calmest_8 rfl ?_ ?_
  · refine V_iconst (pc := 13) (v := (-1)) hk dX0_calmest_13 (by decide +kernel) ?_
    refine V_istore_n (pc := 14) (lc' := [(2, .int (-1)), (0, va_rf ((some this))), (1, .int a0)]) (i := 2) hk dX0_calmest_14 rfl (Nat.le_of_ble_eq_true rfl) rfl ?_
    refine V_iconst (pc := 15) (v := 0) hk dX0_calmest_15 rfl ?_
    refine V_istore_n (pc := 16) (lc' := [(3, .int 0), (2, .int (-1)), (0, va_rf ((some this))), (1, .int a0)]) (i := 3) hk dX0_calmest_16 rfl (Nat.le_of_ble_eq_true rfl) rfl ?_
    refine V_iconst (pc := 17) (v := 0) hk dX0_calmest_17 rfl ?_
    refine V_istore (pc := 18) (lc' := [(4, .int 0), (3, .int 0), (2, .int (-1)), (0, va_rf ((some this))), (1, .int a0)]) (i := 4) hk dX0_calmest_18 (Nat.le_of_ble_eq_true rfl) rfl ?_
    refine V_pick (lc' := [(0, va_rf ((some this))), (1, .int a0), (2, .int (-1)), (3, .int 0), (4, .int 0)]) [3, 4, 2, 1, 0] rfl ?_
    exact eX0_calmest_l20 hk hR FU r1.2 ((some this)) a0 (-1) 0 0
  · refine V_iconst (pc := 11) (v := (-1)) hk dX0_calmest_11 (by decide +kernel) ?_
    exact V_ireturn (pc := 12) hk hR rfl dX0_calmest_12
theorem ctX0_calmest (l : Launch) (K : Kx) (hI : Ini K) (b : Nat) (a0 : Int32) (w : Wd) : ∀ r, mX0_calmest b a0 w = some r → Ct l K 110 6248 yX0_calmest (ws_ yX0_calmest cX0_calmest 5 (some (.int))) [.ref b, .int a0] w (rvI r.1) r.2 := Ct_of rvI l K hI 110 6248 [.ref b, .int a0] w (by decide) (lc0 := [(0, .ref b), (1, .int a0)]) rfl (Nat.le_of_ble_eq_true rfl) (fun y hk hR _ _ hin => eX0_calmest hk hR b a0 w)
noncomputable def mX0_isHand_b35 (k35 : Wd → (Option Nat) → (Option Nat) → (Option Nat) → Int32 → Int32 → Option (Int32 × Wd)) (w : Wd) (l0 : Option Nat) (l1 : Option Nat) (l2 : Option Nat) (l3 : Int32) (l4 : Int32) : Option (Int32 × Wd) :=
(ia w l2 8).bind fun v1 =>
if v1 ≤ l4 then (
(nok (.boolean) 1).bind fun _ => some (1, w))
else (
(cal w (mX0_tenthAt l4 w)).bind fun r2 =>
(gR r2.2 l0 0 6).bind fun v3 =>
(acpI r2.2 l2 r2.1 v3 0 5).bind fun w4 =>
(recv w4 l0 0).bind fun b6 => (cal w4 (mX0_namesAgo b6 l2 l4 l3 w4)).bind fun r5 =>
(recv r5.2 l0 0).bind fun b8 => (cal r5.2 (mX0_commandBy b8 l1 r5.2)).bind fun r7 =>
(cal r7.2 (mX0_tenthAt l4 r7.2)).bind fun r9 =>
(ia r9.2 l2 (r9.1 + 5)).bind fun v10 =>
if r7.1 = v10 then (
k35 r9.2 l0 l1 l2 l3 (l4 + 1))
else (
(nok (.boolean) 0).bind fun _ => some (0, r9.2)))
noncomputable def mX0_isHand_l35 : Nat → Wd → (Option Nat) → (Option Nat) → (Option Nat) → Int32 → Int32 → Option (Int32 × Wd)
  | 0, _, _, _, _, _, _ => none
  | n + 1, w, l0, l1, l2, l3, l4 => mX0_isHand_b35 (mX0_isHand_l35 n) w l0 l1 l2 l3 l4
noncomputable def mX0_isHand (this : Nat) (a0 : Option Nat) (w : Wd) : Option (Int32 × Wd) :=
(gR w ((some this)) 0 0).bind fun v1 =>
(gR w v1 1 1).bind fun v2 =>
(cal w (mX0_firstKept v2 w)).bind fun r3 =>
(gR r3.2 ((some this)) 0 6).bind fun v4 =>
(ia r3.2 v2 4).bind fun v5 =>
(ias r3.2 v4 5 v5).bind fun w6 =>
(gR w6 ((some this)) 0 6).bind fun v7 =>
(ia w6 v2 5).bind fun v8 =>
(ias w6 v7 6 v8).bind fun w9 =>
mX0_isHand_l35 FU w9 ((some this)) a0 v2 r3.1 r3.1
theorem eX0_isHand_b35 {y : Fx (Int32 × Wd)} (hk : OkF y RX0 cX0_isHand 5 107 6176) (hR : RetM y rvI (some (.boolean))) {k35 : Wd → (Option Nat) → (Option Nat) → (Option Nat) → Int32 → Int32 → Option (Int32 × Wd)} (h35 : ∀ (w : Wd) (l0 : Option Nat) (l1 : Option Nat) (l2 : Option Nat) (l3 : Int32) (l4 : Int32), V y w [(0, va_rf l0), (1, va_rf l1), (2, va_rf l2), (3, .int l3), (4, .int l4)] [] 35 (k35 w l0 l1 l2 l3 l4)) (w : Wd) (l0 : Option Nat) (l1 : Option Nat) (l2 : Option Nat) (l3 : Int32) (l4 : Int32) : V y w [(0, va_rf l0), (1, va_rf l1), (2, va_rf l2), (3, .int l3), (4, .int l4)] [] 35 (mX0_isHand_b35 k35 w l0 l1 l2 l3 l4) := by
  unfold mX0_isHand_b35
  refine V_iload (pc := 35) hk dX0_isHand_35 4 rfl ?_
  refine V_aload_n (pc := 37) hk dX0_isHand_37 2 rfl ?_
  refine V_bipush (pc := 38) (v := 8) hk dX0_isHand_38 rfl ?_
  refine V_iaload (pc := 40) hk dX0_isHand_40 (fun v1 => ?_)
  refine V_icmp_ge (pc := 41) (tgt := 92) hk dX0_isHand_41 rfl ?_ ?_
  · refine V_iconst (pc := 92) (v := 1) hk dX0_isHand_92 rfl ?_
    exact V_zreturn (pc := 93) hk hR rfl dX0_isHand_93
  · refine V_aload_n (pc := 44) hk dX0_isHand_44 2 rfl ?_
    refine V_iload (pc := 45) hk dX0_isHand_45 4 rfl ?_
    refine n_X0_133 (pc := 47) hk (fun r h => ctX0_tenthAt (fl y) (fK y) hk.2.2.2.2.2.2.2.1 l4 w r h) ⟨Nat.le_of_ble_eq_true rfl, Nat.le_of_ble_eq_true rfl⟩ (by simp [rf_cat, cat_int, cat_long, cat_ref]) dX0_isHand_47 (fun r2 => ?_)
    refine V_aload_n (pc := 50) hk dX0_isHand_50 0 rfl ?_
    refine g_X0_39 (pc := 51) hk dX0_isHand_51 (fun v3 => ?_)
    refine V_iconst (pc := 54) (v := 0) hk dX0_isHand_54 rfl ?_
    refine V_iconst (pc := 55) (v := 5) hk dX0_isHand_55 rfl ?_
    refine V_acpI (pc := 56) hk (acpW hk q909 q222 q221 q132) ⟨Nat.le_of_ble_eq_true rfl, Nat.le_of_ble_eq_true rfl⟩ (Nat.le_of_ble_eq_true rfl) dX0_isHand_56 (fun w4 => ?_)
    refine V_aload_n (pc := 59) hk dX0_isHand_59 0 rfl ?_
    refine V_aload_n (pc := 60) hk dX0_isHand_60 2 rfl ?_
    refine V_iload (pc := 61) hk dX0_isHand_61 4 rfl ?_
    refine V_iload_n (pc := 63) hk dX0_isHand_63 3 rfl ?_
    refine n_X0_150 (pc := 64) hk (fun b r h => ctX0_namesAgo (fl y) (fK y) hk.2.2.2.2.2.2.2.1 b l2 l4 l3 w4 r h) ⟨Nat.le_of_ble_eq_true rfl, Nat.le_of_ble_eq_true rfl⟩ (Nat.le_of_ble_eq_true rfl) dX0_isHand_64 (fun r5 => ?_)
    refine V_aload_n (pc := 67) hk dX0_isHand_67 0 rfl ?_
    refine V_aload_n (pc := 68) hk dX0_isHand_68 1 rfl ?_
    refine n_X0_180 (pc := 69) hk (fun b r h => ctX0_commandBy (fl y) (fK y) hk.2.2.2.2.2.2.2.1 b l1 r5.2 r h) ⟨Nat.le_of_ble_eq_true rfl, Nat.le_of_ble_eq_true rfl⟩ (Nat.le_of_ble_eq_true rfl) dX0_isHand_69 (fun r7 => ?_)
    refine V_aload_n (pc := 72) hk dX0_isHand_72 2 rfl ?_
    refine V_iload (pc := 73) hk dX0_isHand_73 4 rfl ?_
    refine n_X0_133 (pc := 75) hk (fun r h => ctX0_tenthAt (fl y) (fK y) hk.2.2.2.2.2.2.2.1 l4 r7.2 r h) ⟨Nat.le_of_ble_eq_true rfl, Nat.le_of_ble_eq_true rfl⟩ (by simp [rf_cat, cat_int, cat_long, cat_ref]) dX0_isHand_75 (fun r9 => ?_)
    refine V_iconst (pc := 78) (v := 5) hk dX0_isHand_78 rfl ?_
    refine V_iadd (pc := 79) hk dX0_isHand_79 ?_
    refine V_iaload (pc := 80) hk dX0_isHand_80 (fun v10 => ?_)
    refine V_icmp_eq (pc := 81) (tgt := 86) hk dX0_isHand_81 rfl ?_ ?_
    · refine V_iinc (pc := 86) (v := 1) (lc' := [(4, .int (l4 + 1)), (0, va_rf l0), (1, va_rf l1), (2, va_rf l2), (3, .int l3)]) hk dX0_isHand_86 4 rfl rfl (Nat.le_of_ble_eq_true rfl) rfl ?_
      refine V_goto (pc := 89) (tgt := 35) hk dX0_isHand_89 rfl ?_
      refine V_pick (lc' := [(0, va_rf l0), (1, va_rf l1), (2, va_rf l2), (3, .int l3), (4, .int (l4 + 1))]) [1, 2, 3, 4, 0] rfl ?_
      exact h35 r9.2 l0 l1 l2 l3 (l4 + 1)
    · refine V_iconst (pc := 84) (v := 0) hk dX0_isHand_84 rfl ?_
      exact V_zreturn (pc := 85) hk hR rfl dX0_isHand_85
theorem eX0_isHand_l35 {y : Fx (Int32 × Wd)} (hk : OkF y RX0 cX0_isHand 5 107 6176) (hR : RetM y rvI (some (.boolean))) : ∀ (n : Nat) (w : Wd) (l0 : Option Nat) (l1 : Option Nat) (l2 : Option Nat) (l3 : Int32) (l4 : Int32), V y w [(0, va_rf l0), (1, va_rf l1), (2, va_rf l2), (3, .int l3), (4, .int l4)] [] 35 (mX0_isHand_l35 n w l0 l1 l2 l3 l4) := by
  intro n
  induction n with
  | zero => intro w l0 l1 l2 l3 l4; exact V_none
  | succ n ih => intro w l0 l1 l2 l3 l4; exact eX0_isHand_b35 hk hR ih w l0 l1 l2 l3 l4
theorem eX0_isHand {y : Fx (Int32 × Wd)} (hk : OkF y RX0 cX0_isHand 5 107 6176) (hR : RetM y rvI (some (.boolean))) (this : Nat) (a0 : Option Nat) (w : Wd) : V y w [(0, va_rf (some this)), (1, va_rf a0)] [] 0 (mX0_isHand this a0 w) := by
  unfold mX0_isHand
  refine V_aload_n (pc := 0) hk dX0_isHand_0 0 rfl ?_
  refine g_X0_21 (pc := 1) hk dX0_isHand_1 (fun v1 => ?_)
  refine g_X0_176 (pc := 4) hk dX0_isHand_4 (fun v2 => ?_)
  refine V_astore_n (pc := 7) (lc' := [(2, va_rf v2), (0, va_rf ((some this))), (1, va_rf a0)]) (i := 2) hk dX0_isHand_7 rfl (Nat.le_of_ble_eq_true rfl) (by simp [rf_cat, cat_int, cat_long, cat_ref]) ?_
  refine V_aload_n (pc := 8) hk dX0_isHand_8 0 rfl ?_
  refine n_X0_146 (pc := 9) hk (fun r h => ctX0_firstKept (fl y) (fK y) hk.2.2.2.2.2.2.2.1 v2 w r h) ⟨Nat.le_of_ble_eq_true rfl, Nat.le_of_ble_eq_true rfl⟩ (Nat.le_of_ble_eq_true rfl) dX0_isHand_9 (fun r3 => ?_)
  refine V_istore_n (pc := 12) (lc' := [(3, .int r3.1), (2, va_rf v2), (0, va_rf ((some this))), (1, va_rf a0)]) (i := 3) hk dX0_isHand_12 rfl (Nat.le_of_ble_eq_true rfl) (by simp [rf_cat, cat_int, cat_long, cat_ref]) ?_
  refine V_aload_n (pc := 13) hk dX0_isHand_13 2 rfl ?_
  refine g_X0_39 (pc := 14) hk dX0_isHand_14 (fun v4 => ?_)
  refine V_iconst (pc := 17) (v := 5) hk dX0_isHand_17 rfl ?_
  refine V_aload_n (pc := 18) hk dX0_isHand_18 1 rfl ?_
  refine V_iconst (pc := 19) (v := 4) hk dX0_isHand_19 rfl ?_
  refine V_iaload (pc := 20) hk dX0_isHand_20 (fun v5 => ?_)
  refine V_iastore (pc := 21) hk dX0_isHand_21 (fun w6 => ?_)
  refine V_aload_n (pc := 22) hk dX0_isHand_22 2 rfl ?_
  refine g_X0_39 (pc := 23) hk dX0_isHand_23 (fun v7 => ?_)
  refine V_bipush (pc := 26) (v := 6) hk dX0_isHand_26 rfl ?_
  refine V_aload_n (pc := 28) hk dX0_isHand_28 1 rfl ?_
  refine V_iconst (pc := 29) (v := 5) hk dX0_isHand_29 rfl ?_
  refine V_iaload (pc := 30) hk dX0_isHand_30 (fun v8 => ?_)
  refine V_iastore (pc := 31) hk dX0_isHand_31 (fun w9 => ?_)
  refine V_iload_n (pc := 32) hk dX0_isHand_32 0 rfl ?_
  refine V_istore (pc := 33) (lc' := [(4, .int r3.1), (3, .int r3.1), (2, va_rf v2), (0, va_rf ((some this))), (1, va_rf a0)]) (i := 4) hk dX0_isHand_33 (Nat.le_of_ble_eq_true rfl) rfl ?_
  refine V_pick (lc' := [(0, va_rf ((some this))), (1, va_rf a0), (2, va_rf v2), (3, .int r3.1), (4, .int r3.1)]) [3, 4, 2, 1, 0] rfl ?_
  exact eX0_isHand_l35 hk hR FU w9 ((some this)) a0 v2 r3.1 r3.1
theorem ctX0_isHand (l : Launch) (K : Kx) (hI : Ini K) (b : Nat) (a0 : Option Nat) (w : Wd) : ∀ r, mX0_isHand b a0 w = some r → Ct l K 107 6176 yX0_isHand (ws_ yX0_isHand cX0_isHand 5 (some (.boolean))) [.ref b, va_rf a0] w (rvI r.1) r.2 := Ct_of rvI l K hI 107 6176 [.ref b, va_rf a0] w (by decide) (lc0 := [(0, .ref b), (1, va_rf a0)]) (by simp [lv_args, rf_cat, cat_int, cat_long, cat_ref]) (lg_len _ _ (by simp [rf_cat, cat_int, cat_long, cat_ref])) (fun y hk hR _ _ hin => eX0_isHand hk hR b a0 w)
noncomputable def mX0_whoseHand_b4 (k4 : Wd → (Option Nat) → Int32 → Int32 → Option (Int32 × Wd)) (w : Wd) (l0 : Option Nat) (l1 : Int32) (l2 : Int32) : Option (Int32 × Wd) :=
(gR w l0 0 0).bind fun v1 =>
(gR w v1 1 0).bind fun v2 =>
(ia w v2 2).bind fun v3 =>
if v3 ≤ l2 then (
some (l1, w))
else (
(gR w l0 0 0).bind fun v4 =>
(gR w v4 1 6).bind fun v5 =>
(aa w v5 l2).bind fun v6 =>
(recv w l0 0).bind fun b8 => (cal w (mX0_isHand b8 v6 w)).bind fun r7 =>
if r7.1 = 0 then (
k4 r7.2 l0 (l1 ||| 0) (l2 + 1))
else (
(some (l1 ||| (1 <<< (l2 &&& 31)))).bind fun (x9 : Int32) =>
k4 r7.2 l0 x9 (l2 + 1)))
noncomputable def mX0_whoseHand_l4 : Nat → Wd → (Option Nat) → Int32 → Int32 → Option (Int32 × Wd)
  | 0, _, _, _, _ => none
  | n + 1, w, l0, l1, l2 => mX0_whoseHand_b4 (mX0_whoseHand_l4 n) w l0 l1 l2
noncomputable def mX0_whoseHand (this : Nat) (w : Wd) : Option (Int32 × Wd) :=
mX0_whoseHand_l4 FU w ((some this)) 0 0
theorem eX0_whoseHand_b4 {y : Fx (Int32 × Wd)} (hk : OkF y RX0 cX0_whoseHand 3 108 6200) (hR : RetM y rvI (some (.int))) {k4 : Wd → (Option Nat) → Int32 → Int32 → Option (Int32 × Wd)} (h4 : ∀ (w : Wd) (l0 : Option Nat) (l1 : Int32) (l2 : Int32), V y w [(0, va_rf l0), (1, .int l1), (2, .int l2)] [] 4 (k4 w l0 l1 l2)) (w : Wd) (l0 : Option Nat) (l1 : Int32) (l2 : Int32) : V y w [(0, va_rf l0), (1, .int l1), (2, .int l2)] [] 4 (mX0_whoseHand_b4 k4 w l0 l1 l2) := by
  unfold mX0_whoseHand_b4
  refine V_iload_n (pc := 4) hk dX0_whoseHand_4 2 rfl ?_
  refine V_aload_n (pc := 5) hk dX0_whoseHand_5 0 rfl ?_
  refine g_X0_21 (pc := 6) hk dX0_whoseHand_6 (fun v1 => ?_)
  refine g_X0_79 (pc := 9) hk dX0_whoseHand_9 (fun v2 => ?_)
  refine V_iconst (pc := 12) (v := 2) hk dX0_whoseHand_12 rfl ?_
  refine V_iaload (pc := 13) hk dX0_whoseHand_13 (fun v3 => ?_)
  refine V_icmp_ge (pc := 14) (tgt := 49) hk dX0_whoseHand_14 rfl ?_ ?_
  · refine V_iload_n (pc := 49) hk dX0_whoseHand_49 1 rfl ?_
    exact V_ireturn (pc := 50) hk hR rfl dX0_whoseHand_50
  · refine V_iload_n (pc := 17) hk dX0_whoseHand_17 1 rfl ?_
    refine V_aload_n (pc := 18) hk dX0_whoseHand_18 0 rfl ?_
    refine V_aload_n (pc := 19) hk dX0_whoseHand_19 0 rfl ?_
    refine g_X0_21 (pc := 20) hk dX0_whoseHand_20 (fun v4 => ?_)
    refine g_X0_100 (pc := 23) hk dX0_whoseHand_23 (fun v5 => ?_)
    refine V_iload_n (pc := 26) hk dX0_whoseHand_26 2 rfl ?_
    refine V_aaload (pc := 27) hk dX0_whoseHand_27 (fun v6 => ?_)
    refine n_X0_334 (pc := 28) hk (fun b r h => ctX0_isHand (fl y) (fK y) hk.2.2.2.2.2.2.2.1 b v6 w r h) ⟨Nat.le_of_ble_eq_true rfl, Nat.le_of_ble_eq_true rfl⟩ (Nat.le_of_ble_eq_true rfl) dX0_whoseHand_28 (fun r7 => ?_)
    refine V_if_eq (pc := 31) (tgt := 40) hk dX0_whoseHand_31 rfl ?_ ?_
    · refine V_iconst (pc := 40) (v := 0) hk dX0_whoseHand_40 rfl ?_
      refine V_ior (pc := 41) hk dX0_whoseHand_41 ?_
      refine V_istore_n (pc := 42) (lc' := [(1, .int (l1 ||| 0)), (0, va_rf l0), (2, .int l2)]) (i := 1) hk dX0_whoseHand_42 rfl (Nat.le_of_ble_eq_true rfl) (by simp [rf_cat, cat_int, cat_long, cat_ref]) ?_
      refine V_iinc (pc := 43) (v := 1) (lc' := [(2, .int (l2 + 1)), (1, .int (l1 ||| 0)), (0, va_rf l0)]) hk dX0_whoseHand_43 2 rfl rfl (Nat.le_of_ble_eq_true rfl) rfl ?_
      refine V_goto (pc := 46) (tgt := 4) hk dX0_whoseHand_46 rfl ?_
      refine V_pick (lc' := [(0, va_rf l0), (1, .int (l1 ||| 0)), (2, .int (l2 + 1))]) [2, 1, 0] rfl ?_
      exact h4 r7.2 l0 (l1 ||| 0) (l2 + 1)
    · refine V_iconst (pc := 34) (v := 1) hk dX0_whoseHand_34 rfl ?_
      refine V_iload_n (pc := 35) hk dX0_whoseHand_35 2 rfl ?_
      refine V_ishl (pc := 36) hk dX0_whoseHand_36 ?_
      refine V_goto (pc := 37) (tgt := 41) hk dX0_whoseHand_37 rfl ?_
      refine V_ior (pc := 41) hk dX0_whoseHand_41 ?_
      refine V_nmI (fun x9 => ?_)
      refine V_istore_n (pc := 42) (lc' := [(1, .int x9), (0, va_rf l0), (2, .int l2)]) (i := 1) hk dX0_whoseHand_42 rfl (Nat.le_of_ble_eq_true rfl) (by simp [rf_cat, cat_int, cat_long, cat_ref]) ?_
      refine V_iinc (pc := 43) (v := 1) (lc' := [(2, .int (l2 + 1)), (1, .int x9), (0, va_rf l0)]) hk dX0_whoseHand_43 2 rfl rfl (Nat.le_of_ble_eq_true rfl) rfl ?_
      refine V_goto (pc := 46) (tgt := 4) hk dX0_whoseHand_46 rfl ?_
      refine V_pick (lc' := [(0, va_rf l0), (1, .int x9), (2, .int (l2 + 1))]) [2, 1, 0] rfl ?_
      exact h4 r7.2 l0 x9 (l2 + 1)
theorem eX0_whoseHand_l4 {y : Fx (Int32 × Wd)} (hk : OkF y RX0 cX0_whoseHand 3 108 6200) (hR : RetM y rvI (some (.int))) : ∀ (n : Nat) (w : Wd) (l0 : Option Nat) (l1 : Int32) (l2 : Int32), V y w [(0, va_rf l0), (1, .int l1), (2, .int l2)] [] 4 (mX0_whoseHand_l4 n w l0 l1 l2) := by
  intro n
  induction n with
  | zero => intro w l0 l1 l2; exact V_none
  | succ n ih => intro w l0 l1 l2; exact eX0_whoseHand_b4 hk hR ih w l0 l1 l2
theorem eX0_whoseHand {y : Fx (Int32 × Wd)} (hk : OkF y RX0 cX0_whoseHand 3 108 6200) (hR : RetM y rvI (some (.int))) (this : Nat) (w : Wd) : V y w [(0, va_rf (some this))] [] 0 (mX0_whoseHand this w) := by
  unfold mX0_whoseHand
  refine V_iconst (pc := 0) (v := 0) hk dX0_whoseHand_0 rfl ?_
  refine V_istore_n (pc := 1) (lc' := [(1, .int 0), (0, va_rf ((some this)))]) (i := 1) hk dX0_whoseHand_1 rfl (Nat.le_of_ble_eq_true rfl) (by simp [rf_cat, cat_int, cat_long, cat_ref]) ?_
  refine V_iconst (pc := 2) (v := 0) hk dX0_whoseHand_2 rfl ?_
  refine V_istore_n (pc := 3) (lc' := [(2, .int 0), (1, .int 0), (0, va_rf ((some this)))]) (i := 2) hk dX0_whoseHand_3 rfl (Nat.le_of_ble_eq_true rfl) rfl ?_
  refine V_pick (lc' := [(0, va_rf ((some this))), (1, .int 0), (2, .int 0)]) [2, 1, 0] rfl ?_
  exact eX0_whoseHand_l4 hk hR FU w ((some this)) 0 0
theorem ctX0_whoseHand (l : Launch) (K : Kx) (hI : Ini K) (b : Nat) (w : Wd) : ∀ r, mX0_whoseHand b w = some r → Ct l K 108 6200 yX0_whoseHand (ws_ yX0_whoseHand cX0_whoseHand 3 (some (.int))) [.ref b] w (rvI r.1) r.2 := Ct_of rvI l K hI 108 6200 [.ref b] w (by decide) (lc0 := [(0, .ref b)]) rfl (Nat.le_of_ble_eq_true rfl) (fun y hk hR _ _ hin => eX0_whoseHand hk hR b w)
noncomputable def mX0_dayEnds_p100 (w : Wd) (l0 : Option Nat) (l3 : Int32) (l4 : Int32) : Option (Int32 × Wd) :=
(zok 0).bind fun _ => (pf w l0 0 7 (.int 0)).bind fun w1 =>
(gR w1 l0 0 0).bind fun v2 =>
(gR w1 v2 1 1).bind fun v3 =>
(ias w1 v3 6 l3).bind fun w4 =>
some (l4, w4)
noncomputable def mX0_dayEnds_b46 (k46 : Wd → (Option Nat) → Int32 → Int32 → Int32 → Int32 → Int32 → Option (Int32 × Wd)) (w : Wd) (l0 : Option Nat) (l1 : Int32) (l2 : Int32) (l3 : Int32) (l4 : Int32) (l5 : Int32) : Option (Int32 × Wd) :=
if 10 ≤ l5 then (
mX0_dayEnds_p100 w l0 l3 l4)
else (
if ¬ l4 = (-1) then (
mX0_dayEnds_p100 w l0 l3 l4)
else (
(gR w l0 0 0).bind fun v1 =>
(gR w v1 1 1).bind fun v2 =>
(ias w v2 6 l5).bind fun w3 =>
(recv w3 l0 0).bind fun b5 => (cal w3 (mX0_goes b5 l1 none 1 w3)).bind fun r4 =>
(gI r4.2 l0 0 9).bind fun v6 =>
if v6 ≤ l2 then (
k46 r4.2 l0 l1 l2 l3 (-1) (l5 + 1))
else (
k46 r4.2 l0 l1 l2 l3 l5 (l5 + 1))))
noncomputable def mX0_dayEnds_l46 : Nat → Wd → (Option Nat) → Int32 → Int32 → Int32 → Int32 → Int32 → Option (Int32 × Wd)
  | 0, _, _, _, _, _, _, _ => none
  | n + 1, w, l0, l1, l2, l3, l4, l5 => mX0_dayEnds_b46 (mX0_dayEnds_l46 n) w l0 l1 l2 l3 l4 l5
noncomputable def mX0_dayEnds (this : Nat) (a0 : Int32) (a1 : Int32) (w : Wd) : Option (Int32 × Wd) :=
(cal w (mX0_in a0 1 200 w)).bind fun r1 =>
if r1.1 = 0 then (
some ((-1), r1.2))
else (
(cal r1.2 (mX0_in a1 0 9999 r1.2)).bind fun r2 =>
if ¬ r2.1 = 0 then (
(gR r2.2 ((some this)) 0 0).bind fun v3 =>
(gR r2.2 v3 1 1).bind fun v4 =>
(ia r2.2 v4 6).bind fun v5 =>
(zok 1).bind fun _ => (pf r2.2 ((some this)) 0 7 (.int 1)).bind fun w6 =>
mX0_dayEnds_l46 FU w6 ((some this)) a0 a1 v5 (-1) 1)
else (
some ((-1), r2.2)))
theorem eX0_dayEnds_p100 {y : Fx (Int32 × Wd)} (hk : OkF y RX0 cX0_dayEnds 6 110 6248) (hR : RetM y rvI (some (.int))) (w : Wd) (l0 : Option Nat) (l3 : Int32) (l4 : Int32) : V y w [(0, va_rf l0), (3, .int l3), (4, .int l4)] [] 100 (mX0_dayEnds_p100 w l0 l3 l4) := by
  unfold mX0_dayEnds_p100
  refine V_aload_n (pc := 100) hk dX0_dayEnds_100 0 rfl ?_
  refine V_iconst (pc := 101) (v := 0) hk dX0_dayEnds_101 rfl ?_
  refine p_X0_187 (pc := 102) hk dX0_dayEnds_102 (fun w1 => ?_)
  refine V_aload_n (pc := 105) hk dX0_dayEnds_105 0 rfl ?_
  refine g_X0_21 (pc := 106) hk dX0_dayEnds_106 (fun v2 => ?_)
  refine g_X0_176 (pc := 109) hk dX0_dayEnds_109 (fun v3 => ?_)
  refine V_bipush (pc := 112) (v := 6) hk dX0_dayEnds_112 rfl ?_
  refine V_iload_n (pc := 114) hk dX0_dayEnds_114 1 rfl ?_
  refine V_iastore (pc := 115) hk dX0_dayEnds_115 (fun w4 => ?_)
  refine V_iload (pc := 116) hk dX0_dayEnds_116 2 rfl ?_
  exact V_ireturn (pc := 118) hk hR rfl dX0_dayEnds_118
theorem eX0_dayEnds_b46 {y : Fx (Int32 × Wd)} (hk : OkF y RX0 cX0_dayEnds 6 110 6248) (hR : RetM y rvI (some (.int))) {k46 : Wd → (Option Nat) → Int32 → Int32 → Int32 → Int32 → Int32 → Option (Int32 × Wd)} (h46 : ∀ (w : Wd) (l0 : Option Nat) (l1 : Int32) (l2 : Int32) (l3 : Int32) (l4 : Int32) (l5 : Int32), V y w [(0, va_rf l0), (1, .int l1), (2, .int l2), (3, .int l3), (4, .int l4), (5, .int l5)] [] 46 (k46 w l0 l1 l2 l3 l4 l5)) (w : Wd) (l0 : Option Nat) (l1 : Int32) (l2 : Int32) (l3 : Int32) (l4 : Int32) (l5 : Int32) : V y w [(0, va_rf l0), (1, .int l1), (2, .int l2), (3, .int l3), (4, .int l4), (5, .int l5)] [] 46 (mX0_dayEnds_b46 k46 w l0 l1 l2 l3 l4 l5) := by
  unfold mX0_dayEnds_b46
  refine V_iload (pc := 46) hk dX0_dayEnds_46 5 rfl ?_
  refine V_bipush (pc := 48) (v := 10) hk dX0_dayEnds_48 rfl ?_
  refine V_icmp_ge (pc := 50) (tgt := 100) hk dX0_dayEnds_50 rfl ?_ ?_
  · refine V_pick (lc' := [(0, va_rf l0), (3, .int l3), (4, .int l4)]) [0, 3, 4] rfl ?_
    exact eX0_dayEnds_p100 hk hR w l0 l3 l4
  · refine V_iload (pc := 53) hk dX0_dayEnds_53 4 rfl ?_
    refine V_iconst (pc := 55) (v := (-1)) hk dX0_dayEnds_55 (by decide +kernel) ?_
    refine V_icmp_ne (pc := 56) (tgt := 100) hk dX0_dayEnds_56 rfl ?_ ?_
    · refine V_pick (lc' := [(0, va_rf l0), (3, .int l3), (4, .int l4)]) [0, 3, 4] rfl ?_
      exact eX0_dayEnds_p100 hk hR w l0 l3 l4
    · refine V_aload_n (pc := 59) hk dX0_dayEnds_59 0 rfl ?_
      refine g_X0_21 (pc := 60) hk dX0_dayEnds_60 (fun v1 => ?_)
      refine g_X0_176 (pc := 63) hk dX0_dayEnds_63 (fun v2 => ?_)
      refine V_bipush (pc := 66) (v := 6) hk dX0_dayEnds_66 rfl ?_
      refine V_iload (pc := 68) hk dX0_dayEnds_68 5 rfl ?_
      refine V_iastore (pc := 70) hk dX0_dayEnds_70 (fun w3 => ?_)
      refine V_aload_n (pc := 71) hk dX0_dayEnds_71 0 rfl ?_
      refine V_iload_n (pc := 72) hk dX0_dayEnds_72 1 rfl ?_
      refine V_null (pc := 73) hk dX0_dayEnds_73 ?_
      refine V_iconst (pc := 74) (v := 1) hk dX0_dayEnds_74 rfl ?_
      refine n_X0_309 (pc := 75) hk (fun b r h => ctX0_goes (fl y) (fK y) hk.2.2.2.2.2.2.2.1 b l1 none 1 w3 r h) ⟨Nat.le_of_ble_eq_true rfl, Nat.le_of_ble_eq_true rfl⟩ (Nat.le_of_ble_eq_true rfl) dX0_dayEnds_75 (fun r4 => ?_)
      refine V_aload_n (pc := 78) hk dX0_dayEnds_78 0 rfl ?_
      refine g_X0_303 (pc := 79) hk dX0_dayEnds_79 (fun v6 => ?_)
      refine V_iload_n (pc := 82) hk dX0_dayEnds_82 2 rfl ?_
      refine V_icmp_le (pc := 83) (tgt := 91) hk dX0_dayEnds_83 rfl ?_ ?_
      · refine V_iconst (pc := 91) (v := (-1)) hk dX0_dayEnds_91 (by decide +kernel) ?_
        refine V_istore (pc := 92) (lc' := [(4, .int (-1)), (0, va_rf l0), (1, .int l1), (2, .int l2), (3, .int l3), (5, .int l5)]) (i := 4) hk dX0_dayEnds_92 (Nat.le_of_ble_eq_true rfl) rfl ?_
        refine V_iinc (pc := 94) (v := 1) (lc' := [(5, .int (l5 + 1)), (4, .int (-1)), (0, va_rf l0), (1, .int l1), (2, .int l2), (3, .int l3)]) hk dX0_dayEnds_94 5 rfl rfl (Nat.le_of_ble_eq_true rfl) rfl ?_
        refine V_goto (pc := 97) (tgt := 46) hk dX0_dayEnds_97 rfl ?_
        refine V_pick (lc' := [(0, va_rf l0), (1, .int l1), (2, .int l2), (3, .int l3), (4, .int (-1)), (5, .int (l5 + 1))]) [2, 3, 4, 5, 1, 0] rfl ?_
        exact h46 r4.2 l0 l1 l2 l3 (-1) (l5 + 1)
      · refine V_iload (pc := 86) hk dX0_dayEnds_86 5 rfl ?_
        refine V_goto (pc := 88) (tgt := 92) hk dX0_dayEnds_88 rfl ?_
        refine V_istore (pc := 92) (lc' := [(4, .int l5), (0, va_rf l0), (1, .int l1), (2, .int l2), (3, .int l3), (5, .int l5)]) (i := 4) hk dX0_dayEnds_92 (Nat.le_of_ble_eq_true rfl) rfl ?_
        refine V_iinc (pc := 94) (v := 1) (lc' := [(5, .int (l5 + 1)), (4, .int l5), (0, va_rf l0), (1, .int l1), (2, .int l2), (3, .int l3)]) hk dX0_dayEnds_94 5 rfl rfl (Nat.le_of_ble_eq_true rfl) rfl ?_
        refine V_goto (pc := 97) (tgt := 46) hk dX0_dayEnds_97 rfl ?_
        refine V_pick (lc' := [(0, va_rf l0), (1, .int l1), (2, .int l2), (3, .int l3), (4, .int l5), (5, .int (l5 + 1))]) [2, 3, 4, 5, 1, 0] rfl ?_
        exact h46 r4.2 l0 l1 l2 l3 l5 (l5 + 1)
theorem eX0_dayEnds_l46 {y : Fx (Int32 × Wd)} (hk : OkF y RX0 cX0_dayEnds 6 110 6248) (hR : RetM y rvI (some (.int))) : ∀ (n : Nat) (w : Wd) (l0 : Option Nat) (l1 : Int32) (l2 : Int32) (l3 : Int32) (l4 : Int32) (l5 : Int32), V y w [(0, va_rf l0), (1, .int l1), (2, .int l2), (3, .int l3), (4, .int l4), (5, .int l5)] [] 46 (mX0_dayEnds_l46 n w l0 l1 l2 l3 l4 l5) := by
  intro n
  induction n with
  | zero => intro w l0 l1 l2 l3 l4 l5; exact V_none
  | succ n ih => intro w l0 l1 l2 l3 l4 l5; exact eX0_dayEnds_b46 hk hR ih w l0 l1 l2 l3 l4 l5
theorem eX0_dayEnds {y : Fx (Int32 × Wd)} (hk : OkF y RX0 cX0_dayEnds 6 110 6248) (hR : RetM y rvI (some (.int))) (this : Nat) (a0 : Int32) (a1 : Int32) (w : Wd) : V y w [(0, va_rf (some this)), (1, .int a0), (2, .int a1)] [] 0 (mX0_dayEnds this a0 a1 w) := by
  unfold mX0_dayEnds
  refine V_iload_n (pc := 0) hk dX0_dayEnds_0 1 rfl ?_
  refine V_iconst (pc := 1) (v := 1) hk dX0_dayEnds_1 rfl ?_
  refine V_sipush (pc := 2) (v := 200) hk dX0_dayEnds_2 rfl ?_
  refine n_X0_82 (pc := 5) hk (fun r h => ctX0_in (fl y) (fK y) hk.2.2.2.2.2.2.2.1 a0 1 200 w r h) ⟨Nat.le_of_ble_eq_true rfl, Nat.le_of_ble_eq_true rfl⟩ (Nat.le_of_ble_eq_true rfl) dX0_dayEnds_5 (fun r1 => ?_)
  refine V_if_eq (pc := 8) (tgt := 22) hk dX0_dayEnds_8 rfl ?_ ?_
  · refine V_iconst (pc := 22) (v := (-1)) hk dX0_dayEnds_22 (by decide +kernel) ?_
    exact V_ireturn (pc := 23) hk hR rfl dX0_dayEnds_23
  · refine V_iload_n (pc := 11) hk dX0_dayEnds_11 2 rfl ?_
    refine V_iconst (pc := 12) (v := 0) hk dX0_dayEnds_12 rfl ?_
    refine V_sipush (pc := 13) (v := 9999) hk dX0_dayEnds_13 rfl ?_
    refine n_X0_82 (pc := 16) hk (fun r h => ctX0_in (fl y) (fK y) hk.2.2.2.2.2.2.2.1 a1 0 9999 r1.2 r h) ⟨Nat.le_of_ble_eq_true rfl, Nat.le_of_ble_eq_true rfl⟩ (Nat.le_of_ble_eq_true rfl) dX0_dayEnds_16 (fun r2 => ?_)
    refine V_if_ne (pc := 19) (tgt := 24) hk dX0_dayEnds_19 rfl ?_ ?_
    · refine V_aload_n (pc := 24) hk dX0_dayEnds_24 0 rfl ?_
      refine g_X0_21 (pc := 25) hk dX0_dayEnds_25 (fun v3 => ?_)
      refine g_X0_176 (pc := 28) hk dX0_dayEnds_28 (fun v4 => ?_)
      refine V_bipush (pc := 31) (v := 6) hk dX0_dayEnds_31 rfl ?_
      refine V_iaload (pc := 33) hk dX0_dayEnds_33 (fun v5 => ?_)
      refine V_istore_n (pc := 34) (lc' := [(3, .int v5), (0, va_rf ((some this))), (1, .int a0), (2, .int a1)]) (i := 3) hk dX0_dayEnds_34 rfl (Nat.le_of_ble_eq_true rfl) rfl ?_
      refine V_iconst (pc := 35) (v := (-1)) hk dX0_dayEnds_35 (by decide +kernel) ?_
      refine V_istore (pc := 36) (lc' := [(4, .int (-1)), (3, .int v5), (0, va_rf ((some this))), (1, .int a0), (2, .int a1)]) (i := 4) hk dX0_dayEnds_36 (Nat.le_of_ble_eq_true rfl) rfl ?_
      refine V_aload_n (pc := 38) hk dX0_dayEnds_38 2 rfl ?_
      refine V_iconst (pc := 39) (v := 1) hk dX0_dayEnds_39 rfl ?_
      refine p_X0_187 (pc := 40) hk dX0_dayEnds_40 (fun w6 => ?_)
      refine V_iconst (pc := 43) (v := 1) hk dX0_dayEnds_43 rfl ?_
      refine V_istore (pc := 44) (lc' := [(5, .int 1), (4, .int (-1)), (3, .int v5), (0, va_rf ((some this))), (1, .int a0), (2, .int a1)]) (i := 5) hk dX0_dayEnds_44 (Nat.le_of_ble_eq_true rfl) rfl ?_
      refine V_pick (lc' := [(0, va_rf ((some this))), (1, .int a0), (2, .int a1), (3, .int v5), (4, .int (-1)), (5, .int 1)]) [3, 4, 5, 2, 1, 0] rfl ?_
      exact eX0_dayEnds_l46 hk hR FU w6 ((some this)) a0 a1 v5 (-1) 1
    · refine V_iconst (pc := 22) (v := (-1)) hk dX0_dayEnds_22 (by decide +kernel) ?_
      exact V_ireturn (pc := 23) hk hR rfl dX0_dayEnds_23
theorem ctX0_dayEnds (l : Launch) (K : Kx) (hI : Ini K) (b : Nat) (a0 : Int32) (a1 : Int32) (w : Wd) : ∀ r, mX0_dayEnds b a0 a1 w = some r → Ct l K 110 6248 yX0_dayEnds (ws_ yX0_dayEnds cX0_dayEnds 6 (some (.int))) [.ref b, .int a0, .int a1] w (rvI r.1) r.2 := Ct_of rvI l K hI 110 6248 [.ref b, .int a0, .int a1] w (by decide) (lc0 := [(0, .ref b), (1, .int a0), (2, .int a1)]) rfl (Nat.le_of_ble_eq_true rfl) (fun y hk hR _ _ hin => eX0_dayEnds hk hR b a0 a1 w)
noncomputable def mX0_stillIn_b3 (k3 : Wd → (Option Nat) → (Option Nat) → (Option Nat) → Int32 → Int32 → Option (Int32 × Wd)) (w : Wd) (l0 : Option Nat) (l1 : Option Nat) (l2 : Option Nat) (l3 : Int32) (l4 : Int32) : Option (Int32 × Wd) :=
if l3 < l4 then (
some ((-1), w))
else (
(recv w l0 0).bind fun b2 => (cal w (mX0_handOf b2 l1 l2 w)).bind fun r1 =>
(recv r1.2 l0 0).bind fun b4 => (cal r1.2 (mX0_tenth b4 l1 r1.1 r1.2)).bind fun r3 =>
(recv r3.2 l0 0).bind fun b6 => (cal r3.2 (mX0_hangsStill b6 l1 r3.2)).bind fun r5 =>
if r5.1 = 0 then (
k3 r5.2 l0 l1 l2 l3 (l4 + 1))
else (
some (l4, r5.2)))
noncomputable def mX0_stillIn_l3 : Nat → Wd → (Option Nat) → (Option Nat) → (Option Nat) → Int32 → Int32 → Option (Int32 × Wd)
  | 0, _, _, _, _, _, _ => none
  | n + 1, w, l0, l1, l2, l3, l4 => mX0_stillIn_b3 (mX0_stillIn_l3 n) w l0 l1 l2 l3 l4
noncomputable def mX0_stillIn (this : Nat) (a0 : Option Nat) (a1 : Option Nat) (a2 : Int32) (w : Wd) : Option (Int32 × Wd) :=
mX0_stillIn_l3 FU w ((some this)) a0 a1 a2 1
theorem eX0_stillIn_b3 {y : Fx (Int32 × Wd)} (hk : OkF y RX0 cX0_stillIn 5 109 6224) (hR : RetM y rvI (some (.int))) {k3 : Wd → (Option Nat) → (Option Nat) → (Option Nat) → Int32 → Int32 → Option (Int32 × Wd)} (h3 : ∀ (w : Wd) (l0 : Option Nat) (l1 : Option Nat) (l2 : Option Nat) (l3 : Int32) (l4 : Int32), V y w [(0, va_rf l0), (1, va_rf l1), (2, va_rf l2), (3, .int l3), (4, .int l4)] [] 3 (k3 w l0 l1 l2 l3 l4)) (w : Wd) (l0 : Option Nat) (l1 : Option Nat) (l2 : Option Nat) (l3 : Int32) (l4 : Int32) : V y w [(0, va_rf l0), (1, va_rf l1), (2, va_rf l2), (3, .int l3), (4, .int l4)] [] 3 (mX0_stillIn_b3 k3 w l0 l1 l2 l3 l4) := by
  unfold mX0_stillIn_b3
  refine V_iload (pc := 3) hk dX0_stillIn_3 4 rfl ?_
  refine V_iload_n (pc := 5) hk dX0_stillIn_5 3 rfl ?_
  refine V_icmp_gt (pc := 6) (tgt := 37) hk dX0_stillIn_6 rfl ?_ ?_
  · refine V_iconst (pc := 37) (v := (-1)) hk dX0_stillIn_37 (by decide +kernel) ?_
    exact V_ireturn (pc := 38) hk hR rfl dX0_stillIn_38
  · refine V_aload_n (pc := 9) hk dX0_stillIn_9 0 rfl ?_
    refine V_aload_n (pc := 10) hk dX0_stillIn_10 1 rfl ?_
    refine V_aload_n (pc := 11) hk dX0_stillIn_11 0 rfl ?_
    refine V_aload_n (pc := 12) hk dX0_stillIn_12 1 rfl ?_
    refine V_aload_n (pc := 13) hk dX0_stillIn_13 2 rfl ?_
    refine n_X0_207 (pc := 14) hk (fun b r h => ctX0_handOf (fl y) (fK y) hk.2.2.2.2.2.2.2.1 b l1 l2 w r h) ⟨Nat.le_of_ble_eq_true rfl, Nat.le_of_ble_eq_true rfl⟩ (by simp [rf_cat, cat_int, cat_long, cat_ref]) dX0_stillIn_14 (fun r1 => ?_)
    refine n_X0_203 (pc := 17) hk (fun b r h => ctX0_tenth (fl y) (fK y) hk.2.2.2.2.2.2.2.1 b l1 r1.1 r1.2 r h) ⟨Nat.le_of_ble_eq_true rfl, Nat.le_of_ble_eq_true rfl⟩ (Nat.le_of_ble_eq_true rfl) dX0_stillIn_17 (fun r3 => ?_)
    refine V_aload_n (pc := 20) hk dX0_stillIn_20 0 rfl ?_
    refine V_aload_n (pc := 21) hk dX0_stillIn_21 1 rfl ?_
    refine n_X0_221 (pc := 22) hk (fun b r h => ctX0_hangsStill (fl y) (fK y) hk.2.2.2.2.2.2.2.1 b l1 r3.2 r h) ⟨Nat.le_of_ble_eq_true rfl, Nat.le_of_ble_eq_true rfl⟩ (Nat.le_of_ble_eq_true rfl) dX0_stillIn_22 (fun r5 => ?_)
    refine V_if_eq (pc := 25) (tgt := 31) hk dX0_stillIn_25 rfl ?_ ?_
    · refine V_iinc (pc := 31) (v := 1) (lc' := [(4, .int (l4 + 1)), (0, va_rf l0), (1, va_rf l1), (2, va_rf l2), (3, .int l3)]) hk dX0_stillIn_31 4 rfl rfl (Nat.le_of_ble_eq_true rfl) rfl ?_
      refine V_goto (pc := 34) (tgt := 3) hk dX0_stillIn_34 rfl ?_
      refine V_pick (lc' := [(0, va_rf l0), (1, va_rf l1), (2, va_rf l2), (3, .int l3), (4, .int (l4 + 1))]) [1, 2, 3, 4, 0] rfl ?_
      exact h3 r5.2 l0 l1 l2 l3 (l4 + 1)
    · refine V_iload (pc := 28) hk dX0_stillIn_28 4 rfl ?_
      exact V_ireturn (pc := 30) hk hR rfl dX0_stillIn_30
theorem eX0_stillIn_l3 {y : Fx (Int32 × Wd)} (hk : OkF y RX0 cX0_stillIn 5 109 6224) (hR : RetM y rvI (some (.int))) : ∀ (n : Nat) (w : Wd) (l0 : Option Nat) (l1 : Option Nat) (l2 : Option Nat) (l3 : Int32) (l4 : Int32), V y w [(0, va_rf l0), (1, va_rf l1), (2, va_rf l2), (3, .int l3), (4, .int l4)] [] 3 (mX0_stillIn_l3 n w l0 l1 l2 l3 l4) := by
  intro n
  induction n with
  | zero => intro w l0 l1 l2 l3 l4; exact V_none
  | succ n ih => intro w l0 l1 l2 l3 l4; exact eX0_stillIn_b3 hk hR ih w l0 l1 l2 l3 l4
theorem eX0_stillIn {y : Fx (Int32 × Wd)} (hk : OkF y RX0 cX0_stillIn 5 109 6224) (hR : RetM y rvI (some (.int))) (this : Nat) (a0 : Option Nat) (a1 : Option Nat) (a2 : Int32) (w : Wd) : V y w [(0, va_rf (some this)), (1, va_rf a0), (2, va_rf a1), (3, .int a2)] [] 0 (mX0_stillIn this a0 a1 a2 w) := by
  unfold mX0_stillIn
  refine V_iconst (pc := 0) (v := 1) hk dX0_stillIn_0 rfl ?_
  refine V_istore (pc := 1) (lc' := [(4, .int 1), (0, va_rf ((some this))), (1, va_rf a0), (2, va_rf a1), (3, .int a2)]) (i := 4) hk dX0_stillIn_1 (Nat.le_of_ble_eq_true rfl) rfl ?_
  refine V_pick (lc' := [(0, va_rf ((some this))), (1, va_rf a0), (2, va_rf a1), (3, .int a2), (4, .int 1)]) [1, 2, 3, 4, 0] rfl ?_
  exact eX0_stillIn_l3 hk hR FU w ((some this)) a0 a1 a2 1
theorem ctX0_stillIn (l : Launch) (K : Kx) (hI : Ini K) (b : Nat) (a0 : Option Nat) (a1 : Option Nat) (a2 : Int32) (w : Wd) : ∀ r, mX0_stillIn b a0 a1 a2 w = some r → Ct l K 109 6224 yX0_stillIn (ws_ yX0_stillIn cX0_stillIn 5 (some (.int))) [.ref b, va_rf a0, va_rf a1, .int a2] w (rvI r.1) r.2 := Ct_of rvI l K hI 109 6224 [.ref b, va_rf a0, va_rf a1, .int a2] w (by decide) (lc0 := [(0, .ref b), (1, va_rf a0), (2, va_rf a1), (3, .int a2)]) (by simp [lv_args, rf_cat, cat_int, cat_long, cat_ref]) (lg_len _ _ (by simp [rf_cat, cat_int, cat_long, cat_ref])) (fun y hk hR _ _ hin => eX0_stillIn hk hR b a0 a1 a2 w)
noncomputable def mX0_takes (this : Nat) (a0 : Option Nat) (a1 : Int32) (w : Wd) : Option (Int32 × Wd) :=
(gR w ((some this)) 0 8).bind fun v1 =>
(cal w (mJ12_fill_2 v1 0 w)).bind fun r2 =>
(gR r2.2 ((some this)) 0 8).bind fun v3 =>
(gR r2.2 ((some this)) 0 0).bind fun v4 =>
(gR r2.2 v4 1 1).bind fun v5 =>
(ia r2.2 v5 4).bind fun v6 =>
(ias r2.2 v3 4 v6).bind fun w7 =>
(gR w7 ((some this)) 0 8).bind fun v8 =>
(gR w7 ((some this)) 0 0).bind fun v9 =>
(gR w7 v9 1 2).bind fun v10 =>
(aa w7 v10 a1).bind fun v11 =>
(ia w7 v11 0).bind fun v12 =>
(ias w7 v8 5 v12).bind fun w13 =>
(gR w13 ((some this)) 0 8).bind fun v14 =>
(gR w13 ((some this)) 0 0).bind fun v15 =>
(gR w13 v15 1 2).bind fun v16 =>
(aa w13 v16 a1).bind fun v17 =>
(ia w13 v17 1).bind fun v18 =>
(ias w13 v14 7 (v18 * 10)).bind fun w19 =>
(zok 1).bind fun _ => (pf w19 ((some this)) 0 7 (.int 1)).bind fun w20 =>
(gR w20 ((some this)) 0 8).bind fun v21 =>
(recv w20 ((some this)) 0).bind fun b23 => (cal w20 (mX0_stillIn b23 v21 a0 200 w20)).bind fun r22 =>
(zok 0).bind fun _ => (pf r22.2 ((some this)) 0 7 (.int 0)).bind fun w24 =>
if ¬ r22.1 = (-1) then (
some (r22.1, w24))
else (
some (200, w24))
theorem eX0_takes {y : Fx (Int32 × Wd)} (hk : OkF y RX0 cX0_takes 4 110 6248) (hR : RetM y rvI (some (.int))) (this : Nat) (a0 : Option Nat) (a1 : Int32) (w : Wd) : V y w [(0, va_rf (some this)), (1, va_rf a0), (2, .int a1)] [] 0 (mX0_takes this a0 a1 w) := by
  unfold mX0_takes
  refine V_aload_n (pc := 0) hk dX0_takes_0 0 rfl ?_
  refine g_X0_43 (pc := 1) hk dX0_takes_1 (fun v1 => ?_)
  refine V_iconst (pc := 4) (v := 0) hk dX0_takes_4 rfl ?_
  refine n_X0_338 (pc := 5) hk (fun r h => ctJ12_fill_2 (fl y) (fK y) hk.2.2.2.2.2.2.2.1 v1 0 w r h) ⟨Nat.le_of_ble_eq_true rfl, Nat.le_of_ble_eq_true rfl⟩ (Nat.le_of_ble_eq_true rfl) dX0_takes_5 (fun r2 => ?_)
  refine V_aload_n (pc := 8) hk dX0_takes_8 0 rfl ?_
  refine g_X0_43 (pc := 9) hk dX0_takes_9 (fun v3 => ?_)
  refine V_iconst (pc := 12) (v := 4) hk dX0_takes_12 rfl ?_
  refine V_aload_n (pc := 13) hk dX0_takes_13 0 rfl ?_
  refine g_X0_21 (pc := 14) hk dX0_takes_14 (fun v4 => ?_)
  refine g_X0_176 (pc := 17) hk dX0_takes_17 (fun v5 => ?_)
  refine V_iconst (pc := 20) (v := 4) hk dX0_takes_20 rfl ?_
  refine V_iaload (pc := 21) hk dX0_takes_21 (fun v6 => ?_)
  refine V_iastore (pc := 22) hk dX0_takes_22 (fun w7 => ?_)
  refine V_aload_n (pc := 23) hk dX0_takes_23 0 rfl ?_
  refine g_X0_43 (pc := 24) hk dX0_takes_24 (fun v8 => ?_)
  refine V_iconst (pc := 27) (v := 5) hk dX0_takes_27 rfl ?_
  refine V_aload_n (pc := 28) hk dX0_takes_28 0 rfl ?_
  refine g_X0_21 (pc := 29) hk dX0_takes_29 (fun v9 => ?_)
  refine g_X0_86 (pc := 32) hk dX0_takes_32 (fun v10 => ?_)
  refine V_iload_n (pc := 35) hk dX0_takes_35 2 rfl ?_
  refine V_aaload (pc := 36) hk dX0_takes_36 (fun v11 => ?_)
  refine V_iconst (pc := 37) (v := 0) hk dX0_takes_37 rfl ?_
  refine V_iaload (pc := 38) hk dX0_takes_38 (fun v12 => ?_)
  refine V_iastore (pc := 39) hk dX0_takes_39 (fun w13 => ?_)
  refine V_aload_n (pc := 40) hk dX0_takes_40 0 rfl ?_
  refine g_X0_43 (pc := 41) hk dX0_takes_41 (fun v14 => ?_)
  refine V_bipush (pc := 44) (v := 7) hk dX0_takes_44 rfl ?_
  refine V_aload_n (pc := 46) hk dX0_takes_46 0 rfl ?_
  refine g_X0_21 (pc := 47) hk dX0_takes_47 (fun v15 => ?_)
  refine g_X0_86 (pc := 50) hk dX0_takes_50 (fun v16 => ?_)
  refine V_iload_n (pc := 53) hk dX0_takes_53 2 rfl ?_
  refine V_aaload (pc := 54) hk dX0_takes_54 (fun v17 => ?_)
  refine V_iconst (pc := 55) (v := 1) hk dX0_takes_55 rfl ?_
  refine V_iaload (pc := 56) hk dX0_takes_56 (fun v18 => ?_)
  refine V_bipush (pc := 57) (v := 10) hk dX0_takes_57 rfl ?_
  refine V_imul (pc := 59) hk dX0_takes_59 ?_
  refine V_iastore (pc := 60) hk dX0_takes_60 (fun w19 => ?_)
  refine V_aload_n (pc := 61) hk dX0_takes_61 0 rfl ?_
  refine V_iconst (pc := 62) (v := 1) hk dX0_takes_62 rfl ?_
  refine p_X0_187 (pc := 63) hk dX0_takes_63 (fun w20 => ?_)
  refine V_aload_n (pc := 66) hk dX0_takes_66 0 rfl ?_
  refine V_aload_n (pc := 67) hk dX0_takes_67 0 rfl ?_
  refine g_X0_43 (pc := 68) hk dX0_takes_68 (fun v21 => ?_)
  refine V_aload_n (pc := 71) hk dX0_takes_71 1 rfl ?_
  refine V_sipush (pc := 72) (v := 200) hk dX0_takes_72 rfl ?_
  refine n_X0_340 (pc := 75) hk (fun b r h => ctX0_stillIn (fl y) (fK y) hk.2.2.2.2.2.2.2.1 b v21 a0 200 w20 r h) ⟨Nat.le_of_ble_eq_true rfl, Nat.le_of_ble_eq_true rfl⟩ (Nat.le_of_ble_eq_true rfl) dX0_takes_75 (fun r22 => ?_)
  refine V_istore_n (pc := 78) (lc' := [(3, .int r22.1), (0, va_rf ((some this))), (1, va_rf a0), (2, .int a1)]) (i := 3) hk dX0_takes_78 rfl (Nat.le_of_ble_eq_true rfl) rfl ?_
  refine V_aload_n (pc := 79) hk dX0_takes_79 1 rfl ?_
  refine V_iconst (pc := 80) (v := 0) hk dX0_takes_80 rfl ?_
  refine p_X0_187 (pc := 81) hk dX0_takes_81 (fun w24 => ?_)
  refine V_iload_n (pc := 84) hk dX0_takes_84 0 rfl ?_
  refine V_iconst (pc := 85) (v := (-1)) hk dX0_takes_85 (by decide +kernel) ?_
  refine V_icmp_ne (pc := 86) (tgt := 95) hk dX0_takes_86 rfl ?_ ?_
  · refine V_iload_n (pc := 95) hk dX0_takes_95 0 rfl ?_
    exact V_ireturn (pc := 96) hk hR rfl dX0_takes_96
  · refine V_sipush (pc := 89) (v := 200) hk dX0_takes_89 rfl ?_
    refine V_goto (pc := 92) (tgt := 96) hk dX0_takes_92 rfl ?_
    exact V_ireturn (pc := 96) hk hR rfl dX0_takes_96
theorem ctX0_takes (l : Launch) (K : Kx) (hI : Ini K) (b : Nat) (a0 : Option Nat) (a1 : Int32) (w : Wd) : ∀ r, mX0_takes b a0 a1 w = some r → Ct l K 110 6248 yX0_takes (ws_ yX0_takes cX0_takes 4 (some (.int))) [.ref b, va_rf a0, .int a1] w (rvI r.1) r.2 := Ct_of rvI l K hI 110 6248 [.ref b, va_rf a0, .int a1] w (by decide) (lc0 := [(0, .ref b), (1, va_rf a0), (2, .int a1)]) (by simp [lv_args, rf_cat, cat_int, cat_long, cat_ref]) (lg_len _ _ (by simp [rf_cat, cat_int, cat_long, cat_ref])) (fun y hk hR _ _ hin => eX0_takes hk hR b a0 a1 w)
noncomputable def mX0_saves_b52 (k52 : Wd → (Option Nat) → Int32 → Int32 → Int32 → Int32 → Int32 → Option (Int32 × Wd)) (w : Wd) (l0 : Option Nat) (l1 : Int32) (l2 : Int32) (l3 : Int32) (l4 : Int32) (l5 : Int32) : Option (Int32 × Wd) :=
(gR w l0 0 0).bind fun v1 =>
(gR w v1 1 0).bind fun v2 =>
(ia w v2 0).bind fun v3 =>
if v3 ≤ l5 then (
some (l4, w))
else (
(cal w (mX0_has l3 l5 w)).bind fun r4 =>
if r4.1 = 0 then (
k52 r4.2 l0 l1 l2 l3 (l4 + 0) (l5 + 1))
else (
(gR r4.2 l0 0 0).bind fun v5 =>
(gR r4.2 v5 1 6).bind fun v6 =>
(aa r4.2 v6 l2).bind fun v7 =>
(recv r4.2 l0 0).bind fun b9 => (cal r4.2 (mX0_takes b9 v7 l5 r4.2)).bind fun r8 =>
(gR r8.2 l0 0 0).bind fun v10 =>
(gR r8.2 v10 1 6).bind fun v11 =>
(aa r8.2 v11 l1).bind fun v12 =>
(recv r8.2 l0 0).bind fun b14 => (cal r8.2 (mX0_takes b14 v12 l5 r8.2)).bind fun r13 =>
k52 r13.2 l0 l1 l2 l3 (l4 + (r8.1 - r13.1)) (l5 + 1)))
noncomputable def mX0_saves_l52 : Nat → Wd → (Option Nat) → Int32 → Int32 → Int32 → Int32 → Int32 → Option (Int32 × Wd)
  | 0, _, _, _, _, _, _, _ => none
  | n + 1, w, l0, l1, l2, l3, l4, l5 => mX0_saves_b52 (mX0_saves_l52 n) w l0 l1 l2 l3 l4 l5
noncomputable def mX0_saves (this : Nat) (a0 : Int32) (a1 : Int32) (a2 : Int32) (w : Wd) : Option (Int32 × Wd) :=
(recv w ((some this)) 0).bind fun b2 => (cal w (mX0_isText b2 a0 w)).bind fun r1 =>
if r1.1 = 0 then (
some ((-100000), r1.2))
else (
(recv r1.2 ((some this)) 0).bind fun b4 => (cal r1.2 (mX0_isText b4 a1 r1.2)).bind fun r3 =>
if r3.1 = 0 then (
some ((-100000), r3.2))
else (
if a0 = a1 then (
some ((-100000), r3.2))
else (
(gR r3.2 ((some this)) 0 0).bind fun v5 =>
(gR r3.2 v5 1 0).bind fun v6 =>
(ia r3.2 v6 0).bind fun v7 =>
(cal r3.2 (mX0_in a2 1 ((1 <<< (v7 &&& 31)) - 1) r3.2)).bind fun r8 =>
if ¬ r8.1 = 0 then (
mX0_saves_l52 FU r8.2 ((some this)) a0 a1 a2 0 0)
else (
some ((-100000), r8.2)))))
theorem eX0_saves_b52 {y : Fx (Int32 × Wd)} (hk : OkF y RX0 cX0_saves 6 111 6271) (hR : RetM y rvI (some (.int))) {k52 : Wd → (Option Nat) → Int32 → Int32 → Int32 → Int32 → Int32 → Option (Int32 × Wd)} (h52 : ∀ (w : Wd) (l0 : Option Nat) (l1 : Int32) (l2 : Int32) (l3 : Int32) (l4 : Int32) (l5 : Int32), V y w [(0, va_rf l0), (1, .int l1), (2, .int l2), (3, .int l3), (4, .int l4), (5, .int l5)] [] 52 (k52 w l0 l1 l2 l3 l4 l5)) (w : Wd) (l0 : Option Nat) (l1 : Int32) (l2 : Int32) (l3 : Int32) (l4 : Int32) (l5 : Int32) : V y w [(0, va_rf l0), (1, .int l1), (2, .int l2), (3, .int l3), (4, .int l4), (5, .int l5)] [] 52 (mX0_saves_b52 k52 w l0 l1 l2 l3 l4 l5) := by
  unfold mX0_saves_b52
  refine V_iload (pc := 52) hk dX0_saves_52 5 rfl ?_
  refine V_aload_n (pc := 54) hk dX0_saves_54 0 rfl ?_
  refine g_X0_21 (pc := 55) hk dX0_saves_55 (fun v1 => ?_)
  refine g_X0_79 (pc := 58) hk dX0_saves_58 (fun v2 => ?_)
  refine V_iconst (pc := 61) (v := 0) hk dX0_saves_61 rfl ?_
  refine V_iaload (pc := 62) hk dX0_saves_62 (fun v3 => ?_)
  refine V_icmp_ge (pc := 63) (tgt := 121) hk dX0_saves_63 rfl ?_ ?_
  · refine V_iload (pc := 121) hk dX0_saves_121 4 rfl ?_
    exact V_ireturn (pc := 123) hk hR rfl dX0_saves_123
  · refine V_iload (pc := 66) hk dX0_saves_66 4 rfl ?_
    refine V_iload_n (pc := 68) hk dX0_saves_68 3 rfl ?_
    refine V_iload (pc := 69) hk dX0_saves_69 5 rfl ?_
    refine n_X0_218 (pc := 71) hk (fun r h => ctX0_has (fl y) (fK y) hk.2.2.2.2.2.2.2.1 l3 l5 w r h) ⟨Nat.le_of_ble_eq_true rfl, Nat.le_of_ble_eq_true rfl⟩ (Nat.le_of_ble_eq_true rfl) dX0_saves_71 (fun r4 => ?_)
    refine V_if_eq (pc := 74) (tgt := 111) hk dX0_saves_74 rfl ?_ ?_
    · refine V_iconst (pc := 111) (v := 0) hk dX0_saves_111 rfl ?_
      refine V_iadd (pc := 112) hk dX0_saves_112 ?_
      refine V_istore (pc := 113) (lc' := [(4, .int (l4 + 0)), (0, va_rf l0), (1, .int l1), (2, .int l2), (3, .int l3), (5, .int l5)]) (i := 4) hk dX0_saves_113 (Nat.le_of_ble_eq_true rfl) rfl ?_
      refine V_iinc (pc := 115) (v := 1) (lc' := [(5, .int (l5 + 1)), (4, .int (l4 + 0)), (0, va_rf l0), (1, .int l1), (2, .int l2), (3, .int l3)]) hk dX0_saves_115 5 rfl rfl (Nat.le_of_ble_eq_true rfl) rfl ?_
      refine V_goto (pc := 118) (tgt := 52) hk dX0_saves_118 rfl ?_
      refine V_pick (lc' := [(0, va_rf l0), (1, .int l1), (2, .int l2), (3, .int l3), (4, .int (l4 + 0)), (5, .int (l5 + 1))]) [2, 3, 4, 5, 1, 0] rfl ?_
      exact h52 r4.2 l0 l1 l2 l3 (l4 + 0) (l5 + 1)
    · refine V_aload_n (pc := 77) hk dX0_saves_77 0 rfl ?_
      refine V_aload_n (pc := 78) hk dX0_saves_78 0 rfl ?_
      refine g_X0_21 (pc := 79) hk dX0_saves_79 (fun v5 => ?_)
      refine g_X0_100 (pc := 82) hk dX0_saves_82 (fun v6 => ?_)
      refine V_iload_n (pc := 85) hk dX0_saves_85 2 rfl ?_
      refine V_aaload (pc := 86) hk dX0_saves_86 (fun v7 => ?_)
      refine V_iload (pc := 87) hk dX0_saves_87 5 rfl ?_
      refine n_X0_344 (pc := 89) hk (fun b r h => ctX0_takes (fl y) (fK y) hk.2.2.2.2.2.2.2.1 b v7 l5 r4.2 r h) ⟨Nat.le_of_ble_eq_true rfl, Nat.le_of_ble_eq_true rfl⟩ (Nat.le_of_ble_eq_true rfl) dX0_saves_89 (fun r8 => ?_)
      refine V_aload_n (pc := 92) hk dX0_saves_92 0 rfl ?_
      refine V_aload_n (pc := 93) hk dX0_saves_93 0 rfl ?_
      refine g_X0_21 (pc := 94) hk dX0_saves_94 (fun v10 => ?_)
      refine g_X0_100 (pc := 97) hk dX0_saves_97 (fun v11 => ?_)
      refine V_iload_n (pc := 100) hk dX0_saves_100 1 rfl ?_
      refine V_aaload (pc := 101) hk dX0_saves_101 (fun v12 => ?_)
      refine V_iload (pc := 102) hk dX0_saves_102 5 rfl ?_
      refine n_X0_344 (pc := 104) hk (fun b r h => ctX0_takes (fl y) (fK y) hk.2.2.2.2.2.2.2.1 b v12 l5 r8.2 r h) ⟨Nat.le_of_ble_eq_true rfl, Nat.le_of_ble_eq_true rfl⟩ (Nat.le_of_ble_eq_true rfl) dX0_saves_104 (fun r13 => ?_)
      refine V_isub (pc := 107) hk dX0_saves_107 ?_
      refine V_goto (pc := 108) (tgt := 112) hk dX0_saves_108 rfl ?_
      refine V_iadd (pc := 112) hk dX0_saves_112 ?_
      refine V_istore (pc := 113) (lc' := [(4, .int (l4 + (r8.1 - r13.1))), (0, va_rf l0), (1, .int l1), (2, .int l2), (3, .int l3), (5, .int l5)]) (i := 4) hk dX0_saves_113 (Nat.le_of_ble_eq_true rfl) rfl ?_
      refine V_iinc (pc := 115) (v := 1) (lc' := [(5, .int (l5 + 1)), (4, .int (l4 + (r8.1 - r13.1))), (0, va_rf l0), (1, .int l1), (2, .int l2), (3, .int l3)]) hk dX0_saves_115 5 rfl rfl (Nat.le_of_ble_eq_true rfl) rfl ?_
      refine V_goto (pc := 118) (tgt := 52) hk dX0_saves_118 rfl ?_
      refine V_pick (lc' := [(0, va_rf l0), (1, .int l1), (2, .int l2), (3, .int l3), (4, .int (l4 + (r8.1 - r13.1))), (5, .int (l5 + 1))]) [2, 3, 4, 5, 1, 0] rfl ?_
      exact h52 r13.2 l0 l1 l2 l3 (l4 + (r8.1 - r13.1)) (l5 + 1)
theorem eX0_saves_l52 {y : Fx (Int32 × Wd)} (hk : OkF y RX0 cX0_saves 6 111 6271) (hR : RetM y rvI (some (.int))) : ∀ (n : Nat) (w : Wd) (l0 : Option Nat) (l1 : Int32) (l2 : Int32) (l3 : Int32) (l4 : Int32) (l5 : Int32), V y w [(0, va_rf l0), (1, .int l1), (2, .int l2), (3, .int l3), (4, .int l4), (5, .int l5)] [] 52 (mX0_saves_l52 n w l0 l1 l2 l3 l4 l5) := by
  intro n
  induction n with
  | zero => intro w l0 l1 l2 l3 l4 l5; exact V_none
  | succ n ih => intro w l0 l1 l2 l3 l4 l5; exact eX0_saves_b52 hk hR ih w l0 l1 l2 l3 l4 l5
theorem eX0_saves {y : Fx (Int32 × Wd)} (hk : OkF y RX0 cX0_saves 6 111 6271) (hR : RetM y rvI (some (.int))) (this : Nat) (a0 : Int32) (a1 : Int32) (a2 : Int32) (w : Wd) : V y w [(0, va_rf (some this)), (1, .int a0), (2, .int a1), (3, .int a2)] [] 0 (mX0_saves this a0 a1 a2 w) := by
  unfold mX0_saves
  refine V_aload_n (pc := 0) hk dX0_saves_0 0 rfl ?_
  refine V_iload_n (pc := 1) hk dX0_saves_1 1 rfl ?_
  refine n_X0_119 (pc := 2) hk (fun b r h => ctX0_isText (fl y) (fK y) hk.2.2.2.2.2.2.2.1 b a0 w r h) ⟨Nat.le_of_ble_eq_true rfl, Nat.le_of_ble_eq_true rfl⟩ (Nat.le_of_ble_eq_true rfl) dX0_saves_2 (fun r1 => ?_)
  refine V_if_eq (pc := 5) (tgt := 42) hk dX0_saves_5 rfl ?_ ?_
  · refine V_ldcw (pc := 42) (v := (-100000)) hk dX0_saves_42 q1146 ?_
    exact V_ireturn (pc := 45) hk hR rfl dX0_saves_45
  · refine V_aload_n (pc := 8) hk dX0_saves_8 0 rfl ?_
    refine V_iload_n (pc := 9) hk dX0_saves_9 2 rfl ?_
    refine n_X0_119 (pc := 10) hk (fun b r h => ctX0_isText (fl y) (fK y) hk.2.2.2.2.2.2.2.1 b a1 r1.2 r h) ⟨Nat.le_of_ble_eq_true rfl, Nat.le_of_ble_eq_true rfl⟩ (Nat.le_of_ble_eq_true rfl) dX0_saves_10 (fun r3 => ?_)
    refine V_if_eq (pc := 13) (tgt := 42) hk dX0_saves_13 rfl ?_ ?_
    · refine V_ldcw (pc := 42) (v := (-100000)) hk dX0_saves_42 q1146 ?_
      exact V_ireturn (pc := 45) hk hR rfl dX0_saves_45
    · refine V_iload_n (pc := 16) hk dX0_saves_16 1 rfl ?_
      refine V_iload_n (pc := 17) hk dX0_saves_17 2 rfl ?_
      refine V_icmp_eq (pc := 18) (tgt := 42) hk dX0_saves_18 rfl ?_ ?_
      · refine V_ldcw (pc := 42) (v := (-100000)) hk dX0_saves_42 q1146 ?_
        exact V_ireturn (pc := 45) hk hR rfl dX0_saves_45
      · refine V_iload_n (pc := 21) hk dX0_saves_21 3 rfl ?_
        refine V_iconst (pc := 22) (v := 1) hk dX0_saves_22 rfl ?_
        refine V_iconst (pc := 23) (v := 1) hk dX0_saves_23 rfl ?_
        refine V_aload_n (pc := 24) hk dX0_saves_24 0 rfl ?_
        refine g_X0_21 (pc := 25) hk dX0_saves_25 (fun v5 => ?_)
        refine g_X0_79 (pc := 28) hk dX0_saves_28 (fun v6 => ?_)
        refine V_iconst (pc := 31) (v := 0) hk dX0_saves_31 rfl ?_
        refine V_iaload (pc := 32) hk dX0_saves_32 (fun v7 => ?_)
        refine V_ishl (pc := 33) hk dX0_saves_33 ?_
        refine V_iconst (pc := 34) (v := 1) hk dX0_saves_34 rfl ?_
        refine V_isub (pc := 35) hk dX0_saves_35 ?_
        refine n_X0_82 (pc := 36) hk (fun r h => ctX0_in (fl y) (fK y) hk.2.2.2.2.2.2.2.1 a2 1 ((1 <<< (v7 &&& 31)) - 1) r3.2 r h) ⟨Nat.le_of_ble_eq_true rfl, Nat.le_of_ble_eq_true rfl⟩ (Nat.le_of_ble_eq_true rfl) dX0_saves_36 (fun r8 => ?_)
        refine V_if_ne (pc := 39) (tgt := 46) hk dX0_saves_39 rfl ?_ ?_
        · refine V_iconst (pc := 46) (v := 0) hk dX0_saves_46 rfl ?_
          refine V_istore (pc := 47) (lc' := [(4, .int 0), (0, va_rf ((some this))), (1, .int a0), (2, .int a1), (3, .int a2)]) (i := 4) hk dX0_saves_47 (Nat.le_of_ble_eq_true rfl) rfl ?_
          refine V_iconst (pc := 49) (v := 0) hk dX0_saves_49 rfl ?_
          refine V_istore (pc := 50) (lc' := [(5, .int 0), (4, .int 0), (0, va_rf ((some this))), (1, .int a0), (2, .int a1), (3, .int a2)]) (i := 5) hk dX0_saves_50 (Nat.le_of_ble_eq_true rfl) rfl ?_
          refine V_pick (lc' := [(0, va_rf ((some this))), (1, .int a0), (2, .int a1), (3, .int a2), (4, .int 0), (5, .int 0)]) [2, 3, 4, 5, 1, 0] rfl ?_
          exact eX0_saves_l52 hk hR FU r8.2 ((some this)) a0 a1 a2 0 0
        · refine V_ldcw (pc := 42) (v := (-100000)) hk dX0_saves_42 q1146 ?_
          exact V_ireturn (pc := 45) hk hR rfl dX0_saves_45
theorem ctX0_saves (l : Launch) (K : Kx) (hI : Ini K) (b : Nat) (a0 : Int32) (a1 : Int32) (a2 : Int32) (w : Wd) : ∀ r, mX0_saves b a0 a1 a2 w = some r → Ct l K 111 6271 yX0_saves (ws_ yX0_saves cX0_saves 6 (some (.int))) [.ref b, .int a0, .int a1, .int a2] w (rvI r.1) r.2 := Ct_of rvI l K hI 111 6271 [.ref b, .int a0, .int a1, .int a2] w (by decide) (lc0 := [(0, .ref b), (1, .int a0), (2, .int a1), (3, .int a2)]) rfl (Nat.le_of_ble_eq_true rfl) (fun y hk hR _ _ hin => eX0_saves hk hR b a0 a1 a2 w)
noncomputable def mX0_whenToGo_p77 (k22 : Wd → (Option Nat) → Int32 → Int32 → Int32 → Option (Int32 × Wd)) (w : Wd) (l0 : Option Nat) (l1 : Int32) (l2 : Int32) (l3 : Int32) : Option (Int32 × Wd) :=
(gR w l0 0 13).bind fun v1 =>
(recv w l0 0).bind fun b3 => (cal w (mX0_tenth b3 v1 0 w)).bind fun r2 =>
k22 r2.2 l0 l1 l2 (l3 + 1)
noncomputable def mX0_whenToGo_b22 (k22 : Wd → (Option Nat) → Int32 → Int32 → Int32 → Option (Int32 × Wd)) (w : Wd) (l0 : Option Nat) (l1 : Int32) (l2 : Int32) (l3 : Int32) : Option (Int32 × Wd) :=
if 60 < l3 then (
some (l1, w))
else (
(gR w l0 0 13).bind fun v1 =>
(gR w l0 0 8).bind fun v2 =>
(cal w (mX1_copy v1 v2 w)).bind fun r3 =>
(gR r3.2 l0 0 8).bind fun v4 =>
(recv r3.2 l0 0).bind fun b6 => (cal r3.2 (mX0_rules b6 r3.2)).bind fun r5 =>
(recv r5.2 l0 0).bind fun b8 => (cal r5.2 (mX0_stillIn b8 v4 r5.1 ((jminI 200 (l2 - 1)) - l3) r5.2)).bind fun r7 =>
if r7.1 = (-1) then (
mX0_whenToGo_p77 k22 r7.2 l0 l1 l2 l3)
else (
mX0_whenToGo_p77 k22 r7.2 l0 l3 (l3 + r7.1) l3))
noncomputable def mX0_whenToGo_l22 : Nat → Wd → (Option Nat) → Int32 → Int32 → Int32 → Option (Int32 × Wd)
  | 0, _, _, _, _, _ => none
  | n + 1, w, l0, l1, l2, l3 => mX0_whenToGo_b22 (mX0_whenToGo_l22 n) w l0 l1 l2 l3
noncomputable def mX0_whenToGo (this : Nat) (w : Wd) : Option (Int32 × Wd) :=
(gR w ((some this)) 0 0).bind fun v1 =>
(gR w v1 1 1).bind fun v2 =>
(gR w ((some this)) 0 13).bind fun v3 =>
(cal w (mX1_copy v2 v3 w)).bind fun r4 =>
mX0_whenToGo_l22 FU r4.2 ((some this)) (-1) 201 0
theorem eX0_whenToGo_p77 {y : Fx (Int32 × Wd)} (hk : OkF y RX0 cX0_whenToGo 5 110 6248) (hR : RetM y rvI (some (.int))) {k22 : Wd → (Option Nat) → Int32 → Int32 → Int32 → Option (Int32 × Wd)} (h22 : ∀ (w : Wd) (l0 : Option Nat) (l1 : Int32) (l2 : Int32) (l3 : Int32), V y w [(0, va_rf l0), (1, .int l1), (2, .int l2), (3, .int l3)] [] 22 (k22 w l0 l1 l2 l3)) (w : Wd) (l0 : Option Nat) (l1 : Int32) (l2 : Int32) (l3 : Int32) : V y w [(0, va_rf l0), (1, .int l1), (2, .int l2), (3, .int l3)] [] 77 (mX0_whenToGo_p77 k22 w l0 l1 l2 l3) := by
  unfold mX0_whenToGo_p77
  refine V_aload_n (pc := 77) hk dX0_whenToGo_77 0 rfl ?_
  refine V_aload_n (pc := 78) hk dX0_whenToGo_78 0 rfl ?_
  refine g_X0_54 (pc := 79) hk dX0_whenToGo_79 (fun v1 => ?_)
  refine V_iconst (pc := 82) (v := 0) hk dX0_whenToGo_82 rfl ?_
  refine n_X0_203 (pc := 83) hk (fun b r h => ctX0_tenth (fl y) (fK y) hk.2.2.2.2.2.2.2.1 b v1 0 w r h) ⟨Nat.le_of_ble_eq_true rfl, Nat.le_of_ble_eq_true rfl⟩ (Nat.le_of_ble_eq_true rfl) dX0_whenToGo_83 (fun r2 => ?_)
  refine V_iinc (pc := 86) (v := 1) (lc' := [(3, .int (l3 + 1)), (0, va_rf l0), (1, .int l1), (2, .int l2)]) hk dX0_whenToGo_86 3 rfl rfl (Nat.le_of_ble_eq_true rfl) rfl ?_
  refine V_goto (pc := 89) (tgt := 22) hk dX0_whenToGo_89 rfl ?_
  refine V_pick (lc' := [(0, va_rf l0), (1, .int l1), (2, .int l2), (3, .int (l3 + 1))]) [1, 2, 3, 0] rfl ?_
  exact h22 r2.2 l0 l1 l2 (l3 + 1)
theorem eX0_whenToGo_b22 {y : Fx (Int32 × Wd)} (hk : OkF y RX0 cX0_whenToGo 5 110 6248) (hR : RetM y rvI (some (.int))) {k22 : Wd → (Option Nat) → Int32 → Int32 → Int32 → Option (Int32 × Wd)} (h22 : ∀ (w : Wd) (l0 : Option Nat) (l1 : Int32) (l2 : Int32) (l3 : Int32), V y w [(0, va_rf l0), (1, .int l1), (2, .int l2), (3, .int l3)] [] 22 (k22 w l0 l1 l2 l3)) (w : Wd) (l0 : Option Nat) (l1 : Int32) (l2 : Int32) (l3 : Int32) : V y w [(0, va_rf l0), (1, .int l1), (2, .int l2), (3, .int l3)] [] 22 (mX0_whenToGo_b22 k22 w l0 l1 l2 l3) := by
  unfold mX0_whenToGo_b22
  refine V_iload_n (pc := 22) hk dX0_whenToGo_22 3 rfl ?_
  refine V_bipush (pc := 23) (v := 60) hk dX0_whenToGo_23 rfl ?_
  refine V_icmp_gt (pc := 25) (tgt := 92) hk dX0_whenToGo_25 rfl ?_ ?_
  · refine V_iload_n (pc := 92) hk dX0_whenToGo_92 1 rfl ?_
    exact V_ireturn (pc := 93) hk hR rfl dX0_whenToGo_93
  · refine V_aload_n (pc := 28) hk dX0_whenToGo_28 0 rfl ?_
    refine g_X0_54 (pc := 29) hk dX0_whenToGo_29 (fun v1 => ?_)
    refine V_aload_n (pc := 32) hk dX0_whenToGo_32 0 rfl ?_
    refine g_X0_43 (pc := 33) hk dX0_whenToGo_33 (fun v2 => ?_)
    refine n_X0_89 (pc := 36) hk (fun r h => ctX1_copy (fl y) (fK y) hk.2.2.2.2.2.2.2.1 v1 v2 w r h) ⟨Nat.le_of_ble_eq_true rfl, Nat.le_of_ble_eq_true rfl⟩ (Nat.le_of_ble_eq_true rfl) dX0_whenToGo_36 (fun r3 => ?_)
    refine V_aload_n (pc := 39) hk dX0_whenToGo_39 0 rfl ?_
    refine V_aload_n (pc := 40) hk dX0_whenToGo_40 0 rfl ?_
    refine g_X0_43 (pc := 41) hk dX0_whenToGo_41 (fun v4 => ?_)
    refine V_aload_n (pc := 44) hk dX0_whenToGo_44 0 rfl ?_
    refine n_X0_154 (pc := 45) hk (fun b r h => ctX0_rules (fl y) (fK y) hk.2.2.2.2.2.2.2.1 b r3.2 r h) ⟨Nat.le_of_ble_eq_true rfl, Nat.le_of_ble_eq_true rfl⟩ (by simp [rf_cat, cat_int, cat_long, cat_ref]) dX0_whenToGo_45 (fun r5 => ?_)
    refine V_sipush (pc := 48) (v := 200) hk dX0_whenToGo_48 rfl ?_
    refine V_iload_n (pc := 51) hk dX0_whenToGo_51 2 rfl ?_
    refine V_iconst (pc := 52) (v := 1) hk dX0_whenToGo_52 rfl ?_
    refine V_isub (pc := 53) hk dX0_whenToGo_53 ?_
    refine V_mmin (pc := 54) hk q1245 ⟨Nat.le_of_ble_eq_true rfl, Nat.le_of_ble_eq_true rfl⟩ (by simp [rf_cat, cat_int, cat_long, cat_ref]) dX0_whenToGo_54 ?_
    refine V_iload_n (pc := 57) hk dX0_whenToGo_57 3 rfl ?_
    refine V_isub (pc := 58) hk dX0_whenToGo_58 ?_
    refine n_X0_340 (pc := 59) hk (fun b r h => ctX0_stillIn (fl y) (fK y) hk.2.2.2.2.2.2.2.1 b v4 r5.1 ((jminI 200 (l2 - 1)) - l3) r5.2 r h) ⟨Nat.le_of_ble_eq_true rfl, Nat.le_of_ble_eq_true rfl⟩ (Nat.le_of_ble_eq_true rfl) dX0_whenToGo_59 (fun r7 => ?_)
    refine V_istore (pc := 62) (lc' := [(4, .int r7.1), (0, va_rf l0), (1, .int l1), (2, .int l2), (3, .int l3)]) (i := 4) hk dX0_whenToGo_62 (Nat.le_of_ble_eq_true rfl) rfl ?_
    refine V_iload (pc := 64) hk dX0_whenToGo_64 0 rfl ?_
    refine V_iconst (pc := 66) (v := (-1)) hk dX0_whenToGo_66 (by decide +kernel) ?_
    refine V_icmp_eq (pc := 67) (tgt := 77) hk dX0_whenToGo_67 rfl ?_ ?_
    · refine V_pick (lc' := [(0, va_rf l0), (1, .int l1), (2, .int l2), (3, .int l3)]) [1, 2, 3, 4] rfl ?_
      exact eX0_whenToGo_p77 hk hR h22 r7.2 l0 l1 l2 l3
    · refine V_iload_n (pc := 70) hk dX0_whenToGo_70 4 rfl ?_
      refine V_istore_n (pc := 71) (lc' := [(1, .int l3), (4, .int r7.1), (0, va_rf l0), (2, .int l2), (3, .int l3)]) (i := 1) hk dX0_whenToGo_71 rfl (Nat.le_of_ble_eq_true rfl) (by simp [rf_cat, cat_int, cat_long, cat_ref]) ?_
      refine V_iload_n (pc := 72) hk dX0_whenToGo_72 4 rfl ?_
      refine V_iload (pc := 73) hk dX0_whenToGo_73 1 rfl ?_
      refine V_iadd (pc := 75) hk dX0_whenToGo_75 ?_
      refine V_istore_n (pc := 76) (lc' := [(2, .int (l3 + r7.1)), (1, .int l3), (4, .int r7.1), (0, va_rf l0), (3, .int l3)]) (i := 2) hk dX0_whenToGo_76 rfl (Nat.le_of_ble_eq_true rfl) rfl ?_
      refine V_pick (lc' := [(0, va_rf l0), (1, .int l3), (2, .int (l3 + r7.1)), (3, .int l3)]) [3, 1, 0, 4] rfl ?_
      exact eX0_whenToGo_p77 hk hR h22 r7.2 l0 l3 (l3 + r7.1) l3
theorem eX0_whenToGo_l22 {y : Fx (Int32 × Wd)} (hk : OkF y RX0 cX0_whenToGo 5 110 6248) (hR : RetM y rvI (some (.int))) : ∀ (n : Nat) (w : Wd) (l0 : Option Nat) (l1 : Int32) (l2 : Int32) (l3 : Int32), V y w [(0, va_rf l0), (1, .int l1), (2, .int l2), (3, .int l3)] [] 22 (mX0_whenToGo_l22 n w l0 l1 l2 l3) := by
  intro n
  induction n with
  | zero => intro w l0 l1 l2 l3; exact V_none
  | succ n ih => intro w l0 l1 l2 l3; exact eX0_whenToGo_b22 hk hR ih w l0 l1 l2 l3
theorem eX0_whenToGo {y : Fx (Int32 × Wd)} (hk : OkF y RX0 cX0_whenToGo 5 110 6248) (hR : RetM y rvI (some (.int))) (this : Nat) (w : Wd) : V y w [(0, va_rf (some this))] [] 0 (mX0_whenToGo this w) := by
  unfold mX0_whenToGo
  refine V_iconst (pc := 0) (v := (-1)) hk dX0_whenToGo_0 (by decide +kernel) ?_
  refine V_istore_n (pc := 1) (lc' := [(1, .int (-1)), (0, va_rf ((some this)))]) (i := 1) hk dX0_whenToGo_1 rfl (Nat.le_of_ble_eq_true rfl) (by simp [rf_cat, cat_int, cat_long, cat_ref]) ?_
  refine V_sipush (pc := 2) (v := 201) hk dX0_whenToGo_2 rfl ?_
  refine V_istore_n (pc := 5) (lc' := [(2, .int 201), (1, .int (-1)), (0, va_rf ((some this)))]) (i := 2) hk dX0_whenToGo_5 rfl (Nat.le_of_ble_eq_true rfl) rfl ?_
  refine V_aload_n (pc := 6) hk dX0_whenToGo_6 2 rfl ?_
  refine g_X0_21 (pc := 7) hk dX0_whenToGo_7 (fun v1 => ?_)
  refine g_X0_176 (pc := 10) hk dX0_whenToGo_10 (fun v2 => ?_)
  refine V_aload_n (pc := 13) hk dX0_whenToGo_13 2 rfl ?_
  refine g_X0_54 (pc := 14) hk dX0_whenToGo_14 (fun v3 => ?_)
  refine n_X0_89 (pc := 17) hk (fun r h => ctX1_copy (fl y) (fK y) hk.2.2.2.2.2.2.2.1 v2 v3 w r h) ⟨Nat.le_of_ble_eq_true rfl, Nat.le_of_ble_eq_true rfl⟩ (Nat.le_of_ble_eq_true rfl) dX0_whenToGo_17 (fun r4 => ?_)
  refine V_iconst (pc := 20) (v := 0) hk dX0_whenToGo_20 rfl ?_
  refine V_istore_n (pc := 21) (lc' := [(3, .int 0), (2, .int 201), (1, .int (-1)), (0, va_rf ((some this)))]) (i := 3) hk dX0_whenToGo_21 rfl (Nat.le_of_ble_eq_true rfl) rfl ?_
  refine V_pick (lc' := [(0, va_rf ((some this))), (1, .int (-1)), (2, .int 201), (3, .int 0)]) [3, 2, 1, 0] rfl ?_
  exact eX0_whenToGo_l22 hk hR FU r4.2 ((some this)) (-1) 201 0
theorem ctX0_whenToGo (l : Launch) (K : Kx) (hI : Ini K) (b : Nat) (w : Wd) : ∀ r, mX0_whenToGo b w = some r → Ct l K 110 6248 yX0_whenToGo (ws_ yX0_whenToGo cX0_whenToGo 5 (some (.int))) [.ref b] w (rvI r.1) r.2 := Ct_of rvI l K hI 110 6248 [.ref b] w (by decide) (lc0 := [(0, .ref b)]) rfl (Nat.le_of_ble_eq_true rfl) (fun y hk hR _ _ hin => eX0_whenToGo hk hR b w)
noncomputable def mX0_whichRope_b8 (k8 : Wd → (Option Nat) → Int32 → Int32 → Int32 → Option (Int32 × Wd)) (w : Wd) (l0 : Option Nat) (l1 : Int32) (l2 : Int32) (l3 : Int32) : Option (Int32 × Wd) :=
if 24 < l3 then (
some (l1, w))
else (
(gR w l0 0 0).bind fun v1 =>
(gR w v1 1 1).bind fun v2 =>
(gR w l0 0 8).bind fun v3 =>
(cal w (mX1_copy v2 v3 w)).bind fun r4 =>
(gR r4.2 l0 0 8).bind fun v5 =>
(ias r4.2 v5 4 l3).bind fun w6 =>
(gR w6 l0 0 8).bind fun v7 =>
(recv w6 l0 0).bind fun b9 => (cal w6 (mX0_rules b9 w6)).bind fun r8 =>
(recv r8.2 l0 0).bind fun b11 => (cal r8.2 (mX0_stillIn b11 v7 r8.1 (l2 - 1) r8.2)).bind fun r10 =>
if ¬ r10.1 = (-1) then (
k8 r10.2 l0 l3 r10.1 (l3 + 1))
else (
k8 r10.2 l0 l1 l2 (l3 + 1)))
noncomputable def mX0_whichRope_l8 : Nat → Wd → (Option Nat) → Int32 → Int32 → Int32 → Option (Int32 × Wd)
  | 0, _, _, _, _, _ => none
  | n + 1, w, l0, l1, l2, l3 => mX0_whichRope_b8 (mX0_whichRope_l8 n) w l0 l1 l2 l3
noncomputable def mX0_whichRope (this : Nat) (w : Wd) : Option (Int32 × Wd) :=
mX0_whichRope_l8 FU w ((some this)) (-1) 201 1
theorem eX0_whichRope_b8 {y : Fx (Int32 × Wd)} (hk : OkF y RX0 cX0_whichRope 5 110 6248) (hR : RetM y rvI (some (.int))) {k8 : Wd → (Option Nat) → Int32 → Int32 → Int32 → Option (Int32 × Wd)} (h8 : ∀ (w : Wd) (l0 : Option Nat) (l1 : Int32) (l2 : Int32) (l3 : Int32), V y w [(0, va_rf l0), (1, .int l1), (2, .int l2), (3, .int l3)] [] 8 (k8 w l0 l1 l2 l3)) (w : Wd) (l0 : Option Nat) (l1 : Int32) (l2 : Int32) (l3 : Int32) : V y w [(0, va_rf l0), (1, .int l1), (2, .int l2), (3, .int l3)] [] 8 (mX0_whichRope_b8 k8 w l0 l1 l2 l3) := by
  unfold mX0_whichRope_b8
  refine V_iload_n (pc := 8) hk dX0_whichRope_8 3 rfl ?_
  refine V_bipush (pc := 9) (v := 24) hk dX0_whichRope_9 rfl ?_
  refine V_icmp_gt (pc := 11) (tgt := 72) hk dX0_whichRope_11 rfl ?_ ?_
  · refine V_iload_n (pc := 72) hk dX0_whichRope_72 1 rfl ?_
    exact V_ireturn (pc := 73) hk hR rfl dX0_whichRope_73
  · refine V_aload_n (pc := 14) hk dX0_whichRope_14 0 rfl ?_
    refine g_X0_21 (pc := 15) hk dX0_whichRope_15 (fun v1 => ?_)
    refine g_X0_176 (pc := 18) hk dX0_whichRope_18 (fun v2 => ?_)
    refine V_aload_n (pc := 21) hk dX0_whichRope_21 0 rfl ?_
    refine g_X0_43 (pc := 22) hk dX0_whichRope_22 (fun v3 => ?_)
    refine n_X0_89 (pc := 25) hk (fun r h => ctX1_copy (fl y) (fK y) hk.2.2.2.2.2.2.2.1 v2 v3 w r h) ⟨Nat.le_of_ble_eq_true rfl, Nat.le_of_ble_eq_true rfl⟩ (Nat.le_of_ble_eq_true rfl) dX0_whichRope_25 (fun r4 => ?_)
    refine V_aload_n (pc := 28) hk dX0_whichRope_28 0 rfl ?_
    refine g_X0_43 (pc := 29) hk dX0_whichRope_29 (fun v5 => ?_)
    refine V_iconst (pc := 32) (v := 4) hk dX0_whichRope_32 rfl ?_
    refine V_iload_n (pc := 33) hk dX0_whichRope_33 3 rfl ?_
    refine V_iastore (pc := 34) hk dX0_whichRope_34 (fun w6 => ?_)
    refine V_aload_n (pc := 35) hk dX0_whichRope_35 0 rfl ?_
    refine V_aload_n (pc := 36) hk dX0_whichRope_36 0 rfl ?_
    refine g_X0_43 (pc := 37) hk dX0_whichRope_37 (fun v7 => ?_)
    refine V_aload_n (pc := 40) hk dX0_whichRope_40 0 rfl ?_
    refine n_X0_154 (pc := 41) hk (fun b r h => ctX0_rules (fl y) (fK y) hk.2.2.2.2.2.2.2.1 b w6 r h) ⟨Nat.le_of_ble_eq_true rfl, Nat.le_of_ble_eq_true rfl⟩ (by simp [rf_cat, cat_int, cat_long, cat_ref]) dX0_whichRope_41 (fun r8 => ?_)
    refine V_iload_n (pc := 44) hk dX0_whichRope_44 2 rfl ?_
    refine V_iconst (pc := 45) (v := 1) hk dX0_whichRope_45 rfl ?_
    refine V_isub (pc := 46) hk dX0_whichRope_46 ?_
    refine n_X0_340 (pc := 47) hk (fun b r h => ctX0_stillIn (fl y) (fK y) hk.2.2.2.2.2.2.2.1 b v7 r8.1 (l2 - 1) r8.2 r h) ⟨Nat.le_of_ble_eq_true rfl, Nat.le_of_ble_eq_true rfl⟩ (Nat.le_of_ble_eq_true rfl) dX0_whichRope_47 (fun r10 => ?_)
    refine V_istore (pc := 50) (lc' := [(4, .int r10.1), (0, va_rf l0), (1, .int l1), (2, .int l2), (3, .int l3)]) (i := 4) hk dX0_whichRope_50 (Nat.le_of_ble_eq_true rfl) rfl ?_
    refine V_iload (pc := 52) hk dX0_whichRope_52 0 rfl ?_
    refine V_iconst (pc := 54) (v := (-1)) hk dX0_whichRope_54 (by decide +kernel) ?_
    refine V_icmp_ne (pc := 55) (tgt := 61) hk dX0_whichRope_55 rfl ?_ ?_
    · refine V_iload_n (pc := 61) hk dX0_whichRope_61 4 rfl ?_
      refine V_istore_n (pc := 62) (lc' := [(1, .int l3), (4, .int r10.1), (0, va_rf l0), (2, .int l2), (3, .int l3)]) (i := 1) hk dX0_whichRope_62 rfl (Nat.le_of_ble_eq_true rfl) (by simp [rf_cat, cat_int, cat_long, cat_ref]) ?_
      refine V_iload (pc := 63) hk dX0_whichRope_63 1 rfl ?_
      refine V_istore_n (pc := 65) (lc' := [(2, .int r10.1), (1, .int l3), (4, .int r10.1), (0, va_rf l0), (3, .int l3)]) (i := 2) hk dX0_whichRope_65 rfl (Nat.le_of_ble_eq_true rfl) rfl ?_
      refine V_iinc (pc := 66) (v := 1) (lc' := [(3, .int (l3 + 1)), (2, .int r10.1), (1, .int l3), (4, .int r10.1), (0, va_rf l0)]) hk dX0_whichRope_66 4 rfl rfl (Nat.le_of_ble_eq_true rfl) rfl ?_
      refine V_goto (pc := 69) (tgt := 8) hk dX0_whichRope_69 rfl ?_
      refine V_pick (lc' := [(0, va_rf l0), (1, .int l3), (2, .int r10.1), (3, .int (l3 + 1))]) [4, 2, 1, 0] rfl ?_
      exact h8 r10.2 l0 l3 r10.1 (l3 + 1)
    · refine V_goto (pc := 58) (tgt := 66) hk dX0_whichRope_58 rfl ?_
      refine V_iinc (pc := 66) (v := 1) (lc' := [(3, .int (l3 + 1)), (4, .int r10.1), (0, va_rf l0), (1, .int l1), (2, .int l2)]) hk dX0_whichRope_66 4 rfl rfl (Nat.le_of_ble_eq_true rfl) rfl ?_
      refine V_goto (pc := 69) (tgt := 8) hk dX0_whichRope_69 rfl ?_
      refine V_pick (lc' := [(0, va_rf l0), (1, .int l1), (2, .int l2), (3, .int (l3 + 1))]) [2, 3, 4, 0] rfl ?_
      exact h8 r10.2 l0 l1 l2 (l3 + 1)
theorem eX0_whichRope_l8 {y : Fx (Int32 × Wd)} (hk : OkF y RX0 cX0_whichRope 5 110 6248) (hR : RetM y rvI (some (.int))) : ∀ (n : Nat) (w : Wd) (l0 : Option Nat) (l1 : Int32) (l2 : Int32) (l3 : Int32), V y w [(0, va_rf l0), (1, .int l1), (2, .int l2), (3, .int l3)] [] 8 (mX0_whichRope_l8 n w l0 l1 l2 l3) := by
  intro n
  induction n with
  | zero => intro w l0 l1 l2 l3; exact V_none
  | succ n ih => intro w l0 l1 l2 l3; exact eX0_whichRope_b8 hk hR ih w l0 l1 l2 l3
theorem eX0_whichRope {y : Fx (Int32 × Wd)} (hk : OkF y RX0 cX0_whichRope 5 110 6248) (hR : RetM y rvI (some (.int))) (this : Nat) (w : Wd) : V y w [(0, va_rf (some this))] [] 0 (mX0_whichRope this w) := by
  unfold mX0_whichRope
  refine V_iconst (pc := 0) (v := (-1)) hk dX0_whichRope_0 (by decide +kernel) ?_
  refine V_istore_n (pc := 1) (lc' := [(1, .int (-1)), (0, va_rf ((some this)))]) (i := 1) hk dX0_whichRope_1 rfl (Nat.le_of_ble_eq_true rfl) (by simp [rf_cat, cat_int, cat_long, cat_ref]) ?_
  refine V_sipush (pc := 2) (v := 201) hk dX0_whichRope_2 rfl ?_
  refine V_istore_n (pc := 5) (lc' := [(2, .int 201), (1, .int (-1)), (0, va_rf ((some this)))]) (i := 2) hk dX0_whichRope_5 rfl (Nat.le_of_ble_eq_true rfl) rfl ?_
  refine V_iconst (pc := 6) (v := 1) hk dX0_whichRope_6 rfl ?_
  refine V_istore_n (pc := 7) (lc' := [(3, .int 1), (2, .int 201), (1, .int (-1)), (0, va_rf ((some this)))]) (i := 3) hk dX0_whichRope_7 rfl (Nat.le_of_ble_eq_true rfl) rfl ?_
  refine V_pick (lc' := [(0, va_rf ((some this))), (1, .int (-1)), (2, .int 201), (3, .int 1)]) [3, 2, 1, 0] rfl ?_
  exact eX0_whichRope_l8 hk hR FU w ((some this)) (-1) 201 1
theorem ctX0_whichRope (l : Launch) (K : Kx) (hI : Ini K) (b : Nat) (w : Wd) : ∀ r, mX0_whichRope b w = some r → Ct l K 110 6248 yX0_whichRope (ws_ yX0_whichRope cX0_whichRope 5 (some (.int))) [.ref b] w (rvI r.1) r.2 := Ct_of rvI l K hI 110 6248 [.ref b] w (by decide) (lc0 := [(0, .ref b)]) rfl (Nat.le_of_ble_eq_true rfl) (fun y hk hR _ _ hin => eX0_whichRope hk hR b w)
noncomputable def mX0_bar (this : Nat) (a0 : Int32) (a1 : Int32) (a2 : Int32) (a3 : Int32) (w : Wd) : Option (Int32 × Wd) :=
if ¬ a0 = (-1) then (
(cal w (mX0_in a0 0 600 w)).bind fun r1 =>
if r1.1 = 0 then (
some ((-2), r1.2))
else (
(cal r1.2 (mX0_in a1 a0 600 r1.2)).bind fun r2 =>
if r2.1 = 0 then (
some ((-2), r2.2))
else (
(cal r2.2 (mX0_in a2 0 9999 r2.2)).bind fun r3 =>
if r3.1 = 0 then (
some ((-2), r3.2))
else (
(cal r3.2 (mX0_in a3 a2 9999 r3.2)).bind fun r4 =>
if r4.1 = 0 then (
some ((-2), r4.2))
else (
(gR r4.2 ((some this)) 0 0).bind fun v5 =>
(gR r4.2 v5 1 0).bind fun v6 =>
(ia r4.2 v6 6).bind fun v7 =>
if ¬ v7 = 4 then (
(nchk 4).bind fun n8 => (some (wnew r4.2 (.inl (.int, n8, .inl (fun _ => 0))) n8)).bind fun (w9 : Wd) =>
(ias w9 ((some (wnx r4.2))) 0 a0).bind fun w10 =>
(ias w10 ((some (wnx r4.2))) 1 a1).bind fun w11 =>
(ias w11 ((some (wnx r4.2))) 2 a2).bind fun w12 =>
(ias w12 ((some (wnx r4.2))) 3 a3).bind fun w13 =>
(gR w13 ((some this)) 0 0).bind fun v14 =>
(gR w13 v14 1 4).bind fun v15 =>
(gR w13 ((some this)) 0 0).bind fun v16 =>
(gR w13 v16 1 0).bind fun v17 =>
(ia w13 v17 6).bind fun v18 =>
(aa w13 v15 v18).bind fun v19 =>
(cal w13 (mX1_copy ((some (wnx r4.2))) v19 w13)).bind fun r20 =>
(gR r20.2 ((some this)) 0 0).bind fun v21 =>
(gR r20.2 v21 1 0).bind fun v22 =>
(ia r20.2 v22 6).bind fun v23 =>
(ias r20.2 v22 6 (v23 + 1)).bind fun w24 =>
(gR w24 ((some this)) 0 0).bind fun v25 =>
(gR w24 v25 1 0).bind fun v26 =>
(ia w24 v26 6).bind fun v27 =>
some (v27, w24))
else (
some ((-2), r4.2)))))))
else (
(gR w ((some this)) 0 0).bind fun v28 =>
(gR w v28 1 0).bind fun v29 =>
(ias w v29 6 0).bind fun w30 =>
some (0, w30))
theorem eX0_bar {y : Fx (Int32 × Wd)} (hk : OkF y RX0 cX0_bar 6 3 82) (hR : RetM y rvI (some (.int))) (this : Nat) (a0 : Int32) (a1 : Int32) (a2 : Int32) (a3 : Int32) (w : Wd) : V y w [(0, va_rf (some this)), (1, .int a0), (2, .int a1), (3, .int a2), (4, .int a3)] [] 0 (mX0_bar this a0 a1 a2 a3 w) := by
  unfold mX0_bar
  refine V_iload_n (pc := 0) hk dX0_bar_0 1 rfl ?_
  refine V_iconst (pc := 1) (v := (-1)) hk dX0_bar_1 (by decide +kernel) ?_
  refine V_icmp_ne (pc := 2) (tgt := 18) hk dX0_bar_2 rfl ?_ ?_
  · refine V_iload_n (pc := 18) hk dX0_bar_18 1 rfl ?_
    refine V_iconst (pc := 19) (v := 0) hk dX0_bar_19 rfl ?_
    refine V_sipush (pc := 20) (v := 600) hk dX0_bar_20 rfl ?_
    refine n_X0_82 (pc := 23) hk (fun r h => ctX0_in (fl y) (fK y) hk.2.2.2.2.2.2.2.1 a0 0 600 w r h) ⟨Nat.le_of_ble_eq_true rfl, Nat.le_of_ble_eq_true rfl⟩ (Nat.le_of_ble_eq_true rfl) dX0_bar_23 (fun r1 => ?_)
    refine V_if_eq (pc := 26) (tgt := 77) hk dX0_bar_26 rfl ?_ ?_
    · refine V_bipush (pc := 77) (v := (-2)) hk dX0_bar_77 (by decide +kernel) ?_
      exact V_ireturn (pc := 79) hk hR rfl dX0_bar_79
    · refine V_iload_n (pc := 29) hk dX0_bar_29 2 rfl ?_
      refine V_iload_n (pc := 30) hk dX0_bar_30 1 rfl ?_
      refine V_sipush (pc := 31) (v := 600) hk dX0_bar_31 rfl ?_
      refine n_X0_82 (pc := 34) hk (fun r h => ctX0_in (fl y) (fK y) hk.2.2.2.2.2.2.2.1 a1 a0 600 r1.2 r h) ⟨Nat.le_of_ble_eq_true rfl, Nat.le_of_ble_eq_true rfl⟩ (Nat.le_of_ble_eq_true rfl) dX0_bar_34 (fun r2 => ?_)
      refine V_if_eq (pc := 37) (tgt := 77) hk dX0_bar_37 rfl ?_ ?_
      · refine V_bipush (pc := 77) (v := (-2)) hk dX0_bar_77 (by decide +kernel) ?_
        exact V_ireturn (pc := 79) hk hR rfl dX0_bar_79
      · refine V_iload_n (pc := 40) hk dX0_bar_40 3 rfl ?_
        refine V_iconst (pc := 41) (v := 0) hk dX0_bar_41 rfl ?_
        refine V_sipush (pc := 42) (v := 9999) hk dX0_bar_42 rfl ?_
        refine n_X0_82 (pc := 45) hk (fun r h => ctX0_in (fl y) (fK y) hk.2.2.2.2.2.2.2.1 a2 0 9999 r2.2 r h) ⟨Nat.le_of_ble_eq_true rfl, Nat.le_of_ble_eq_true rfl⟩ (Nat.le_of_ble_eq_true rfl) dX0_bar_45 (fun r3 => ?_)
        refine V_if_eq (pc := 48) (tgt := 77) hk dX0_bar_48 rfl ?_ ?_
        · refine V_bipush (pc := 77) (v := (-2)) hk dX0_bar_77 (by decide +kernel) ?_
          exact V_ireturn (pc := 79) hk hR rfl dX0_bar_79
        · refine V_iload (pc := 51) hk dX0_bar_51 4 rfl ?_
          refine V_iload_n (pc := 53) hk dX0_bar_53 3 rfl ?_
          refine V_sipush (pc := 54) (v := 9999) hk dX0_bar_54 rfl ?_
          refine n_X0_82 (pc := 57) hk (fun r h => ctX0_in (fl y) (fK y) hk.2.2.2.2.2.2.2.1 a3 a2 9999 r3.2 r h) ⟨Nat.le_of_ble_eq_true rfl, Nat.le_of_ble_eq_true rfl⟩ (Nat.le_of_ble_eq_true rfl) dX0_bar_57 (fun r4 => ?_)
          refine V_if_eq (pc := 60) (tgt := 77) hk dX0_bar_60 rfl ?_ ?_
          · refine V_bipush (pc := 77) (v := (-2)) hk dX0_bar_77 (by decide +kernel) ?_
            exact V_ireturn (pc := 79) hk hR rfl dX0_bar_79
          · refine V_aload_n (pc := 63) hk dX0_bar_63 0 rfl ?_
            refine g_X0_21 (pc := 64) hk dX0_bar_64 (fun v5 => ?_)
            refine g_X0_79 (pc := 67) hk dX0_bar_67 (fun v6 => ?_)
            refine V_bipush (pc := 70) (v := 6) hk dX0_bar_70 rfl ?_
            refine V_iaload (pc := 72) hk dX0_bar_72 (fun v7 => ?_)
            refine V_iconst (pc := 73) (v := 4) hk dX0_bar_73 rfl ?_
            refine V_icmp_ne (pc := 74) (tgt := 80) hk dX0_bar_74 rfl ?_ ?_
            · refine V_iconst (pc := 80) (v := 4) hk dX0_bar_80 rfl ?_
              refine V_na_int (pc := 81) hk dX0_bar_81 (fun n8 => ?_)
              refine V_nmW (fun w9 => ?_)
              refine V_dup (pc := 83) hk dX0_bar_83 (rf_cat _) ?_
              refine V_iconst (pc := 84) (v := 0) hk dX0_bar_84 rfl ?_
              refine V_iload_n (pc := 85) hk dX0_bar_85 1 rfl ?_
              refine V_iastore (pc := 86) hk dX0_bar_86 (fun w10 => ?_)
              refine V_dup (pc := 87) hk dX0_bar_87 (rf_cat _) ?_
              refine V_iconst (pc := 88) (v := 1) hk dX0_bar_88 rfl ?_
              refine V_iload_n (pc := 89) hk dX0_bar_89 2 rfl ?_
              refine V_iastore (pc := 90) hk dX0_bar_90 (fun w11 => ?_)
              refine V_dup (pc := 91) hk dX0_bar_91 (rf_cat _) ?_
              refine V_iconst (pc := 92) (v := 2) hk dX0_bar_92 rfl ?_
              refine V_iload_n (pc := 93) hk dX0_bar_93 3 rfl ?_
              refine V_iastore (pc := 94) hk dX0_bar_94 (fun w12 => ?_)
              refine V_dup (pc := 95) hk dX0_bar_95 (rf_cat _) ?_
              refine V_iconst (pc := 96) (v := 3) hk dX0_bar_96 rfl ?_
              refine V_iload (pc := 97) hk dX0_bar_97 4 rfl ?_
              refine V_iastore (pc := 99) hk dX0_bar_99 (fun w13 => ?_)
              refine V_astore (pc := 100) (lc' := [(5, va_rf ((some (wnx r4.2)))), (0, va_rf ((some this))), (1, .int a0), (2, .int a1), (3, .int a2), (4, .int a3)]) (i := 5) hk dX0_bar_100 (Nat.le_of_ble_eq_true rfl) rfl ?_
              refine V_aload (pc := 102) hk dX0_bar_102 0 rfl ?_
              refine V_aload_n (pc := 104) hk dX0_bar_104 1 rfl ?_
              refine g_X0_21 (pc := 105) hk dX0_bar_105 (fun v14 => ?_)
              refine g_X0_350 (pc := 108) hk dX0_bar_108 (fun v15 => ?_)
              refine V_aload_n (pc := 111) hk dX0_bar_111 1 rfl ?_
              refine g_X0_21 (pc := 112) hk dX0_bar_112 (fun v16 => ?_)
              refine g_X0_79 (pc := 115) hk dX0_bar_115 (fun v17 => ?_)
              refine V_bipush (pc := 118) (v := 6) hk dX0_bar_118 rfl ?_
              refine V_iaload (pc := 120) hk dX0_bar_120 (fun v18 => ?_)
              refine V_aaload (pc := 121) hk dX0_bar_121 (fun v19 => ?_)
              refine n_X0_89 (pc := 122) hk (fun r h => ctX1_copy (fl y) (fK y) hk.2.2.2.2.2.2.2.1 ((some (wnx r4.2))) v19 w13 r h) ⟨Nat.le_of_ble_eq_true rfl, Nat.le_of_ble_eq_true rfl⟩ (Nat.le_of_ble_eq_true rfl) dX0_bar_122 (fun r20 => ?_)
              refine V_aload_n (pc := 125) hk dX0_bar_125 1 rfl ?_
              refine g_X0_21 (pc := 126) hk dX0_bar_126 (fun v21 => ?_)
              refine g_X0_79 (pc := 129) hk dX0_bar_129 (fun v22 => ?_)
              refine V_bipush (pc := 132) (v := 6) hk dX0_bar_132 rfl ?_
              refine V_dup2 (pc := 134) hk dX0_bar_134 rfl (rf_cat _) ?_
              refine V_iaload (pc := 135) hk dX0_bar_135 (fun v23 => ?_)
              refine V_iconst (pc := 136) (v := 1) hk dX0_bar_136 rfl ?_
              refine V_iadd (pc := 137) hk dX0_bar_137 ?_
              refine V_iastore (pc := 138) hk dX0_bar_138 (fun w24 => ?_)
              refine V_aload_n (pc := 139) hk dX0_bar_139 1 rfl ?_
              refine g_X0_21 (pc := 140) hk dX0_bar_140 (fun v25 => ?_)
              refine g_X0_79 (pc := 143) hk dX0_bar_143 (fun v26 => ?_)
              refine V_bipush (pc := 146) (v := 6) hk dX0_bar_146 rfl ?_
              refine V_iaload (pc := 148) hk dX0_bar_148 (fun v27 => ?_)
              exact V_ireturn (pc := 149) hk hR rfl dX0_bar_149
            · refine V_bipush (pc := 77) (v := (-2)) hk dX0_bar_77 (by decide +kernel) ?_
              exact V_ireturn (pc := 79) hk hR rfl dX0_bar_79
  · refine V_aload_n (pc := 5) hk dX0_bar_5 0 rfl ?_
    refine g_X0_21 (pc := 6) hk dX0_bar_6 (fun v28 => ?_)
    refine g_X0_79 (pc := 9) hk dX0_bar_9 (fun v29 => ?_)
    refine V_bipush (pc := 12) (v := 6) hk dX0_bar_12 rfl ?_
    refine V_iconst (pc := 14) (v := 0) hk dX0_bar_14 rfl ?_
    refine V_iastore (pc := 15) hk dX0_bar_15 (fun w30 => ?_)
    refine V_iconst (pc := 16) (v := 0) hk dX0_bar_16 rfl ?_
    exact V_ireturn (pc := 17) hk hR rfl dX0_bar_17
theorem ctX0_bar (l : Launch) (K : Kx) (hI : Ini K) (b : Nat) (a0 : Int32) (a1 : Int32) (a2 : Int32) (a3 : Int32) (w : Wd) : ∀ r, mX0_bar b a0 a1 a2 a3 w = some r → Ct l K 3 82 yX0_bar (ws_ yX0_bar cX0_bar 6 (some (.int))) [.ref b, .int a0, .int a1, .int a2, .int a3] w (rvI r.1) r.2 := Ct_of rvI l K hI 3 82 [.ref b, .int a0, .int a1, .int a2, .int a3] w (by decide) (lc0 := [(0, .ref b), (1, .int a0), (2, .int a1), (3, .int a2), (4, .int a3)]) rfl (Nat.le_of_ble_eq_true rfl) (fun y hk hR _ _ hin => eX0_bar hk hR b a0 a1 a2 a3 w)
noncomputable def mX0_isBarred_b2 (k2 : Wd → (Option Nat) → (Option Nat) → Int32 → Option (Int32 × Wd)) (w : Wd) (l0 : Option Nat) (l1 : Option Nat) (l2 : Int32) : Option (Int32 × Wd) :=
(gR w l0 0 0).bind fun v1 =>
(gR w v1 1 0).bind fun v2 =>
(ia w v2 6).bind fun v3 =>
if v3 ≤ l2 then (
(nok (.boolean) 0).bind fun _ => some (0, w))
else (
(gR w l0 0 0).bind fun v4 =>
(gR w v4 1 4).bind fun v5 =>
(aa w v5 l2).bind fun v6 =>
(ia w l1 0).bind fun v7 =>
(ia w v6 0).bind fun v8 =>
(ia w v6 1).bind fun v9 =>
(cal w (mX0_in v7 v8 v9 w)).bind fun r10 =>
if r10.1 = 0 then (
k2 r10.2 l0 l1 (l2 + 1))
else (
(ia r10.2 l1 8).bind fun v11 =>
(ia r10.2 v6 2).bind fun v12 =>
(ia r10.2 v6 3).bind fun v13 =>
(cal r10.2 (mX0_in v11 v12 v13 r10.2)).bind fun r14 =>
if r14.1 = 0 then (
k2 r14.2 l0 l1 (l2 + 1))
else (
(nok (.boolean) 1).bind fun _ => some (1, r14.2))))
noncomputable def mX0_isBarred_l2 : Nat → Wd → (Option Nat) → (Option Nat) → Int32 → Option (Int32 × Wd)
  | 0, _, _, _, _ => none
  | n + 1, w, l0, l1, l2 => mX0_isBarred_b2 (mX0_isBarred_l2 n) w l0 l1 l2
noncomputable def mX0_isBarred (this : Nat) (a0 : Option Nat) (w : Wd) : Option (Int32 × Wd) :=
mX0_isBarred_l2 FU w ((some this)) a0 0
theorem eX0_isBarred_b2 {y : Fx (Int32 × Wd)} (hk : OkF y RX0 cX0_isBarred 4 3 82) (hR : RetM y rvI (some (.boolean))) {k2 : Wd → (Option Nat) → (Option Nat) → Int32 → Option (Int32 × Wd)} (h2 : ∀ (w : Wd) (l0 : Option Nat) (l1 : Option Nat) (l2 : Int32), V y w [(0, va_rf l0), (1, va_rf l1), (2, .int l2)] [] 2 (k2 w l0 l1 l2)) (w : Wd) (l0 : Option Nat) (l1 : Option Nat) (l2 : Int32) : V y w [(0, va_rf l0), (1, va_rf l1), (2, .int l2)] [] 2 (mX0_isBarred_b2 k2 w l0 l1 l2) := by
  unfold mX0_isBarred_b2
  refine V_iload_n (pc := 2) hk dX0_isBarred_2 2 rfl ?_
  refine V_aload_n (pc := 3) hk dX0_isBarred_3 0 rfl ?_
  refine g_X0_21 (pc := 4) hk dX0_isBarred_4 (fun v1 => ?_)
  refine g_X0_79 (pc := 7) hk dX0_isBarred_7 (fun v2 => ?_)
  refine V_bipush (pc := 10) (v := 6) hk dX0_isBarred_10 rfl ?_
  refine V_iaload (pc := 12) hk dX0_isBarred_12 (fun v3 => ?_)
  refine V_icmp_ge (pc := 13) (tgt := 65) hk dX0_isBarred_13 rfl ?_ ?_
  · refine V_iconst (pc := 65) (v := 0) hk dX0_isBarred_65 rfl ?_
    exact V_zreturn (pc := 66) hk hR rfl dX0_isBarred_66
  · refine V_aload_n (pc := 16) hk dX0_isBarred_16 0 rfl ?_
    refine g_X0_21 (pc := 17) hk dX0_isBarred_17 (fun v4 => ?_)
    refine g_X0_350 (pc := 20) hk dX0_isBarred_20 (fun v5 => ?_)
    refine V_iload_n (pc := 23) hk dX0_isBarred_23 2 rfl ?_
    refine V_aaload (pc := 24) hk dX0_isBarred_24 (fun v6 => ?_)
    refine V_astore_n (pc := 25) (lc' := [(3, va_rf v6), (0, va_rf l0), (1, va_rf l1), (2, .int l2)]) (i := 3) hk dX0_isBarred_25 rfl (Nat.le_of_ble_eq_true rfl) rfl ?_
    refine V_aload_n (pc := 26) hk dX0_isBarred_26 2 rfl ?_
    refine V_iconst (pc := 27) (v := 0) hk dX0_isBarred_27 rfl ?_
    refine V_iaload (pc := 28) hk dX0_isBarred_28 (fun v7 => ?_)
    refine V_aload_n (pc := 29) hk dX0_isBarred_29 0 rfl ?_
    refine V_iconst (pc := 30) (v := 0) hk dX0_isBarred_30 rfl ?_
    refine V_iaload (pc := 31) hk dX0_isBarred_31 (fun v8 => ?_)
    refine V_aload_n (pc := 32) hk dX0_isBarred_32 0 rfl ?_
    refine V_iconst (pc := 33) (v := 1) hk dX0_isBarred_33 rfl ?_
    refine V_iaload (pc := 34) hk dX0_isBarred_34 (fun v9 => ?_)
    refine n_X0_82 (pc := 35) hk (fun r h => ctX0_in (fl y) (fK y) hk.2.2.2.2.2.2.2.1 v7 v8 v9 w r h) ⟨Nat.le_of_ble_eq_true rfl, Nat.le_of_ble_eq_true rfl⟩ (Nat.le_of_ble_eq_true rfl) dX0_isBarred_35 (fun r10 => ?_)
    refine V_if_eq (pc := 38) (tgt := 59) hk dX0_isBarred_38 rfl ?_ ?_
    · refine V_iinc (pc := 59) (v := 1) (lc' := [(2, .int (l2 + 1)), (3, va_rf v6), (0, va_rf l0), (1, va_rf l1)]) hk dX0_isBarred_59 3 rfl rfl (Nat.le_of_ble_eq_true rfl) (by simp [rf_cat, cat_int, cat_long, cat_ref]) ?_
      refine V_goto (pc := 62) (tgt := 2) hk dX0_isBarred_62 rfl ?_
      refine V_pick (lc' := [(0, va_rf l0), (1, va_rf l1), (2, .int (l2 + 1))]) [2, 3, 0] rfl ?_
      exact h2 r10.2 l0 l1 (l2 + 1)
    · refine V_aload_n (pc := 41) hk dX0_isBarred_41 2 rfl ?_
      refine V_bipush (pc := 42) (v := 8) hk dX0_isBarred_42 rfl ?_
      refine V_iaload (pc := 44) hk dX0_isBarred_44 (fun v11 => ?_)
      refine V_aload_n (pc := 45) hk dX0_isBarred_45 0 rfl ?_
      refine V_iconst (pc := 46) (v := 2) hk dX0_isBarred_46 rfl ?_
      refine V_iaload (pc := 47) hk dX0_isBarred_47 (fun v12 => ?_)
      refine V_aload_n (pc := 48) hk dX0_isBarred_48 0 rfl ?_
      refine V_iconst (pc := 49) (v := 3) hk dX0_isBarred_49 rfl ?_
      refine V_iaload (pc := 50) hk dX0_isBarred_50 (fun v13 => ?_)
      refine n_X0_82 (pc := 51) hk (fun r h => ctX0_in (fl y) (fK y) hk.2.2.2.2.2.2.2.1 v11 v12 v13 r10.2 r h) ⟨Nat.le_of_ble_eq_true rfl, Nat.le_of_ble_eq_true rfl⟩ (Nat.le_of_ble_eq_true rfl) dX0_isBarred_51 (fun r14 => ?_)
      refine V_if_eq (pc := 54) (tgt := 59) hk dX0_isBarred_54 rfl ?_ ?_
      · refine V_iinc (pc := 59) (v := 1) (lc' := [(2, .int (l2 + 1)), (3, va_rf v6), (0, va_rf l0), (1, va_rf l1)]) hk dX0_isBarred_59 3 rfl rfl (Nat.le_of_ble_eq_true rfl) (by simp [rf_cat, cat_int, cat_long, cat_ref]) ?_
        refine V_goto (pc := 62) (tgt := 2) hk dX0_isBarred_62 rfl ?_
        refine V_pick (lc' := [(0, va_rf l0), (1, va_rf l1), (2, .int (l2 + 1))]) [2, 3, 0] rfl ?_
        exact h2 r14.2 l0 l1 (l2 + 1)
      · refine V_iconst (pc := 57) (v := 1) hk dX0_isBarred_57 rfl ?_
        exact V_zreturn (pc := 58) hk hR rfl dX0_isBarred_58
theorem eX0_isBarred_l2 {y : Fx (Int32 × Wd)} (hk : OkF y RX0 cX0_isBarred 4 3 82) (hR : RetM y rvI (some (.boolean))) : ∀ (n : Nat) (w : Wd) (l0 : Option Nat) (l1 : Option Nat) (l2 : Int32), V y w [(0, va_rf l0), (1, va_rf l1), (2, .int l2)] [] 2 (mX0_isBarred_l2 n w l0 l1 l2) := by
  intro n
  induction n with
  | zero => intro w l0 l1 l2; exact V_none
  | succ n ih => intro w l0 l1 l2; exact eX0_isBarred_b2 hk hR ih w l0 l1 l2
theorem eX0_isBarred {y : Fx (Int32 × Wd)} (hk : OkF y RX0 cX0_isBarred 4 3 82) (hR : RetM y rvI (some (.boolean))) (this : Nat) (a0 : Option Nat) (w : Wd) : V y w [(0, va_rf (some this)), (1, va_rf a0)] [] 0 (mX0_isBarred this a0 w) := by
  unfold mX0_isBarred
  refine V_iconst (pc := 0) (v := 0) hk dX0_isBarred_0 rfl ?_
  refine V_istore_n (pc := 1) (lc' := [(2, .int 0), (0, va_rf ((some this))), (1, va_rf a0)]) (i := 2) hk dX0_isBarred_1 rfl (Nat.le_of_ble_eq_true rfl) (by simp [rf_cat, cat_int, cat_long, cat_ref]) ?_
  refine V_pick (lc' := [(0, va_rf ((some this))), (1, va_rf a0), (2, .int 0)]) [1, 2, 0] rfl ?_
  exact eX0_isBarred_l2 hk hR FU w ((some this)) a0 0
theorem ctX0_isBarred (l : Launch) (K : Kx) (hI : Ini K) (b : Nat) (a0 : Option Nat) (w : Wd) : ∀ r, mX0_isBarred b a0 w = some r → Ct l K 3 82 yX0_isBarred (ws_ yX0_isBarred cX0_isBarred 4 (some (.boolean))) [.ref b, va_rf a0] w (rvI r.1) r.2 := Ct_of rvI l K hI 3 82 [.ref b, va_rf a0] w (by decide) (lc0 := [(0, .ref b), (1, va_rf a0)]) (by simp [lv_args, rf_cat, cat_int, cat_long, cat_ref]) (lg_len _ _ (by simp [rf_cat, cat_int, cat_long, cat_ref])) (fun y hk hR _ _ hin => eX0_isBarred hk hR b a0 w)
noncomputable def mX0_barred_p59 (k29 : Wd → (Option Nat) → Int32 → Int32 → Int32 → Option (Int32 × Wd)) (w : Wd) (l0 : Option Nat) (l1 : Int32) (l2 : Int32) (l3 : Int32) (t0 : Int32) (t1 : Option Nat) (t2 : Option Nat) : Option (Int32 × Wd) :=
(recv w t2 0).bind fun b2 => (cal w (mX0_tenth b2 t1 t0 w)).bind fun r1 =>
(gR r1.2 l0 0 8).bind fun v3 =>
(recv r1.2 l0 0).bind fun b5 => (cal r1.2 (mX0_isBarred b5 v3 r1.2)).bind fun r4 =>
if r4.1 = 0 then (
k29 r4.2 l0 l1 l2 (l3 + 1))
else (
some (l3, r4.2))
noncomputable def mX0_barred_b29 (k29 : Wd → (Option Nat) → Int32 → Int32 → Int32 → Option (Int32 × Wd)) (w : Wd) (l0 : Option Nat) (l1 : Int32) (l2 : Int32) (l3 : Int32) : Option (Int32 × Wd) :=
if l1 < l3 then (
some ((-1), w))
else (
(gR w l0 0 8).bind fun v1 =>
if l2 = 0 then (
mX0_barred_p59 k29 w l0 l1 l2 l3 0 v1 l0)
else (
(gR w l0 0 8).bind fun v2 =>
(recv w l0 0).bind fun b4 => (cal w (mX0_rules b4 w)).bind fun r3 =>
(recv r3.2 l0 0).bind fun b6 => (cal r3.2 (mX0_handOf b6 v2 r3.1 r3.2)).bind fun r5 =>
mX0_barred_p59 k29 r5.2 l0 l1 l2 l3 r5.1 v1 l0))
noncomputable def mX0_barred_l29 : Nat → Wd → (Option Nat) → Int32 → Int32 → Int32 → Option (Int32 × Wd)
  | 0, _, _, _, _, _ => none
  | n + 1, w, l0, l1, l2, l3 => mX0_barred_b29 (mX0_barred_l29 n) w l0 l1 l2 l3
noncomputable def mX0_barred (this : Nat) (a0 : Int32) (a1 : Int32) (w : Wd) : Option (Int32 × Wd) :=
(cal w (mX0_in a0 1 200 w)).bind fun r1 =>
if ¬ r1.1 = 0 then (
(gR r1.2 ((some this)) 0 0).bind fun v2 =>
(gR r1.2 v2 1 1).bind fun v3 =>
(gR r1.2 ((some this)) 0 8).bind fun v4 =>
(cal r1.2 (mX1_copy v3 v4 r1.2)).bind fun r5 =>
mX0_barred_l29 FU r5.2 ((some this)) a0 a1 1)
else (
some ((-1), r1.2))
theorem eX0_barred_p59 {y : Fx (Int32 × Wd)} (hk : OkF y RX0 cX0_barred 4 109 6224) (hR : RetM y rvI (some (.int))) {k29 : Wd → (Option Nat) → Int32 → Int32 → Int32 → Option (Int32 × Wd)} (h29 : ∀ (w : Wd) (l0 : Option Nat) (l1 : Int32) (l2 : Int32) (l3 : Int32), V y w [(0, va_rf l0), (1, .int l1), (2, .int l2), (3, .int l3)] [] 29 (k29 w l0 l1 l2 l3)) (w : Wd) (l0 : Option Nat) (l1 : Int32) (l2 : Int32) (l3 : Int32) (t0 : Int32) (t1 : Option Nat) (t2 : Option Nat) : V y w [(0, va_rf l0), (1, .int l1), (2, .int l2), (3, .int l3)] [.int t0, va_rf t1, va_rf t2] 59 (mX0_barred_p59 k29 w l0 l1 l2 l3 t0 t1 t2) := by
  unfold mX0_barred_p59
  refine n_X0_203 (pc := 59) hk (fun b r h => ctX0_tenth (fl y) (fK y) hk.2.2.2.2.2.2.2.1 b t1 t0 w r h) ⟨Nat.le_of_ble_eq_true rfl, Nat.le_of_ble_eq_true rfl⟩ (Nat.le_of_ble_eq_true rfl) dX0_barred_59 (fun r1 => ?_)
  refine V_aload_n (pc := 62) hk dX0_barred_62 0 rfl ?_
  refine V_aload_n (pc := 63) hk dX0_barred_63 0 rfl ?_
  refine g_X0_43 (pc := 64) hk dX0_barred_64 (fun v3 => ?_)
  refine n_X0_353 (pc := 67) hk (fun b r h => ctX0_isBarred (fl y) (fK y) hk.2.2.2.2.2.2.2.1 b v3 r1.2 r h) ⟨Nat.le_of_ble_eq_true rfl, Nat.le_of_ble_eq_true rfl⟩ (Nat.le_of_ble_eq_true rfl) dX0_barred_67 (fun r4 => ?_)
  refine V_if_eq (pc := 70) (tgt := 75) hk dX0_barred_70 rfl ?_ ?_
  · refine V_iinc (pc := 75) (v := 1) (lc' := [(3, .int (l3 + 1)), (0, va_rf l0), (1, .int l1), (2, .int l2)]) hk dX0_barred_75 3 rfl rfl (Nat.le_of_ble_eq_true rfl) rfl ?_
    refine V_goto (pc := 78) (tgt := 29) hk dX0_barred_78 rfl ?_
    refine V_pick (lc' := [(0, va_rf l0), (1, .int l1), (2, .int l2), (3, .int (l3 + 1))]) [1, 2, 3, 0] rfl ?_
    exact h29 r4.2 l0 l1 l2 (l3 + 1)
  · refine V_iload_n (pc := 73) hk dX0_barred_73 3 rfl ?_
    exact V_ireturn (pc := 74) hk hR rfl dX0_barred_74
theorem eX0_barred_b29 {y : Fx (Int32 × Wd)} (hk : OkF y RX0 cX0_barred 4 109 6224) (hR : RetM y rvI (some (.int))) {k29 : Wd → (Option Nat) → Int32 → Int32 → Int32 → Option (Int32 × Wd)} (h29 : ∀ (w : Wd) (l0 : Option Nat) (l1 : Int32) (l2 : Int32) (l3 : Int32), V y w [(0, va_rf l0), (1, .int l1), (2, .int l2), (3, .int l3)] [] 29 (k29 w l0 l1 l2 l3)) (w : Wd) (l0 : Option Nat) (l1 : Int32) (l2 : Int32) (l3 : Int32) : V y w [(0, va_rf l0), (1, .int l1), (2, .int l2), (3, .int l3)] [] 29 (mX0_barred_b29 k29 w l0 l1 l2 l3) := by
  unfold mX0_barred_b29
  refine V_iload_n (pc := 29) hk dX0_barred_29 3 rfl ?_
  refine V_iload_n (pc := 30) hk dX0_barred_30 1 rfl ?_
  refine V_icmp_gt (pc := 31) (tgt := 81) hk dX0_barred_31 rfl ?_ ?_
  · refine V_iconst (pc := 81) (v := (-1)) hk dX0_barred_81 (by decide +kernel) ?_
    exact V_ireturn (pc := 82) hk hR rfl dX0_barred_82
  · refine V_aload_n (pc := 34) hk dX0_barred_34 0 rfl ?_
    refine V_aload_n (pc := 35) hk dX0_barred_35 0 rfl ?_
    refine g_X0_43 (pc := 36) hk dX0_barred_36 (fun v1 => ?_)
    refine V_iload_n (pc := 39) hk dX0_barred_39 2 rfl ?_
    refine V_if_eq (pc := 40) (tgt := 58) hk dX0_barred_40 rfl ?_ ?_
    · refine V_iconst (pc := 58) (v := 0) hk dX0_barred_58 rfl ?_
      exact eX0_barred_p59 hk hR h29 w l0 l1 l2 l3 0 v1 l0
    · refine V_aload_n (pc := 43) hk dX0_barred_43 0 rfl ?_
      refine V_aload_n (pc := 44) hk dX0_barred_44 0 rfl ?_
      refine g_X0_43 (pc := 45) hk dX0_barred_45 (fun v2 => ?_)
      refine V_aload_n (pc := 48) hk dX0_barred_48 0 rfl ?_
      refine n_X0_154 (pc := 49) hk (fun b r h => ctX0_rules (fl y) (fK y) hk.2.2.2.2.2.2.2.1 b w r h) ⟨Nat.le_of_ble_eq_true rfl, Nat.le_of_ble_eq_true rfl⟩ (by simp [rf_cat, cat_int, cat_long, cat_ref]) dX0_barred_49 (fun r3 => ?_)
      refine n_X0_207 (pc := 52) hk (fun b r h => ctX0_handOf (fl y) (fK y) hk.2.2.2.2.2.2.2.1 b v2 r3.1 r3.2 r h) ⟨Nat.le_of_ble_eq_true rfl, Nat.le_of_ble_eq_true rfl⟩ (by simp [rf_cat, cat_int, cat_long, cat_ref]) dX0_barred_52 (fun r5 => ?_)
      refine V_goto (pc := 55) (tgt := 59) hk dX0_barred_55 rfl ?_
      exact eX0_barred_p59 hk hR h29 r5.2 l0 l1 l2 l3 r5.1 v1 l0
theorem eX0_barred_l29 {y : Fx (Int32 × Wd)} (hk : OkF y RX0 cX0_barred 4 109 6224) (hR : RetM y rvI (some (.int))) : ∀ (n : Nat) (w : Wd) (l0 : Option Nat) (l1 : Int32) (l2 : Int32) (l3 : Int32), V y w [(0, va_rf l0), (1, .int l1), (2, .int l2), (3, .int l3)] [] 29 (mX0_barred_l29 n w l0 l1 l2 l3) := by
  intro n
  induction n with
  | zero => intro w l0 l1 l2 l3; exact V_none
  | succ n ih => intro w l0 l1 l2 l3; exact eX0_barred_b29 hk hR ih w l0 l1 l2 l3
theorem eX0_barred {y : Fx (Int32 × Wd)} (hk : OkF y RX0 cX0_barred 4 109 6224) (hR : RetM y rvI (some (.int))) (this : Nat) (a0 : Int32) (a1 : Int32) (w : Wd) : V y w [(0, va_rf (some this)), (1, .int a0), (2, .int a1)] [] 0 (mX0_barred this a0 a1 w) := by
  unfold mX0_barred
  refine V_iload_n (pc := 0) hk dX0_barred_0 1 rfl ?_
  refine V_iconst (pc := 1) (v := 1) hk dX0_barred_1 rfl ?_
  refine V_sipush (pc := 2) (v := 200) hk dX0_barred_2 rfl ?_
  refine n_X0_82 (pc := 5) hk (fun r h => ctX0_in (fl y) (fK y) hk.2.2.2.2.2.2.2.1 a0 1 200 w r h) ⟨Nat.le_of_ble_eq_true rfl, Nat.le_of_ble_eq_true rfl⟩ (Nat.le_of_ble_eq_true rfl) dX0_barred_5 (fun r1 => ?_)
  refine V_if_ne (pc := 8) (tgt := 13) hk dX0_barred_8 rfl ?_ ?_
  · refine V_aload_n (pc := 13) hk dX0_barred_13 0 rfl ?_
    refine g_X0_21 (pc := 14) hk dX0_barred_14 (fun v2 => ?_)
    refine g_X0_176 (pc := 17) hk dX0_barred_17 (fun v3 => ?_)
    refine V_aload_n (pc := 20) hk dX0_barred_20 0 rfl ?_
    refine g_X0_43 (pc := 21) hk dX0_barred_21 (fun v4 => ?_)
    refine n_X0_89 (pc := 24) hk (fun r h => ctX1_copy (fl y) (fK y) hk.2.2.2.2.2.2.2.1 v3 v4 r1.2 r h) ⟨Nat.le_of_ble_eq_true rfl, Nat.le_of_ble_eq_true rfl⟩ (Nat.le_of_ble_eq_true rfl) dX0_barred_24 (fun r5 => ?_)
    refine V_iconst (pc := 27) (v := 1) hk dX0_barred_27 rfl ?_
    refine V_istore_n (pc := 28) (lc' := [(3, .int 1), (0, va_rf ((some this))), (1, .int a0), (2, .int a1)]) (i := 3) hk dX0_barred_28 rfl (Nat.le_of_ble_eq_true rfl) rfl ?_
    refine V_pick (lc' := [(0, va_rf ((some this))), (1, .int a0), (2, .int a1), (3, .int 1)]) [1, 2, 3, 0] rfl ?_
    exact eX0_barred_l29 hk hR FU r5.2 ((some this)) a0 a1 1
  · refine V_iconst (pc := 11) (v := (-1)) hk dX0_barred_11 (by decide +kernel) ?_
    exact V_ireturn (pc := 12) hk hR rfl dX0_barred_12
theorem ctX0_barred (l : Launch) (K : Kx) (hI : Ini K) (b : Nat) (a0 : Int32) (a1 : Int32) (w : Wd) : ∀ r, mX0_barred b a0 a1 w = some r → Ct l K 109 6224 yX0_barred (ws_ yX0_barred cX0_barred 4 (some (.int))) [.ref b, .int a0, .int a1] w (rvI r.1) r.2 := Ct_of rvI l K hI 109 6224 [.ref b, .int a0, .int a1] w (by decide) (lc0 := [(0, .ref b), (1, .int a0), (2, .int a1)]) rfl (Nat.le_of_ble_eq_true rfl) (fun y hk hR _ _ hin => eX0_barred hk hR b a0 a1 w)
noncomputable def mX0_howFar_b14 (k14 : Wd → (Option Nat) → Int32 → Int32 → Option (Int32 × Wd)) (w : Wd) (l0 : Option Nat) (l1 : Int32) (l2 : Int32) : Option (Int32 × Wd) :=
if 60 ≤ l2 then (
some (l2, w))
else (
(recv w l0 0).bind fun b2 => (cal w (mX0_holdsAt b2 (l2 + 1) w)).bind fun r1 =>
if r1.1 < l1 then (
some (l2, r1.2))
else (
k14 r1.2 l0 l1 (l2 + 1)))
noncomputable def mX0_howFar_l14 : Nat → Wd → (Option Nat) → Int32 → Int32 → Option (Int32 × Wd)
  | 0, _, _, _, _ => none
  | n + 1, w, l0, l1, l2 => mX0_howFar_b14 (mX0_howFar_l14 n) w l0 l1 l2
noncomputable def mX0_howFar (this : Nat) (a0 : Int32) (w : Wd) : Option (Int32 × Wd) :=
(cal w (mX0_in a0 1 99 w)).bind fun r1 =>
if ¬ r1.1 = 0 then (
mX0_howFar_l14 FU r1.2 ((some this)) a0 (-1))
else (
some ((-1), r1.2))
theorem eX0_howFar_b14 {y : Fx (Int32 × Wd)} (hk : OkF y RX0 cX0_howFar 3 108 6199) (hR : RetM y rvI (some (.int))) {k14 : Wd → (Option Nat) → Int32 → Int32 → Option (Int32 × Wd)} (h14 : ∀ (w : Wd) (l0 : Option Nat) (l1 : Int32) (l2 : Int32), V y w [(0, va_rf l0), (1, .int l1), (2, .int l2)] [] 14 (k14 w l0 l1 l2)) (w : Wd) (l0 : Option Nat) (l1 : Int32) (l2 : Int32) : V y w [(0, va_rf l0), (1, .int l1), (2, .int l2)] [] 14 (mX0_howFar_b14 k14 w l0 l1 l2) := by
  unfold mX0_howFar_b14
  refine V_iload_n (pc := 14) hk dX0_howFar_14 2 rfl ?_
  refine V_bipush (pc := 15) (v := 60) hk dX0_howFar_15 rfl ?_
  refine V_icmp_ge (pc := 17) (tgt := 37) hk dX0_howFar_17 rfl ?_ ?_
  · refine V_iload_n (pc := 37) hk dX0_howFar_37 2 rfl ?_
    exact V_ireturn (pc := 38) hk hR rfl dX0_howFar_38
  · refine V_aload_n (pc := 20) hk dX0_howFar_20 0 rfl ?_
    refine V_iload_n (pc := 21) hk dX0_howFar_21 2 rfl ?_
    refine V_iconst (pc := 22) (v := 1) hk dX0_howFar_22 rfl ?_
    refine V_iadd (pc := 23) hk dX0_howFar_23 ?_
    refine n_X0_300 (pc := 24) hk (fun b r h => ctX0_holdsAt (fl y) (fK y) hk.2.2.2.2.2.2.2.1 b (l2 + 1) w r h) ⟨Nat.le_of_ble_eq_true rfl, Nat.le_of_ble_eq_true rfl⟩ (Nat.le_of_ble_eq_true rfl) dX0_howFar_24 (fun r1 => ?_)
    refine V_iload_n (pc := 27) hk dX0_howFar_27 1 rfl ?_
    refine V_icmp_lt (pc := 28) (tgt := 37) hk dX0_howFar_28 rfl ?_ ?_
    · refine V_iload_n (pc := 37) hk dX0_howFar_37 2 rfl ?_
      exact V_ireturn (pc := 38) hk hR rfl dX0_howFar_38
    · refine V_iinc (pc := 31) (v := 1) (lc' := [(2, .int (l2 + 1)), (0, va_rf l0), (1, .int l1)]) hk dX0_howFar_31 2 rfl rfl (Nat.le_of_ble_eq_true rfl) rfl ?_
      refine V_goto (pc := 34) (tgt := 14) hk dX0_howFar_34 rfl ?_
      refine V_pick (lc' := [(0, va_rf l0), (1, .int l1), (2, .int (l2 + 1))]) [1, 2, 0] rfl ?_
      exact h14 r1.2 l0 l1 (l2 + 1)
theorem eX0_howFar_l14 {y : Fx (Int32 × Wd)} (hk : OkF y RX0 cX0_howFar 3 108 6199) (hR : RetM y rvI (some (.int))) : ∀ (n : Nat) (w : Wd) (l0 : Option Nat) (l1 : Int32) (l2 : Int32), V y w [(0, va_rf l0), (1, .int l1), (2, .int l2)] [] 14 (mX0_howFar_l14 n w l0 l1 l2) := by
  intro n
  induction n with
  | zero => intro w l0 l1 l2; exact V_none
  | succ n ih => intro w l0 l1 l2; exact eX0_howFar_b14 hk hR ih w l0 l1 l2
theorem eX0_howFar {y : Fx (Int32 × Wd)} (hk : OkF y RX0 cX0_howFar 3 108 6199) (hR : RetM y rvI (some (.int))) (this : Nat) (a0 : Int32) (w : Wd) : V y w [(0, va_rf (some this)), (1, .int a0)] [] 0 (mX0_howFar this a0 w) := by
  unfold mX0_howFar
  refine V_iload_n (pc := 0) hk dX0_howFar_0 1 rfl ?_
  refine V_iconst (pc := 1) (v := 1) hk dX0_howFar_1 rfl ?_
  refine V_bipush (pc := 2) (v := 99) hk dX0_howFar_2 rfl ?_
  refine n_X0_82 (pc := 4) hk (fun r h => ctX0_in (fl y) (fK y) hk.2.2.2.2.2.2.2.1 a0 1 99 w r h) ⟨Nat.le_of_ble_eq_true rfl, Nat.le_of_ble_eq_true rfl⟩ (Nat.le_of_ble_eq_true rfl) dX0_howFar_4 (fun r1 => ?_)
  refine V_if_ne (pc := 7) (tgt := 12) hk dX0_howFar_7 rfl ?_ ?_
  · refine V_iconst (pc := 12) (v := (-1)) hk dX0_howFar_12 (by decide +kernel) ?_
    refine V_istore_n (pc := 13) (lc' := [(2, .int (-1)), (0, va_rf ((some this))), (1, .int a0)]) (i := 2) hk dX0_howFar_13 rfl (Nat.le_of_ble_eq_true rfl) rfl ?_
    refine V_pick (lc' := [(0, va_rf ((some this))), (1, .int a0), (2, .int (-1))]) [1, 2, 0] rfl ?_
    exact eX0_howFar_l14 hk hR FU r1.2 ((some this)) a0 (-1)
  · refine V_iconst (pc := 10) (v := (-1)) hk dX0_howFar_10 (by decide +kernel) ?_
    exact V_ireturn (pc := 11) hk hR rfl dX0_howFar_11
theorem ctX0_howFar (l : Launch) (K : Kx) (hI : Ini K) (b : Nat) (a0 : Int32) (w : Wd) : ∀ r, mX0_howFar b a0 w = some r → Ct l K 108 6199 yX0_howFar (ws_ yX0_howFar cX0_howFar 3 (some (.int))) [.ref b, .int a0] w (rvI r.1) r.2 := Ct_of rvI l K hI 108 6199 [.ref b, .int a0] w (by decide) (lc0 := [(0, .ref b), (1, .int a0)]) rfl (Nat.le_of_ble_eq_true rfl) (fun y hk hR _ _ hin => eX0_howFar hk hR b a0 w)
noncomputable def mX0_over_b4 (k4 : Wd → (Option Nat) → Int32 → Int32 → Option (Int32 × Wd)) (w : Wd) (l0 : Option Nat) (l1 : Int32) (l2 : Int32) : Option (Int32 × Wd) :=
(gR w l0 0 0).bind fun v1 =>
(gR w v1 1 0).bind fun v2 =>
(ia w v2 0).bind fun v3 =>
if v3 ≤ l2 then (
some (l1, w))
else (
(gR w l0 0 0).bind fun v4 =>
(gR w v4 1 2).bind fun v5 =>
(aa w v5 l2).bind fun v6 =>
(ia w v6 0).bind fun v7 =>
(gR w l0 0 0).bind fun v8 =>
(gR w v8 1 2).bind fun v9 =>
(aa w v9 l2).bind fun v10 =>
(ia w v10 1).bind fun v11 =>
(recv w l0 0).bind fun b13 => (cal w (mX0_holdsAt b13 v11 w)).bind fun r12 =>
if v7 ≤ r12.1 then (
k4 r12.2 l0 (l1 ||| 0) (l2 + 1))
else (
(some (l1 ||| (1 <<< (l2 &&& 31)))).bind fun (x14 : Int32) =>
k4 r12.2 l0 x14 (l2 + 1)))
noncomputable def mX0_over_l4 : Nat → Wd → (Option Nat) → Int32 → Int32 → Option (Int32 × Wd)
  | 0, _, _, _, _ => none
  | n + 1, w, l0, l1, l2 => mX0_over_b4 (mX0_over_l4 n) w l0 l1 l2
noncomputable def mX0_over (this : Nat) (w : Wd) : Option (Int32 × Wd) :=
mX0_over_l4 FU w ((some this)) 0 0
theorem eX0_over_b4 {y : Fx (Int32 × Wd)} (hk : OkF y RX0 cX0_over 3 108 6199) (hR : RetM y rvI (some (.int))) {k4 : Wd → (Option Nat) → Int32 → Int32 → Option (Int32 × Wd)} (h4 : ∀ (w : Wd) (l0 : Option Nat) (l1 : Int32) (l2 : Int32), V y w [(0, va_rf l0), (1, .int l1), (2, .int l2)] [] 4 (k4 w l0 l1 l2)) (w : Wd) (l0 : Option Nat) (l1 : Int32) (l2 : Int32) : V y w [(0, va_rf l0), (1, .int l1), (2, .int l2)] [] 4 (mX0_over_b4 k4 w l0 l1 l2) := by
  unfold mX0_over_b4
  refine V_iload_n (pc := 4) hk dX0_over_4 2 rfl ?_
  refine V_aload_n (pc := 5) hk dX0_over_5 0 rfl ?_
  refine g_X0_21 (pc := 6) hk dX0_over_6 (fun v1 => ?_)
  refine g_X0_79 (pc := 9) hk dX0_over_9 (fun v2 => ?_)
  refine V_iconst (pc := 12) (v := 0) hk dX0_over_12 rfl ?_
  refine V_iaload (pc := 13) hk dX0_over_13 (fun v3 => ?_)
  refine V_icmp_ge (pc := 14) (tgt := 62) hk dX0_over_14 rfl ?_ ?_
  · refine V_iload_n (pc := 62) hk dX0_over_62 1 rfl ?_
    exact V_ireturn (pc := 63) hk hR rfl dX0_over_63
  · refine V_iload_n (pc := 17) hk dX0_over_17 1 rfl ?_
    refine V_aload_n (pc := 18) hk dX0_over_18 0 rfl ?_
    refine g_X0_21 (pc := 19) hk dX0_over_19 (fun v4 => ?_)
    refine g_X0_86 (pc := 22) hk dX0_over_22 (fun v5 => ?_)
    refine V_iload_n (pc := 25) hk dX0_over_25 2 rfl ?_
    refine V_aaload (pc := 26) hk dX0_over_26 (fun v6 => ?_)
    refine V_iconst (pc := 27) (v := 0) hk dX0_over_27 rfl ?_
    refine V_iaload (pc := 28) hk dX0_over_28 (fun v7 => ?_)
    refine V_aload_n (pc := 29) hk dX0_over_29 0 rfl ?_
    refine V_aload_n (pc := 30) hk dX0_over_30 0 rfl ?_
    refine g_X0_21 (pc := 31) hk dX0_over_31 (fun v8 => ?_)
    refine g_X0_86 (pc := 34) hk dX0_over_34 (fun v9 => ?_)
    refine V_iload_n (pc := 37) hk dX0_over_37 2 rfl ?_
    refine V_aaload (pc := 38) hk dX0_over_38 (fun v10 => ?_)
    refine V_iconst (pc := 39) (v := 1) hk dX0_over_39 rfl ?_
    refine V_iaload (pc := 40) hk dX0_over_40 (fun v11 => ?_)
    refine n_X0_300 (pc := 41) hk (fun b r h => ctX0_holdsAt (fl y) (fK y) hk.2.2.2.2.2.2.2.1 b v11 w r h) ⟨Nat.le_of_ble_eq_true rfl, Nat.le_of_ble_eq_true rfl⟩ (Nat.le_of_ble_eq_true rfl) dX0_over_41 (fun r12 => ?_)
    refine V_icmp_le (pc := 44) (tgt := 53) hk dX0_over_44 rfl ?_ ?_
    · refine V_iconst (pc := 53) (v := 0) hk dX0_over_53 rfl ?_
      refine V_ior (pc := 54) hk dX0_over_54 ?_
      refine V_istore_n (pc := 55) (lc' := [(1, .int (l1 ||| 0)), (0, va_rf l0), (2, .int l2)]) (i := 1) hk dX0_over_55 rfl (Nat.le_of_ble_eq_true rfl) (by simp [rf_cat, cat_int, cat_long, cat_ref]) ?_
      refine V_iinc (pc := 56) (v := 1) (lc' := [(2, .int (l2 + 1)), (1, .int (l1 ||| 0)), (0, va_rf l0)]) hk dX0_over_56 2 rfl rfl (Nat.le_of_ble_eq_true rfl) rfl ?_
      refine V_goto (pc := 59) (tgt := 4) hk dX0_over_59 rfl ?_
      refine V_pick (lc' := [(0, va_rf l0), (1, .int (l1 ||| 0)), (2, .int (l2 + 1))]) [2, 1, 0] rfl ?_
      exact h4 r12.2 l0 (l1 ||| 0) (l2 + 1)
    · refine V_iconst (pc := 47) (v := 1) hk dX0_over_47 rfl ?_
      refine V_iload_n (pc := 48) hk dX0_over_48 2 rfl ?_
      refine V_ishl (pc := 49) hk dX0_over_49 ?_
      refine V_goto (pc := 50) (tgt := 54) hk dX0_over_50 rfl ?_
      refine V_ior (pc := 54) hk dX0_over_54 ?_
      refine V_nmI (fun x14 => ?_)
      refine V_istore_n (pc := 55) (lc' := [(1, .int x14), (0, va_rf l0), (2, .int l2)]) (i := 1) hk dX0_over_55 rfl (Nat.le_of_ble_eq_true rfl) (by simp [rf_cat, cat_int, cat_long, cat_ref]) ?_
      refine V_iinc (pc := 56) (v := 1) (lc' := [(2, .int (l2 + 1)), (1, .int x14), (0, va_rf l0)]) hk dX0_over_56 2 rfl rfl (Nat.le_of_ble_eq_true rfl) rfl ?_
      refine V_goto (pc := 59) (tgt := 4) hk dX0_over_59 rfl ?_
      refine V_pick (lc' := [(0, va_rf l0), (1, .int x14), (2, .int (l2 + 1))]) [2, 1, 0] rfl ?_
      exact h4 r12.2 l0 x14 (l2 + 1)
theorem eX0_over_l4 {y : Fx (Int32 × Wd)} (hk : OkF y RX0 cX0_over 3 108 6199) (hR : RetM y rvI (some (.int))) : ∀ (n : Nat) (w : Wd) (l0 : Option Nat) (l1 : Int32) (l2 : Int32), V y w [(0, va_rf l0), (1, .int l1), (2, .int l2)] [] 4 (mX0_over_l4 n w l0 l1 l2) := by
  intro n
  induction n with
  | zero => intro w l0 l1 l2; exact V_none
  | succ n ih => intro w l0 l1 l2; exact eX0_over_b4 hk hR ih w l0 l1 l2
theorem eX0_over {y : Fx (Int32 × Wd)} (hk : OkF y RX0 cX0_over 3 108 6199) (hR : RetM y rvI (some (.int))) (this : Nat) (w : Wd) : V y w [(0, va_rf (some this))] [] 0 (mX0_over this w) := by
  unfold mX0_over
  refine V_iconst (pc := 0) (v := 0) hk dX0_over_0 rfl ?_
  refine V_istore_n (pc := 1) (lc' := [(1, .int 0), (0, va_rf ((some this)))]) (i := 1) hk dX0_over_1 rfl (Nat.le_of_ble_eq_true rfl) (by simp [rf_cat, cat_int, cat_long, cat_ref]) ?_
  refine V_iconst (pc := 2) (v := 0) hk dX0_over_2 rfl ?_
  refine V_istore_n (pc := 3) (lc' := [(2, .int 0), (1, .int 0), (0, va_rf ((some this)))]) (i := 2) hk dX0_over_3 rfl (Nat.le_of_ble_eq_true rfl) rfl ?_
  refine V_pick (lc' := [(0, va_rf ((some this))), (1, .int 0), (2, .int 0)]) [2, 1, 0] rfl ?_
  exact eX0_over_l4 hk hR FU w ((some this)) 0 0
theorem ctX0_over (l : Launch) (K : Kx) (hI : Ini K) (b : Nat) (w : Wd) : ∀ r, mX0_over b w = some r → Ct l K 108 6199 yX0_over (ws_ yX0_over cX0_over 3 (some (.int))) [.ref b] w (rvI r.1) r.2 := Ct_of rvI l K hI 108 6199 [.ref b] w (by decide) (lc0 := [(0, .ref b)]) rfl (Nat.le_of_ble_eq_true rfl) (fun y hk hR _ _ hin => eX0_over hk hR b w)
noncomputable def mX0_lays_b38 (k38 : Wd → (Option Nat) → Int32 → Int32 → Option (Int32 × Wd)) (w : Wd) (l0 : Option Nat) (l1 : Int32) (l3 : Int32) : Option (Int32 × Wd) :=
(gR w l0 0 0).bind fun v1 =>
(gR w v1 1 0).bind fun v2 =>
(ia w v2 0).bind fun v3 =>
if v3 ≤ l3 then (
(pf w l0 0 21 (.int (-1))).bind fun w4 =>
(nok (.boolean) 1).bind fun _ => some (1, w4))
else (
(cal w (mX0_has l1 l3 w)).bind fun r5 =>
if ¬ r5.1 = 0 then (
(gR r5.2 l0 0 14).bind fun v6 =>
(gI r5.2 l0 0 20).bind fun v7 =>
(ias r5.2 v6 v7 l3).bind fun w8 =>
(gR w8 l0 0 15).bind fun v9 =>
(gI w8 l0 0 20).bind fun v10 =>
(recv w8 l0 0).bind fun b12 => (cal w8 (mX0_lastsOf b12 l3 w8)).bind fun r11 =>
(ias r11.2 v9 v10 r11.1).bind fun w13 =>
(gI w13 l0 0 20).bind fun v14 =>
(pf w13 l0 0 20 (.int (v14 + 1))).bind fun w15 =>
k38 w15 l0 l1 (l3 + 1))
else (
k38 r5.2 l0 l1 (l3 + 1)))
noncomputable def mX0_lays_l38 : Nat → Wd → (Option Nat) → Int32 → Int32 → Option (Int32 × Wd)
  | 0, _, _, _, _ => none
  | n + 1, w, l0, l1, l3 => mX0_lays_b38 (mX0_lays_l38 n) w l0 l1 l3
noncomputable def mX0_lays (this : Nat) (a0 : Int32) (a1 : Int32) (w : Wd) : Option (Int32 × Wd) :=
(gR w ((some this)) 0 0).bind fun v1 =>
(gR w v1 1 0).bind fun v2 =>
(ia w v2 0).bind fun v3 =>
(cal w (mX0_in a0 1 ((1 <<< (v3 &&& 31)) - 1) w)).bind fun r4 =>
if r4.1 = 0 then (
(nok (.boolean) 0).bind fun _ => some (0, r4.2))
else (
(cal r4.2 (mJ15_bitCount a0 r4.2)).bind fun r5 =>
if r5.1 ≤ a1 then (
(pf r5.2 ((some this)) 0 20 (.int 0)).bind fun w6 =>
mX0_lays_l38 FU w6 ((some this)) a0 0)
else (
(nok (.boolean) 0).bind fun _ => some (0, r5.2)))
theorem eX0_lays_b38 {y : Fx (Int32 × Wd)} (hk : OkF y RX0 cX0_lays 4 108 6199) (hR : RetM y rvI (some (.boolean))) {k38 : Wd → (Option Nat) → Int32 → Int32 → Option (Int32 × Wd)} (h38 : ∀ (w : Wd) (l0 : Option Nat) (l1 : Int32) (l3 : Int32), V y w [(0, va_rf l0), (1, .int l1), (3, .int l3)] [] 38 (k38 w l0 l1 l3)) (w : Wd) (l0 : Option Nat) (l1 : Int32) (l3 : Int32) : V y w [(0, va_rf l0), (1, .int l1), (3, .int l3)] [] 38 (mX0_lays_b38 k38 w l0 l1 l3) := by
  unfold mX0_lays_b38
  refine V_iload_n (pc := 38) hk dX0_lays_38 2 rfl ?_
  refine V_aload_n (pc := 39) hk dX0_lays_39 0 rfl ?_
  refine g_X0_21 (pc := 40) hk dX0_lays_40 (fun v1 => ?_)
  refine g_X0_79 (pc := 43) hk dX0_lays_43 (fun v2 => ?_)
  refine V_iconst (pc := 46) (v := 0) hk dX0_lays_46 rfl ?_
  refine V_iaload (pc := 47) hk dX0_lays_47 (fun v3 => ?_)
  refine V_icmp_ge (pc := 48) (tgt := 102) hk dX0_lays_48 rfl ?_ ?_
  · refine V_aload_n (pc := 102) hk dX0_lays_102 0 rfl ?_
    refine V_iconst (pc := 103) (v := (-1)) hk dX0_lays_103 (by decide +kernel) ?_
    refine p_X0_364 (pc := 104) hk dX0_lays_104 (fun w4 => ?_)
    refine V_iconst (pc := 107) (v := 1) hk dX0_lays_107 rfl ?_
    exact V_zreturn (pc := 108) hk hR rfl dX0_lays_108
  · refine V_iload_n (pc := 51) hk dX0_lays_51 1 rfl ?_
    refine V_iload_n (pc := 52) hk dX0_lays_52 2 rfl ?_
    refine n_X0_218 (pc := 53) hk (fun r h => ctX0_has (fl y) (fK y) hk.2.2.2.2.2.2.2.1 l1 l3 w r h) ⟨Nat.le_of_ble_eq_true rfl, Nat.le_of_ble_eq_true rfl⟩ (Nat.le_of_ble_eq_true rfl) dX0_lays_53 (fun r5 => ?_)
    refine V_if_ne (pc := 56) (tgt := 62) hk dX0_lays_56 rfl ?_ ?_
    · refine V_aload_n (pc := 62) hk dX0_lays_62 0 rfl ?_
      refine g_X0_57 (pc := 63) hk dX0_lays_63 (fun v6 => ?_)
      refine V_aload_n (pc := 66) hk dX0_lays_66 0 rfl ?_
      refine g_X0_361 (pc := 67) hk dX0_lays_67 (fun v7 => ?_)
      refine V_iload_n (pc := 70) hk dX0_lays_70 2 rfl ?_
      refine V_iastore (pc := 71) hk dX0_lays_71 (fun w8 => ?_)
      refine V_aload_n (pc := 72) hk dX0_lays_72 0 rfl ?_
      refine g_X0_60 (pc := 73) hk dX0_lays_73 (fun v9 => ?_)
      refine V_aload_n (pc := 76) hk dX0_lays_76 0 rfl ?_
      refine g_X0_361 (pc := 77) hk dX0_lays_77 (fun v10 => ?_)
      refine V_aload_n (pc := 80) hk dX0_lays_80 0 rfl ?_
      refine V_iload_n (pc := 81) hk dX0_lays_81 2 rfl ?_
      refine n_X0_297 (pc := 82) hk (fun b r h => ctX0_lastsOf (fl y) (fK y) hk.2.2.2.2.2.2.2.1 b l3 w8 r h) ⟨Nat.le_of_ble_eq_true rfl, Nat.le_of_ble_eq_true rfl⟩ (by simp [rf_cat, cat_int, cat_long, cat_ref]) dX0_lays_82 (fun r11 => ?_)
      refine V_iastore (pc := 85) hk dX0_lays_85 (fun w13 => ?_)
      refine V_aload_n (pc := 86) hk dX0_lays_86 0 rfl ?_
      refine V_dup (pc := 87) hk dX0_lays_87 (rf_cat _) ?_
      refine g_X0_361 (pc := 88) hk dX0_lays_88 (fun v14 => ?_)
      refine V_iconst (pc := 91) (v := 1) hk dX0_lays_91 rfl ?_
      refine V_iadd (pc := 92) hk dX0_lays_92 ?_
      refine p_X0_361 (pc := 93) hk dX0_lays_93 (fun w15 => ?_)
      refine V_iinc (pc := 96) (v := 1) (lc' := [(3, .int (l3 + 1)), (0, va_rf l0), (1, .int l1)]) hk dX0_lays_96 2 rfl rfl (Nat.le_of_ble_eq_true rfl) rfl ?_
      refine V_goto (pc := 99) (tgt := 38) hk dX0_lays_99 rfl ?_
      refine V_pick (lc' := [(0, va_rf l0), (1, .int l1), (3, .int (l3 + 1))]) [1, 2, 0] rfl ?_
      exact h38 w15 l0 l1 (l3 + 1)
    · refine V_goto (pc := 59) (tgt := 96) hk dX0_lays_59 rfl ?_
      refine V_iinc (pc := 96) (v := 1) (lc' := [(3, .int (l3 + 1)), (0, va_rf l0), (1, .int l1)]) hk dX0_lays_96 2 rfl rfl (Nat.le_of_ble_eq_true rfl) rfl ?_
      refine V_goto (pc := 99) (tgt := 38) hk dX0_lays_99 rfl ?_
      refine V_pick (lc' := [(0, va_rf l0), (1, .int l1), (3, .int (l3 + 1))]) [1, 2, 0] rfl ?_
      exact h38 r5.2 l0 l1 (l3 + 1)
theorem eX0_lays_l38 {y : Fx (Int32 × Wd)} (hk : OkF y RX0 cX0_lays 4 108 6199) (hR : RetM y rvI (some (.boolean))) : ∀ (n : Nat) (w : Wd) (l0 : Option Nat) (l1 : Int32) (l3 : Int32), V y w [(0, va_rf l0), (1, .int l1), (3, .int l3)] [] 38 (mX0_lays_l38 n w l0 l1 l3) := by
  intro n
  induction n with
  | zero => intro w l0 l1 l3; exact V_none
  | succ n ih => intro w l0 l1 l3; exact eX0_lays_b38 hk hR ih w l0 l1 l3
theorem eX0_lays {y : Fx (Int32 × Wd)} (hk : OkF y RX0 cX0_lays 4 108 6199) (hR : RetM y rvI (some (.boolean))) (this : Nat) (a0 : Int32) (a1 : Int32) (w : Wd) : V y w [(0, va_rf (some this)), (1, .int a0), (2, .int a1)] [] 0 (mX0_lays this a0 a1 w) := by
  unfold mX0_lays
  refine V_iload_n (pc := 0) hk dX0_lays_0 1 rfl ?_
  refine V_iconst (pc := 1) (v := 1) hk dX0_lays_1 rfl ?_
  refine V_iconst (pc := 2) (v := 1) hk dX0_lays_2 rfl ?_
  refine V_aload_n (pc := 3) hk dX0_lays_3 0 rfl ?_
  refine g_X0_21 (pc := 4) hk dX0_lays_4 (fun v1 => ?_)
  refine g_X0_79 (pc := 7) hk dX0_lays_7 (fun v2 => ?_)
  refine V_iconst (pc := 10) (v := 0) hk dX0_lays_10 rfl ?_
  refine V_iaload (pc := 11) hk dX0_lays_11 (fun v3 => ?_)
  refine V_ishl (pc := 12) hk dX0_lays_12 ?_
  refine V_iconst (pc := 13) (v := 1) hk dX0_lays_13 rfl ?_
  refine V_isub (pc := 14) hk dX0_lays_14 ?_
  refine n_X0_82 (pc := 15) hk (fun r h => ctX0_in (fl y) (fK y) hk.2.2.2.2.2.2.2.1 a0 1 ((1 <<< (v3 &&& 31)) - 1) w r h) ⟨Nat.le_of_ble_eq_true rfl, Nat.le_of_ble_eq_true rfl⟩ (Nat.le_of_ble_eq_true rfl) dX0_lays_15 (fun r4 => ?_)
  refine V_if_eq (pc := 18) (tgt := 29) hk dX0_lays_18 rfl ?_ ?_
  · refine V_iconst (pc := 29) (v := 0) hk dX0_lays_29 rfl ?_
    exact V_zreturn (pc := 30) hk hR rfl dX0_lays_30
  · refine V_iload_n (pc := 21) hk dX0_lays_21 1 rfl ?_
    refine n_X0_356 (pc := 22) hk (fun r h => ctJ15_bitCount (fl y) (fK y) hk.2.2.2.2.2.2.2.1 a0 r4.2 r h) ⟨Nat.le_of_ble_eq_true rfl, Nat.le_of_ble_eq_true rfl⟩ (Nat.le_of_ble_eq_true rfl) dX0_lays_22 (fun r5 => ?_)
    refine V_iload_n (pc := 25) hk dX0_lays_25 2 rfl ?_
    refine V_icmp_le (pc := 26) (tgt := 31) hk dX0_lays_26 rfl ?_ ?_
    · refine V_aload_n (pc := 31) hk dX0_lays_31 0 rfl ?_
      refine V_iconst (pc := 32) (v := 0) hk dX0_lays_32 rfl ?_
      refine p_X0_361 (pc := 33) hk dX0_lays_33 (fun w6 => ?_)
      refine V_iconst (pc := 36) (v := 0) hk dX0_lays_36 rfl ?_
      refine V_istore_n (pc := 37) (lc' := [(3, .int 0), (0, va_rf ((some this))), (1, .int a0), (2, .int a1)]) (i := 3) hk dX0_lays_37 rfl (Nat.le_of_ble_eq_true rfl) rfl ?_
      refine V_pick (lc' := [(0, va_rf ((some this))), (1, .int a0), (3, .int 0)]) [1, 2, 0] rfl ?_
      exact eX0_lays_l38 hk hR FU w6 ((some this)) a0 0
    · refine V_iconst (pc := 29) (v := 0) hk dX0_lays_29 rfl ?_
      exact V_zreturn (pc := 30) hk hR rfl dX0_lays_30
theorem ctX0_lays (l : Launch) (K : Kx) (hI : Ini K) (b : Nat) (a0 : Int32) (a1 : Int32) (w : Wd) : ∀ r, mX0_lays b a0 a1 w = some r → Ct l K 108 6199 yX0_lays (ws_ yX0_lays cX0_lays 4 (some (.boolean))) [.ref b, .int a0, .int a1] w (rvI r.1) r.2 := Ct_of rvI l K hI 108 6199 [.ref b, .int a0, .int a1] w (by decide) (lc0 := [(0, .ref b), (1, .int a0), (2, .int a1)]) rfl (Nat.le_of_ble_eq_true rfl) (fun y hk hR _ _ hin => eX0_lays hk hR b a0 a1 w)
noncomputable def mX0_firsts_b53 (s_X0_firsts : Nat → Int32 → Int32 → Int32 → Int32 → Wd → Option (Unit × Wd)) (k53 : Wd → (Option Nat) → Int32 → Int32 → Int32 → Int32 → Int32 → Option (Unit × Wd)) (w : Wd) (l0 : Option Nat) (l1 : Int32) (l2 : Int32) (l3 : Int32) (l4 : Int32) (l5 : Int32) : Option (Unit × Wd) :=
(gI w l0 0 20).bind fun v1 =>
if v1 ≤ l5 then (
some ((), w))
else (
(gR w l0 0 0).bind fun v2 =>
(gR w v2 1 2).bind fun v3 =>
(gR w l0 0 14).bind fun v4 =>
(ia w v4 l5).bind fun v5 =>
(aa w v3 v5).bind fun v6 =>
(gR w l0 0 15).bind fun v7 =>
(ia w v7 l5).bind fun v8 =>
(cal w (mX0_has l2 l5 w)).bind fun r9 =>
if ¬ r9.1 = 0 then (
k53 r9.2 l0 l1 l2 l3 l4 (l5 + 1))
else (
(ia r9.2 v6 2).bind fun v10 =>
if (l3 + v8) ≤ v10 then (
(gR r9.2 l0 0 16).bind fun v11 =>
(gR r9.2 l0 0 14).bind fun v12 =>
(ia r9.2 v12 l5).bind fun v13 =>
(ias r9.2 v11 l1 v13).bind fun w14 =>
(ia w14 v6 3).bind fun v15 =>
(recv w14 l0 0).bind fun b17 => (cal w14 (s_X0_firsts b17 (l1 + 1) (l2 ||| (1 <<< (l5 &&& 31))) (l3 + v8) (l4 + (v15 * (l3 + v8))) w14)).bind fun r16 =>
k53 r16.2 l0 l1 l2 l3 l4 (l5 + 1))
else (
k53 r9.2 l0 l1 l2 l3 l4 (l5 + 1))))
noncomputable def mX0_firsts_l53 (s_X0_firsts : Nat → Int32 → Int32 → Int32 → Int32 → Wd → Option (Unit × Wd)) : Nat → Wd → (Option Nat) → Int32 → Int32 → Int32 → Int32 → Int32 → Option (Unit × Wd)
  | 0, _, _, _, _, _, _, _ => none
  | n + 1, w, l0, l1, l2, l3, l4, l5 => mX0_firsts_b53 s_X0_firsts (mX0_firsts_l53 s_X0_firsts n) w l0 l1 l2 l3 l4 l5
noncomputable def mX0_firsts_p18 (s_X0_firsts : Nat → Int32 → Int32 → Int32 → Int32 → Wd → Option (Unit × Wd)) (w : Wd) (l0 : Option Nat) (l1 : Int32) (l2 : Int32) (l3 : Int32) (l4 : Int32) : Option (Unit × Wd) :=
(gI w l0 0 20).bind fun v1 =>
if ¬ l1 = v1 then (
mX0_firsts_l53 s_X0_firsts FU w l0 l1 l2 l3 l4 0)
else (
(pf w l0 0 21 (.int l4)).bind fun w2 =>
(gR w2 l0 0 16).bind fun v3 =>
(gR w2 l0 0 17).bind fun v4 =>
(gI w2 l0 0 20).bind fun v5 =>
(acpI w2 v3 0 v4 0 v5).bind fun w6 =>
some ((), w6))
noncomputable def mX0_firsts (s_X0_firsts : Nat → Int32 → Int32 → Int32 → Int32 → Wd → Option (Unit × Wd)) (this : Nat) (a0 : Int32) (a1 : Int32) (a2 : Int32) (a3 : Int32) (w : Wd) : Option (Unit × Wd) :=
(gI w ((some this)) 0 21).bind fun v1 =>
if v1 = (-1) then (
mX0_firsts_p18 s_X0_firsts w ((some this)) a0 a1 a2 a3)
else (
(gI w ((some this)) 0 21).bind fun v2 =>
if a3 < v2 then (
mX0_firsts_p18 s_X0_firsts w ((some this)) a0 a1 a2 a3)
else (
some ((), w)))
noncomputable def rX0_firsts : Nat → Nat → Int32 → Int32 → Int32 → Int32 → Wd → Option (Unit × Wd)
  | 0 => fun _ _ _ _ _ _ => none
  | d + 1 => mX0_firsts (rX0_firsts d)
theorem eX0_firsts_b53 {y : Fx (Unit × Wd)} {F L F9 L9 : Nat} (hk : OkF y RX0 cX0_firsts 8 F L) (hR : RetM y rvV none) (hF1 : F9 + 1 ≤ F ∧ 60 + L9 ≤ L) (hF2 : 3 ≤ F ∧ 81 ≤ L) {s_X0_firsts : Nat → Int32 → Int32 → Int32 → Int32 → Wd → Option (Unit × Wd)} (hs_X0_firsts : ∀ (b : Nat) (a0 : Int32) (a1 : Int32) (a2 : Int32) (a3 : Int32) (w : Wd) r, s_X0_firsts b a0 a1 a2 a3 w = some r → Ct (fl y) (fK y) F9 L9 yX0_firsts (ws_ yX0_firsts cX0_firsts 8 none) [.ref b, .int a0, .int a1, .int a2, .int a3] w (rvV r.1) r.2) {k53 : Wd → (Option Nat) → Int32 → Int32 → Int32 → Int32 → Int32 → Option (Unit × Wd)} (h53 : ∀ (w : Wd) (l0 : Option Nat) (l1 : Int32) (l2 : Int32) (l3 : Int32) (l4 : Int32) (l5 : Int32), V y w [(0, va_rf l0), (1, .int l1), (2, .int l2), (3, .int l3), (4, .int l4), (5, .int l5)] [] 53 (k53 w l0 l1 l2 l3 l4 l5)) (w : Wd) (l0 : Option Nat) (l1 : Int32) (l2 : Int32) (l3 : Int32) (l4 : Int32) (l5 : Int32) : V y w [(0, va_rf l0), (1, .int l1), (2, .int l2), (3, .int l3), (4, .int l4), (5, .int l5)] [] 53 (mX0_firsts_b53 s_X0_firsts k53 w l0 l1 l2 l3 l4 l5) := by
  unfold mX0_firsts_b53
  refine V_iload (pc := 53) hk dX0_firsts_53 5 rfl ?_
  refine V_aload_n (pc := 55) hk dX0_firsts_55 0 rfl ?_
  refine g_X0_361 (pc := 56) hk dX0_firsts_56 (fun v1 => ?_)
  refine V_icmp_ge (pc := 59) (tgt := 155) hk dX0_firsts_59 rfl ?_ ?_
  · exact V_return (pc := 155) hk hR rfl dX0_firsts_155
  · refine V_aload_n (pc := 62) hk dX0_firsts_62 0 rfl ?_
    refine g_X0_21 (pc := 63) hk dX0_firsts_63 (fun v2 => ?_)
    refine g_X0_86 (pc := 66) hk dX0_firsts_66 (fun v3 => ?_)
    refine V_aload_n (pc := 69) hk dX0_firsts_69 0 rfl ?_
    refine g_X0_57 (pc := 70) hk dX0_firsts_70 (fun v4 => ?_)
    refine V_iload (pc := 73) hk dX0_firsts_73 5 rfl ?_
    refine V_iaload (pc := 75) hk dX0_firsts_75 (fun v5 => ?_)
    refine V_aaload (pc := 76) hk dX0_firsts_76 (fun v6 => ?_)
    refine V_astore (pc := 77) (lc' := [(6, va_rf v6), (0, va_rf l0), (1, .int l1), (2, .int l2), (3, .int l3), (4, .int l4), (5, .int l5)]) (i := 6) hk dX0_firsts_77 (Nat.le_of_ble_eq_true rfl) rfl ?_
    refine V_iload_n (pc := 79) hk dX0_firsts_79 4 rfl ?_
    refine V_aload_n (pc := 80) hk dX0_firsts_80 1 rfl ?_
    refine g_X0_60 (pc := 81) hk dX0_firsts_81 (fun v7 => ?_)
    refine V_iload (pc := 84) hk dX0_firsts_84 6 rfl ?_
    refine V_iaload (pc := 86) hk dX0_firsts_86 (fun v8 => ?_)
    refine V_iadd (pc := 87) hk dX0_firsts_87 ?_
    refine V_istore (pc := 88) (lc' := [(7, .int (l3 + v8)), (6, va_rf v6), (0, va_rf l0), (1, .int l1), (2, .int l2), (3, .int l3), (4, .int l4), (5, .int l5)]) (i := 7) hk dX0_firsts_88 (Nat.le_of_ble_eq_true rfl) (by simp [rf_cat, cat_int, cat_long, cat_ref]) ?_
    refine V_iload_n (pc := 90) hk dX0_firsts_90 4 rfl ?_
    refine V_iload (pc := 91) hk dX0_firsts_91 7 rfl ?_
    refine n_X0_218 (pc := 93) hk (fun r h => ctX0_has (fl y) (fK y) hk.2.2.2.2.2.2.2.1 l2 l5 w r h) ⟨by omega, by omega⟩ (Nat.le_of_ble_eq_true rfl) dX0_firsts_93 (fun r9 => ?_)
    refine V_if_ne (pc := 96) (tgt := 149) hk dX0_firsts_96 rfl ?_ ?_
    · refine V_iinc (pc := 149) (v := 1) (lc' := [(5, .int (l5 + 1)), (7, .int (l3 + v8)), (6, va_rf v6), (0, va_rf l0), (1, .int l1), (2, .int l2), (3, .int l3), (4, .int l4)]) hk dX0_firsts_149 7 rfl rfl (Nat.le_of_ble_eq_true rfl) rfl ?_
      refine V_goto (pc := 152) (tgt := 53) hk dX0_firsts_152 rfl ?_
      refine V_pick (lc' := [(0, va_rf l0), (1, .int l1), (2, .int l2), (3, .int l3), (4, .int l4), (5, .int (l5 + 1))]) [3, 4, 5, 6, 7, 0] rfl ?_
      exact h53 r9.2 l0 l1 l2 l3 l4 (l5 + 1)
    · refine V_iload (pc := 99) hk dX0_firsts_99 0 rfl ?_
      refine V_aload (pc := 101) hk dX0_firsts_101 1 rfl ?_
      refine V_iconst (pc := 103) (v := 2) hk dX0_firsts_103 rfl ?_
      refine V_iaload (pc := 104) hk dX0_firsts_104 (fun v10 => ?_)
      refine V_icmp_le (pc := 105) (tgt := 111) hk dX0_firsts_105 rfl ?_ ?_
      · refine V_aload_n (pc := 111) hk dX0_firsts_111 2 rfl ?_
        refine g_X0_63 (pc := 112) hk dX0_firsts_112 (fun v11 => ?_)
        refine V_iload_n (pc := 115) hk dX0_firsts_115 3 rfl ?_
        refine V_aload_n (pc := 116) hk dX0_firsts_116 2 rfl ?_
        refine g_X0_57 (pc := 117) hk dX0_firsts_117 (fun v12 => ?_)
        refine V_iload (pc := 120) hk dX0_firsts_120 7 rfl ?_
        refine V_iaload (pc := 122) hk dX0_firsts_122 (fun v13 => ?_)
        refine V_iastore (pc := 123) hk dX0_firsts_123 (fun w14 => ?_)
        refine V_aload_n (pc := 124) hk dX0_firsts_124 2 rfl ?_
        refine V_iload_n (pc := 125) hk dX0_firsts_125 3 rfl ?_
        refine V_iconst (pc := 126) (v := 1) hk dX0_firsts_126 rfl ?_
        refine V_iadd (pc := 127) hk dX0_firsts_127 ?_
        refine V_iload_n (pc := 128) hk dX0_firsts_128 4 rfl ?_
        refine V_iconst (pc := 129) (v := 1) hk dX0_firsts_129 rfl ?_
        refine V_iload (pc := 130) hk dX0_firsts_130 7 rfl ?_
        refine V_ishl (pc := 132) hk dX0_firsts_132 ?_
        refine V_ior (pc := 133) hk dX0_firsts_133 ?_
        refine V_iload (pc := 134) hk dX0_firsts_134 0 rfl ?_
        refine V_iload (pc := 136) hk dX0_firsts_136 6 rfl ?_
        refine V_aload (pc := 138) hk dX0_firsts_138 1 rfl ?_
        refine V_iconst (pc := 140) (v := 3) hk dX0_firsts_140 rfl ?_
        refine V_iaload (pc := 141) hk dX0_firsts_141 (fun v15 => ?_)
        refine V_iload (pc := 142) hk dX0_firsts_142 0 rfl ?_
        refine V_imul (pc := 144) hk dX0_firsts_144 ?_
        refine V_iadd (pc := 145) hk dX0_firsts_145 ?_
        refine n_X0_367 (pc := 146) hk (fun b r h => hs_X0_firsts b (l1 + 1) (l2 ||| (1 <<< (l5 &&& 31))) (l3 + v8) (l4 + (v15 * (l3 + v8))) w14 r h) ⟨by omega, by omega⟩ (Nat.le_of_ble_eq_true rfl) dX0_firsts_146 (fun r16 => ?_)
        refine V_iinc (pc := 149) (v := 1) (lc' := [(5, .int (l5 + 1)), (7, .int (l3 + v8)), (6, va_rf v6), (0, va_rf l0), (1, .int l1), (2, .int l2), (3, .int l3), (4, .int l4)]) hk dX0_firsts_149 7 rfl rfl (Nat.le_of_ble_eq_true rfl) rfl ?_
        refine V_goto (pc := 152) (tgt := 53) hk dX0_firsts_152 rfl ?_
        refine V_pick (lc' := [(0, va_rf l0), (1, .int l1), (2, .int l2), (3, .int l3), (4, .int l4), (5, .int (l5 + 1))]) [3, 4, 5, 6, 7, 0] rfl ?_
        exact h53 r16.2 l0 l1 l2 l3 l4 (l5 + 1)
      · refine V_goto (pc := 108) (tgt := 149) hk dX0_firsts_108 rfl ?_
        refine V_iinc (pc := 149) (v := 1) (lc' := [(5, .int (l5 + 1)), (7, .int (l3 + v8)), (6, va_rf v6), (0, va_rf l0), (1, .int l1), (2, .int l2), (3, .int l3), (4, .int l4)]) hk dX0_firsts_149 7 rfl rfl (Nat.le_of_ble_eq_true rfl) rfl ?_
        refine V_goto (pc := 152) (tgt := 53) hk dX0_firsts_152 rfl ?_
        refine V_pick (lc' := [(0, va_rf l0), (1, .int l1), (2, .int l2), (3, .int l3), (4, .int l4), (5, .int (l5 + 1))]) [3, 4, 5, 6, 7, 0] rfl ?_
        exact h53 r9.2 l0 l1 l2 l3 l4 (l5 + 1)
theorem eX0_firsts_l53 {y : Fx (Unit × Wd)} {F L F9 L9 : Nat} (hk : OkF y RX0 cX0_firsts 8 F L) (hR : RetM y rvV none) (hF1 : F9 + 1 ≤ F ∧ 60 + L9 ≤ L) (hF2 : 3 ≤ F ∧ 81 ≤ L) {s_X0_firsts : Nat → Int32 → Int32 → Int32 → Int32 → Wd → Option (Unit × Wd)} (hs_X0_firsts : ∀ (b : Nat) (a0 : Int32) (a1 : Int32) (a2 : Int32) (a3 : Int32) (w : Wd) r, s_X0_firsts b a0 a1 a2 a3 w = some r → Ct (fl y) (fK y) F9 L9 yX0_firsts (ws_ yX0_firsts cX0_firsts 8 none) [.ref b, .int a0, .int a1, .int a2, .int a3] w (rvV r.1) r.2) : ∀ (n : Nat) (w : Wd) (l0 : Option Nat) (l1 : Int32) (l2 : Int32) (l3 : Int32) (l4 : Int32) (l5 : Int32), V y w [(0, va_rf l0), (1, .int l1), (2, .int l2), (3, .int l3), (4, .int l4), (5, .int l5)] [] 53 (mX0_firsts_l53 s_X0_firsts n w l0 l1 l2 l3 l4 l5) := by
  intro n
  induction n with
  | zero => intro w l0 l1 l2 l3 l4 l5; exact V_none
  | succ n ih => intro w l0 l1 l2 l3 l4 l5; exact eX0_firsts_b53 hk hR hF1 hF2 hs_X0_firsts ih w l0 l1 l2 l3 l4 l5
theorem eX0_firsts_p18 {y : Fx (Unit × Wd)} {F L F9 L9 : Nat} (hk : OkF y RX0 cX0_firsts 8 F L) (hR : RetM y rvV none) (hF1 : F9 + 1 ≤ F ∧ 60 + L9 ≤ L) (hF2 : 3 ≤ F ∧ 81 ≤ L) {s_X0_firsts : Nat → Int32 → Int32 → Int32 → Int32 → Wd → Option (Unit × Wd)} (hs_X0_firsts : ∀ (b : Nat) (a0 : Int32) (a1 : Int32) (a2 : Int32) (a3 : Int32) (w : Wd) r, s_X0_firsts b a0 a1 a2 a3 w = some r → Ct (fl y) (fK y) F9 L9 yX0_firsts (ws_ yX0_firsts cX0_firsts 8 none) [.ref b, .int a0, .int a1, .int a2, .int a3] w (rvV r.1) r.2) (w : Wd) (l0 : Option Nat) (l1 : Int32) (l2 : Int32) (l3 : Int32) (l4 : Int32) : V y w [(0, va_rf l0), (1, .int l1), (2, .int l2), (3, .int l3), (4, .int l4)] [] 18 (mX0_firsts_p18 s_X0_firsts w l0 l1 l2 l3 l4) := by
  unfold mX0_firsts_p18
  refine V_iload_n (pc := 18) hk dX0_firsts_18 1 rfl ?_
  refine V_aload_n (pc := 19) hk dX0_firsts_19 0 rfl ?_
  refine g_X0_361 (pc := 20) hk dX0_firsts_20 (fun v1 => ?_)
  refine V_icmp_ne (pc := 23) (tgt := 50) hk dX0_firsts_23 rfl ?_ ?_
  · refine V_iconst (pc := 50) (v := 0) hk dX0_firsts_50 rfl ?_
    refine V_istore (pc := 51) (lc' := [(5, .int 0), (0, va_rf l0), (1, .int l1), (2, .int l2), (3, .int l3), (4, .int l4)]) (i := 5) hk dX0_firsts_51 (Nat.le_of_ble_eq_true rfl) rfl ?_
    refine V_pick (lc' := [(0, va_rf l0), (1, .int l1), (2, .int l2), (3, .int l3), (4, .int l4), (5, .int 0)]) [1, 2, 3, 4, 5, 0] rfl ?_
    exact eX0_firsts_l53 hk hR hF1 hF2 hs_X0_firsts FU w l0 l1 l2 l3 l4 0
  · refine V_aload_n (pc := 26) hk dX0_firsts_26 0 rfl ?_
    refine V_iload (pc := 27) hk dX0_firsts_27 4 rfl ?_
    refine p_X0_364 (pc := 29) hk dX0_firsts_29 (fun w2 => ?_)
    refine V_aload_n (pc := 32) hk dX0_firsts_32 0 rfl ?_
    refine g_X0_63 (pc := 33) hk dX0_firsts_33 (fun v3 => ?_)
    refine V_iconst (pc := 36) (v := 0) hk dX0_firsts_36 rfl ?_
    refine V_aload_n (pc := 37) hk dX0_firsts_37 0 rfl ?_
    refine g_X0_66 (pc := 38) hk dX0_firsts_38 (fun v4 => ?_)
    refine V_iconst (pc := 41) (v := 0) hk dX0_firsts_41 rfl ?_
    refine V_aload_n (pc := 42) hk dX0_firsts_42 0 rfl ?_
    refine g_X0_361 (pc := 43) hk dX0_firsts_43 (fun v5 => ?_)
    refine V_acpI (pc := 46) hk (acpW hk q909 q222 q221 q132) ⟨by omega, by omega⟩ (Nat.le_of_ble_eq_true rfl) dX0_firsts_46 (fun w6 => ?_)
    exact V_return (pc := 49) hk hR rfl dX0_firsts_49
theorem eX0_firsts {y : Fx (Unit × Wd)} {F L F9 L9 : Nat} (hk : OkF y RX0 cX0_firsts 8 F L) (hR : RetM y rvV none) (hF1 : F9 + 1 ≤ F ∧ 60 + L9 ≤ L) (hF2 : 3 ≤ F ∧ 81 ≤ L) {s_X0_firsts : Nat → Int32 → Int32 → Int32 → Int32 → Wd → Option (Unit × Wd)} (hs_X0_firsts : ∀ (b : Nat) (a0 : Int32) (a1 : Int32) (a2 : Int32) (a3 : Int32) (w : Wd) r, s_X0_firsts b a0 a1 a2 a3 w = some r → Ct (fl y) (fK y) F9 L9 yX0_firsts (ws_ yX0_firsts cX0_firsts 8 none) [.ref b, .int a0, .int a1, .int a2, .int a3] w (rvV r.1) r.2) (this : Nat) (a0 : Int32) (a1 : Int32) (a2 : Int32) (a3 : Int32) (w : Wd) : V y w [(0, va_rf (some this)), (1, .int a0), (2, .int a1), (3, .int a2), (4, .int a3)] [] 0 (mX0_firsts s_X0_firsts this a0 a1 a2 a3 w) := by
  unfold mX0_firsts
  refine V_aload_n (pc := 0) hk dX0_firsts_0 0 rfl ?_
  refine g_X0_364 (pc := 1) hk dX0_firsts_1 (fun v1 => ?_)
  refine V_iconst (pc := 4) (v := (-1)) hk dX0_firsts_4 (by decide +kernel) ?_
  refine V_icmp_eq (pc := 5) (tgt := 18) hk dX0_firsts_5 rfl ?_ ?_
  · exact eX0_firsts_p18 hk hR hF1 hF2 hs_X0_firsts w ((some this)) a0 a1 a2 a3
  · refine V_iload (pc := 8) hk dX0_firsts_8 4 rfl ?_
    refine V_aload_n (pc := 10) hk dX0_firsts_10 0 rfl ?_
    refine g_X0_364 (pc := 11) hk dX0_firsts_11 (fun v2 => ?_)
    refine V_icmp_lt (pc := 14) (tgt := 18) hk dX0_firsts_14 rfl ?_ ?_
    · exact eX0_firsts_p18 hk hR hF1 hF2 hs_X0_firsts w ((some this)) a0 a1 a2 a3
    · exact V_return (pc := 17) hk hR rfl dX0_firsts_17
theorem crX0_firsts (l : Launch) (K : Kx) (hI : Ini K) : ∀ (d : Nat) (b : Nat) (a0 : Int32) (a1 : Int32) (a2 : Int32) (a3 : Int32) (w : Wd) (r : Unit × Wd), rX0_firsts d b a0 a1 a2 a3 w = some r → Ct l K (3 + d) (81 + 60 * d) yX0_firsts (ws_ yX0_firsts cX0_firsts 8 none) [.ref b, .int a0, .int a1, .int a2, .int a3] w (rvV r.1) r.2 := by
  intro d
  induction d with
  | zero => intro b a0 a1 a2 a3 w r h; cases h
  | succ d ih =>
    intro b a0 a1 a2 a3 w
    exact Ct_of rvV l K hI (3 + (d + 1)) (81 + 60 * (d + 1)) [.ref b, .int a0, .int a1, .int a2, .int a3] w (by decide) (lc0 := [(0, .ref b), (1, .int a0), (2, .int a1), (3, .int a2), (4, .int a3)]) rfl (Nat.le_of_ble_eq_true rfl) (fun y hk hR hl hK hin => eX0_firsts (F9 := 3 + d) (L9 := 81 + 60 * d) hk hR ⟨by omega, by omega⟩ ⟨by omega, by omega⟩ (by rw [hl, hK]; exact ih) b a0 a1 a2 a3 w)
noncomputable def mX0_first (this : Nat) (a0 : Int32) (a1 : Int32) (w : Wd) : Option (Int32 × Wd) :=
(recv w ((some this)) 0).bind fun b2 => (cal w (mX0_lays b2 a0 7 w)).bind fun r1 =>
if r1.1 = 0 then (
some ((-1), r1.2))
else (
(gI r1.2 ((some this)) 0 20).bind fun v3 =>
(cal r1.2 (mX0_in a1 (-1) (v3 - 1) r1.2)).bind fun r4 =>
if ¬ r4.1 = 0 then (
(recv r4.2 ((some this)) 0).bind fun b6 => (cal r4.2 (rX0_firsts 10 b6 0 0 0 0 r4.2)).bind fun r5 =>
(gI r5.2 ((some this)) 0 21).bind fun v7 =>
if v7 = (-1) then (
(gI r5.2 ((some this)) 0 21).bind fun v8 =>
some (v8, r5.2))
else (
if ¬ a1 = (-1) then (
(gR r5.2 ((some this)) 0 17).bind fun v9 =>
(ia r5.2 v9 a1).bind fun v10 =>
some (v10, r5.2))
else (
(gI r5.2 ((some this)) 0 21).bind fun v11 =>
some (v11, r5.2))))
else (
some ((-1), r4.2)))
theorem eX0_first {y : Fx (Int32 × Wd)} (hk : OkF y RX0 cX0_first 3 109 6222) (hR : RetM y rvI (some (.int))) (this : Nat) (a0 : Int32) (a1 : Int32) (w : Wd) : V y w [(0, va_rf (some this)), (1, .int a0), (2, .int a1)] [] 0 (mX0_first this a0 a1 w) := by
  unfold mX0_first
  refine V_aload_n (pc := 0) hk dX0_first_0 0 rfl ?_
  refine V_iload_n (pc := 1) hk dX0_first_1 1 rfl ?_
  refine V_bipush (pc := 2) (v := 7) hk dX0_first_2 rfl ?_
  refine n_X0_371 (pc := 4) hk (fun b r h => ctX0_lays (fl y) (fK y) hk.2.2.2.2.2.2.2.1 b a0 7 w r h) ⟨Nat.le_of_ble_eq_true rfl, Nat.le_of_ble_eq_true rfl⟩ (Nat.le_of_ble_eq_true rfl) dX0_first_4 (fun r1 => ?_)
  refine V_if_eq (pc := 7) (tgt := 24) hk dX0_first_7 rfl ?_ ?_
  · refine V_iconst (pc := 24) (v := (-1)) hk dX0_first_24 (by decide +kernel) ?_
    exact V_ireturn (pc := 25) hk hR rfl dX0_first_25
  · refine V_iload_n (pc := 10) hk dX0_first_10 2 rfl ?_
    refine V_iconst (pc := 11) (v := (-1)) hk dX0_first_11 (by decide +kernel) ?_
    refine V_aload_n (pc := 12) hk dX0_first_12 0 rfl ?_
    refine g_X0_361 (pc := 13) hk dX0_first_13 (fun v3 => ?_)
    refine V_iconst (pc := 16) (v := 1) hk dX0_first_16 rfl ?_
    refine V_isub (pc := 17) hk dX0_first_17 ?_
    refine n_X0_82 (pc := 18) hk (fun r h => ctX0_in (fl y) (fK y) hk.2.2.2.2.2.2.2.1 a1 (-1) (v3 - 1) r1.2 r h) ⟨Nat.le_of_ble_eq_true rfl, Nat.le_of_ble_eq_true rfl⟩ (Nat.le_of_ble_eq_true rfl) dX0_first_18 (fun r4 => ?_)
    refine V_if_ne (pc := 21) (tgt := 26) hk dX0_first_21 rfl ?_ ?_
    · refine V_aload_n (pc := 26) hk dX0_first_26 0 rfl ?_
      refine V_iconst (pc := 27) (v := 0) hk dX0_first_27 rfl ?_
      refine V_iconst (pc := 28) (v := 0) hk dX0_first_28 rfl ?_
      refine V_iconst (pc := 29) (v := 0) hk dX0_first_29 rfl ?_
      refine V_iconst (pc := 30) (v := 0) hk dX0_first_30 rfl ?_
      refine n_X0_367 (pc := 31) hk (fun b r h => crX0_firsts (fl y) (fK y) hk.2.2.2.2.2.2.2.1 10 b 0 0 0 0 r4.2 r h) ⟨Nat.le_of_ble_eq_true rfl, Nat.le_of_ble_eq_true rfl⟩ (Nat.le_of_ble_eq_true rfl) dX0_first_31 (fun r5 => ?_)
      refine V_aload_n (pc := 34) hk dX0_first_34 0 rfl ?_
      refine g_X0_364 (pc := 35) hk dX0_first_35 (fun v7 => ?_)
      refine V_iconst (pc := 38) (v := (-1)) hk dX0_first_38 (by decide +kernel) ?_
      refine V_icmp_eq (pc := 39) (tgt := 47) hk dX0_first_39 rfl ?_ ?_
      · refine V_aload_n (pc := 47) hk dX0_first_47 0 rfl ?_
        refine g_X0_364 (pc := 48) hk dX0_first_48 (fun v8 => ?_)
        refine V_goto (pc := 51) (tgt := 60) hk dX0_first_51 rfl ?_
        exact V_ireturn (pc := 60) hk hR rfl dX0_first_60
      · refine V_iload_n (pc := 42) hk dX0_first_42 2 rfl ?_
        refine V_iconst (pc := 43) (v := (-1)) hk dX0_first_43 (by decide +kernel) ?_
        refine V_icmp_ne (pc := 44) (tgt := 54) hk dX0_first_44 rfl ?_ ?_
        · refine V_aload_n (pc := 54) hk dX0_first_54 0 rfl ?_
          refine g_X0_66 (pc := 55) hk dX0_first_55 (fun v9 => ?_)
          refine V_iload_n (pc := 58) hk dX0_first_58 2 rfl ?_
          refine V_iaload (pc := 59) hk dX0_first_59 (fun v10 => ?_)
          exact V_ireturn (pc := 60) hk hR rfl dX0_first_60
        · refine V_aload_n (pc := 47) hk dX0_first_47 0 rfl ?_
          refine g_X0_364 (pc := 48) hk dX0_first_48 (fun v11 => ?_)
          refine V_goto (pc := 51) (tgt := 60) hk dX0_first_51 rfl ?_
          exact V_ireturn (pc := 60) hk hR rfl dX0_first_60
    · refine V_iconst (pc := 24) (v := (-1)) hk dX0_first_24 (by decide +kernel) ?_
      exact V_ireturn (pc := 25) hk hR rfl dX0_first_25
theorem ctX0_first (l : Launch) (K : Kx) (hI : Ini K) (b : Nat) (a0 : Int32) (a1 : Int32) (w : Wd) : ∀ r, mX0_first b a0 a1 w = some r → Ct l K 109 6222 yX0_first (ws_ yX0_first cX0_first 3 (some (.int))) [.ref b, .int a0, .int a1] w (rvI r.1) r.2 := Ct_of rvI l K hI 109 6222 [.ref b, .int a0, .int a1] w (by decide) (lc0 := [(0, .ref b), (1, .int a0), (2, .int a1)]) rfl (Nat.le_of_ble_eq_true rfl) (fun y hk hR _ _ hin => eX0_first hk hR b a0 a1 w)
noncomputable def mX0_areClose (this : Nat) (a0 : Int32) (a1 : Int32) (w : Wd) : Option (Int32 × Wd) :=
(gR w ((some this)) 0 0).bind fun v1 =>
(gR w v1 1 2).bind fun v2 =>
(gR w ((some this)) 0 14).bind fun v3 =>
(ia w v3 a0).bind fun v4 =>
(aa w v2 v4).bind fun v5 =>
(ia w v5 4).bind fun v6 =>
(gR w ((some this)) 0 0).bind fun v7 =>
(gR w v7 1 2).bind fun v8 =>
(gR w ((some this)) 0 14).bind fun v9 =>
(ia w v9 a1).bind fun v10 =>
(aa w v8 v10).bind fun v11 =>
(ia w v11 4).bind fun v12 =>
if v6 = v12 then (
(nok (.boolean) 0).bind fun _ => some (0, w))
else (
(gR w ((some this)) 0 0).bind fun v13 =>
(gR w v13 1 2).bind fun v14 =>
(gR w ((some this)) 0 14).bind fun v15 =>
(ia w v15 a0).bind fun v16 =>
(aa w v14 v16).bind fun v17 =>
(ia w v17 1).bind fun v18 =>
(gR w ((some this)) 0 0).bind fun v19 =>
(gR w v19 1 2).bind fun v20 =>
(gR w ((some this)) 0 14).bind fun v21 =>
(ia w v21 a1).bind fun v22 =>
(aa w v20 v22).bind fun v23 =>
(ia w v23 1).bind fun v24 =>
if 10 ≤ (jabsI (v18 - v24)) then (
(nok (.boolean) 0).bind fun _ => some (0, w))
else (
(nok (.boolean) 1).bind fun _ => some (1, w)))
theorem eX0_areClose {y : Fx (Int32 × Wd)} (hk : OkF y RX0 cX0_areClose 3 2 60) (hR : RetM y rvI (some (.boolean))) (this : Nat) (a0 : Int32) (a1 : Int32) (w : Wd) : V y w [(0, va_rf (some this)), (1, .int a0), (2, .int a1)] [] 0 (mX0_areClose this a0 a1 w) := by
  unfold mX0_areClose
  refine V_aload_n (pc := 0) hk dX0_areClose_0 0 rfl ?_
  refine g_X0_21 (pc := 1) hk dX0_areClose_1 (fun v1 => ?_)
  refine g_X0_86 (pc := 4) hk dX0_areClose_4 (fun v2 => ?_)
  refine V_aload_n (pc := 7) hk dX0_areClose_7 0 rfl ?_
  refine g_X0_57 (pc := 8) hk dX0_areClose_8 (fun v3 => ?_)
  refine V_iload_n (pc := 11) hk dX0_areClose_11 1 rfl ?_
  refine V_iaload (pc := 12) hk dX0_areClose_12 (fun v4 => ?_)
  refine V_aaload (pc := 13) hk dX0_areClose_13 (fun v5 => ?_)
  refine V_iconst (pc := 14) (v := 4) hk dX0_areClose_14 rfl ?_
  refine V_iaload (pc := 15) hk dX0_areClose_15 (fun v6 => ?_)
  refine V_aload_n (pc := 16) hk dX0_areClose_16 0 rfl ?_
  refine g_X0_21 (pc := 17) hk dX0_areClose_17 (fun v7 => ?_)
  refine g_X0_86 (pc := 20) hk dX0_areClose_20 (fun v8 => ?_)
  refine V_aload_n (pc := 23) hk dX0_areClose_23 0 rfl ?_
  refine g_X0_57 (pc := 24) hk dX0_areClose_24 (fun v9 => ?_)
  refine V_iload_n (pc := 27) hk dX0_areClose_27 2 rfl ?_
  refine V_iaload (pc := 28) hk dX0_areClose_28 (fun v10 => ?_)
  refine V_aaload (pc := 29) hk dX0_areClose_29 (fun v11 => ?_)
  refine V_iconst (pc := 30) (v := 4) hk dX0_areClose_30 rfl ?_
  refine V_iaload (pc := 31) hk dX0_areClose_31 (fun v12 => ?_)
  refine V_icmp_eq (pc := 32) (tgt := 80) hk dX0_areClose_32 rfl ?_ ?_
  · refine V_iconst (pc := 80) (v := 0) hk dX0_areClose_80 rfl ?_
    exact V_zreturn (pc := 81) hk hR rfl dX0_areClose_81
  · refine V_aload_n (pc := 35) hk dX0_areClose_35 0 rfl ?_
    refine g_X0_21 (pc := 36) hk dX0_areClose_36 (fun v13 => ?_)
    refine g_X0_86 (pc := 39) hk dX0_areClose_39 (fun v14 => ?_)
    refine V_aload_n (pc := 42) hk dX0_areClose_42 0 rfl ?_
    refine g_X0_57 (pc := 43) hk dX0_areClose_43 (fun v15 => ?_)
    refine V_iload_n (pc := 46) hk dX0_areClose_46 1 rfl ?_
    refine V_iaload (pc := 47) hk dX0_areClose_47 (fun v16 => ?_)
    refine V_aaload (pc := 48) hk dX0_areClose_48 (fun v17 => ?_)
    refine V_iconst (pc := 49) (v := 1) hk dX0_areClose_49 rfl ?_
    refine V_iaload (pc := 50) hk dX0_areClose_50 (fun v18 => ?_)
    refine V_aload_n (pc := 51) hk dX0_areClose_51 0 rfl ?_
    refine g_X0_21 (pc := 52) hk dX0_areClose_52 (fun v19 => ?_)
    refine g_X0_86 (pc := 55) hk dX0_areClose_55 (fun v20 => ?_)
    refine V_aload_n (pc := 58) hk dX0_areClose_58 0 rfl ?_
    refine g_X0_57 (pc := 59) hk dX0_areClose_59 (fun v21 => ?_)
    refine V_iload_n (pc := 62) hk dX0_areClose_62 2 rfl ?_
    refine V_iaload (pc := 63) hk dX0_areClose_63 (fun v22 => ?_)
    refine V_aaload (pc := 64) hk dX0_areClose_64 (fun v23 => ?_)
    refine V_iconst (pc := 65) (v := 1) hk dX0_areClose_65 rfl ?_
    refine V_iaload (pc := 66) hk dX0_areClose_66 (fun v24 => ?_)
    refine V_isub (pc := 67) hk dX0_areClose_67 ?_
    refine V_mabs (pc := 68) hk q1077 ⟨Nat.le_of_ble_eq_true rfl, Nat.le_of_ble_eq_true rfl⟩ (Nat.le_of_ble_eq_true rfl) dX0_areClose_68 ?_
    refine V_bipush (pc := 71) (v := 10) hk dX0_areClose_71 rfl ?_
    refine V_icmp_ge (pc := 73) (tgt := 80) hk dX0_areClose_73 rfl ?_ ?_
    · refine V_iconst (pc := 80) (v := 0) hk dX0_areClose_80 rfl ?_
      exact V_zreturn (pc := 81) hk hR rfl dX0_areClose_81
    · refine V_iconst (pc := 76) (v := 1) hk dX0_areClose_76 rfl ?_
      refine V_goto (pc := 77) (tgt := 81) hk dX0_areClose_77 rfl ?_
      exact V_zreturn (pc := 81) hk hR rfl dX0_areClose_81
theorem ctX0_areClose (l : Launch) (K : Kx) (hI : Ini K) (b : Nat) (a0 : Int32) (a1 : Int32) (w : Wd) : ∀ r, mX0_areClose b a0 a1 w = some r → Ct l K 2 60 yX0_areClose (ws_ yX0_areClose cX0_areClose 3 (some (.boolean))) [.ref b, .int a0, .int a1] w (rvI r.1) r.2 := Ct_of rvI l K hI 2 60 [.ref b, .int a0, .int a1] w (by decide) (lc0 := [(0, .ref b), (1, .int a0), (2, .int a1)]) rfl (Nat.le_of_ble_eq_true rfl) (fun y hk hR _ _ hin => eX0_areClose hk hR b a0 a1 w)
noncomputable def mX0_beginOf_p74 (k5 : Wd → (Option Nat) → Int32 → Int32 → Int32 → Int32 → Option (Int32 × Wd)) (w : Wd) (l0 : Option Nat) (l1 : Int32) (l2 : Int32) (l3 : Int32) (l4 : Int32) (t0 : Int32) : Option (Int32 × Wd) :=
if t0 = 0 then (
k5 w l0 l1 l2 l3 (l4 + 1))
else (
(gR w l0 0 18).bind fun v1 =>
(ia w v1 l4).bind fun v2 =>
(gR w l0 0 15).bind fun v3 =>
(ia w v3 l4).bind fun v4 =>
k5 w l0 l1 l2 (jmaxI l3 (v2 + v4)) (l4 + 1))
noncomputable def mX0_beginOf_p73 (k5 : Wd → (Option Nat) → Int32 → Int32 → Int32 → Int32 → Option (Int32 × Wd)) (w : Wd) (l0 : Option Nat) (l1 : Int32) (l2 : Int32) (l3 : Int32) (l4 : Int32) : Option (Int32 × Wd) :=
mX0_beginOf_p74 k5 w l0 l1 l2 l3 l4 0
noncomputable def mX0_beginOf_p69 (k5 : Wd → (Option Nat) → Int32 → Int32 → Int32 → Int32 → Option (Int32 × Wd)) (w : Wd) (l0 : Option Nat) (l1 : Int32) (l2 : Int32) (l3 : Int32) (l4 : Int32) : Option (Int32 × Wd) :=
mX0_beginOf_p74 k5 w l0 l1 l2 l3 l4 1
noncomputable def mX0_beginOf_b5 (k5 : Wd → (Option Nat) → Int32 → Int32 → Int32 → Int32 → Option (Int32 × Wd)) (w : Wd) (l0 : Option Nat) (l1 : Int32) (l2 : Int32) (l3 : Int32) (l4 : Int32) : Option (Int32 × Wd) :=
(gI w l0 0 20).bind fun v1 =>
if v1 ≤ l4 then (
some (l3, w))
else (
(cal w (mX0_has l2 l4 w)).bind fun r2 =>
if r2.1 = 0 then (
mX0_beginOf_p73 k5 r2.2 l0 l1 l2 l3 l4)
else (
(gR r2.2 l0 0 0).bind fun v3 =>
(gR r2.2 v3 1 2).bind fun v4 =>
(gR r2.2 l0 0 14).bind fun v5 =>
(ia r2.2 v5 l4).bind fun v6 =>
(aa r2.2 v4 v6).bind fun v7 =>
(ia r2.2 v7 4).bind fun v8 =>
(gR r2.2 l0 0 0).bind fun v9 =>
(gR r2.2 v9 1 2).bind fun v10 =>
(gR r2.2 l0 0 14).bind fun v11 =>
(ia r2.2 v11 l1).bind fun v12 =>
(aa r2.2 v10 v12).bind fun v13 =>
(ia r2.2 v13 4).bind fun v14 =>
if v8 = v14 then (
mX0_beginOf_p69 k5 r2.2 l0 l1 l2 l3 l4)
else (
(recv r2.2 l0 0).bind fun b16 => (cal r2.2 (mX0_areClose b16 l1 l4 r2.2)).bind fun r15 =>
if r15.1 = 0 then (
mX0_beginOf_p73 k5 r15.2 l0 l1 l2 l3 l4)
else (
mX0_beginOf_p69 k5 r15.2 l0 l1 l2 l3 l4))))
noncomputable def mX0_beginOf_l5 : Nat → Wd → (Option Nat) → Int32 → Int32 → Int32 → Int32 → Option (Int32 × Wd)
  | 0, _, _, _, _, _, _ => none
  | n + 1, w, l0, l1, l2, l3, l4 => mX0_beginOf_b5 (mX0_beginOf_l5 n) w l0 l1 l2 l3 l4
noncomputable def mX0_beginOf (this : Nat) (a0 : Int32) (a1 : Int32) (w : Wd) : Option (Int32 × Wd) :=
mX0_beginOf_l5 FU w ((some this)) a0 a1 0 0
theorem eX0_beginOf_p74 {y : Fx (Int32 × Wd)} (hk : OkF y RX0 cX0_beginOf 6 3 82) (hR : RetM y rvI (some (.int))) {k5 : Wd → (Option Nat) → Int32 → Int32 → Int32 → Int32 → Option (Int32 × Wd)} (h5 : ∀ (w : Wd) (l0 : Option Nat) (l1 : Int32) (l2 : Int32) (l3 : Int32) (l4 : Int32), V y w [(0, va_rf l0), (1, .int l1), (2, .int l2), (3, .int l3), (4, .int l4)] [] 5 (k5 w l0 l1 l2 l3 l4)) (w : Wd) (l0 : Option Nat) (l1 : Int32) (l2 : Int32) (l3 : Int32) (l4 : Int32) (t0 : Int32) : V y w [(0, va_rf l0), (1, .int l1), (2, .int l2), (3, .int l3), (4, .int l4)] [.int t0] 74 (mX0_beginOf_p74 k5 w l0 l1 l2 l3 l4 t0) := by
  unfold mX0_beginOf_p74
  refine V_istore (pc := 74) (lc' := [(5, .int t0), (0, va_rf l0), (1, .int l1), (2, .int l2), (3, .int l3), (4, .int l4)]) (i := 5) hk dX0_beginOf_74 (Nat.le_of_ble_eq_true rfl) rfl ?_
  refine V_iload (pc := 76) hk dX0_beginOf_76 0 rfl ?_
  refine V_if_eq (pc := 78) (tgt := 103) hk dX0_beginOf_78 rfl ?_ ?_
  · refine V_iload_n (pc := 103) hk dX0_beginOf_103 4 rfl ?_
    refine V_istore_n (pc := 104) (lc' := [(3, .int l3), (5, .int t0), (0, va_rf l0), (1, .int l1), (2, .int l2), (4, .int l4)]) (i := 3) hk dX0_beginOf_104 rfl (Nat.le_of_ble_eq_true rfl) rfl ?_
    refine V_iinc (pc := 105) (v := 1) (lc' := [(4, .int (l4 + 1)), (3, .int l3), (5, .int t0), (0, va_rf l0), (1, .int l1), (2, .int l2)]) hk dX0_beginOf_105 5 rfl rfl (Nat.le_of_ble_eq_true rfl) rfl ?_
    refine V_goto (pc := 108) (tgt := 5) hk dX0_beginOf_108 rfl ?_
    refine V_pick (lc' := [(0, va_rf l0), (1, .int l1), (2, .int l2), (3, .int l3), (4, .int (l4 + 1))]) [3, 4, 5, 1, 0] rfl ?_
    exact h5 w l0 l1 l2 l3 (l4 + 1)
  · refine V_iload_n (pc := 81) hk dX0_beginOf_81 4 rfl ?_
    refine V_aload_n (pc := 82) hk dX0_beginOf_82 1 rfl ?_
    refine g_X0_69 (pc := 83) hk dX0_beginOf_83 (fun v1 => ?_)
    refine V_iload (pc := 86) hk dX0_beginOf_86 5 rfl ?_
    refine V_iaload (pc := 88) hk dX0_beginOf_88 (fun v2 => ?_)
    refine V_aload_n (pc := 89) hk dX0_beginOf_89 1 rfl ?_
    refine g_X0_60 (pc := 90) hk dX0_beginOf_90 (fun v3 => ?_)
    refine V_iload (pc := 93) hk dX0_beginOf_93 5 rfl ?_
    refine V_iaload (pc := 95) hk dX0_beginOf_95 (fun v4 => ?_)
    refine V_iadd (pc := 96) hk dX0_beginOf_96 ?_
    refine V_mmax (pc := 97) hk q895 ⟨Nat.le_of_ble_eq_true rfl, Nat.le_of_ble_eq_true rfl⟩ (Nat.le_of_ble_eq_true rfl) dX0_beginOf_97 ?_
    refine V_goto (pc := 100) (tgt := 104) hk dX0_beginOf_100 rfl ?_
    refine V_istore_n (pc := 104) (lc' := [(3, .int (jmaxI l3 (v2 + v4))), (5, .int t0), (0, va_rf l0), (1, .int l1), (2, .int l2), (4, .int l4)]) (i := 3) hk dX0_beginOf_104 rfl (Nat.le_of_ble_eq_true rfl) rfl ?_
    refine V_iinc (pc := 105) (v := 1) (lc' := [(4, .int (l4 + 1)), (3, .int (jmaxI l3 (v2 + v4))), (5, .int t0), (0, va_rf l0), (1, .int l1), (2, .int l2)]) hk dX0_beginOf_105 5 rfl rfl (Nat.le_of_ble_eq_true rfl) rfl ?_
    refine V_goto (pc := 108) (tgt := 5) hk dX0_beginOf_108 rfl ?_
    refine V_pick (lc' := [(0, va_rf l0), (1, .int l1), (2, .int l2), (3, .int (jmaxI l3 (v2 + v4))), (4, .int (l4 + 1))]) [3, 4, 5, 1, 0] rfl ?_
    exact h5 w l0 l1 l2 (jmaxI l3 (v2 + v4)) (l4 + 1)
theorem eX0_beginOf_p73 {y : Fx (Int32 × Wd)} (hk : OkF y RX0 cX0_beginOf 6 3 82) (hR : RetM y rvI (some (.int))) {k5 : Wd → (Option Nat) → Int32 → Int32 → Int32 → Int32 → Option (Int32 × Wd)} (h5 : ∀ (w : Wd) (l0 : Option Nat) (l1 : Int32) (l2 : Int32) (l3 : Int32) (l4 : Int32), V y w [(0, va_rf l0), (1, .int l1), (2, .int l2), (3, .int l3), (4, .int l4)] [] 5 (k5 w l0 l1 l2 l3 l4)) (w : Wd) (l0 : Option Nat) (l1 : Int32) (l2 : Int32) (l3 : Int32) (l4 : Int32) : V y w [(0, va_rf l0), (1, .int l1), (2, .int l2), (3, .int l3), (4, .int l4)] [] 73 (mX0_beginOf_p73 k5 w l0 l1 l2 l3 l4) := by
  unfold mX0_beginOf_p73
  refine V_iconst (pc := 73) (v := 0) hk dX0_beginOf_73 rfl ?_
  exact eX0_beginOf_p74 hk hR h5 w l0 l1 l2 l3 l4 0
theorem eX0_beginOf_p69 {y : Fx (Int32 × Wd)} (hk : OkF y RX0 cX0_beginOf 6 3 82) (hR : RetM y rvI (some (.int))) {k5 : Wd → (Option Nat) → Int32 → Int32 → Int32 → Int32 → Option (Int32 × Wd)} (h5 : ∀ (w : Wd) (l0 : Option Nat) (l1 : Int32) (l2 : Int32) (l3 : Int32) (l4 : Int32), V y w [(0, va_rf l0), (1, .int l1), (2, .int l2), (3, .int l3), (4, .int l4)] [] 5 (k5 w l0 l1 l2 l3 l4)) (w : Wd) (l0 : Option Nat) (l1 : Int32) (l2 : Int32) (l3 : Int32) (l4 : Int32) : V y w [(0, va_rf l0), (1, .int l1), (2, .int l2), (3, .int l3), (4, .int l4)] [] 69 (mX0_beginOf_p69 k5 w l0 l1 l2 l3 l4) := by
  unfold mX0_beginOf_p69
  refine V_iconst (pc := 69) (v := 1) hk dX0_beginOf_69 rfl ?_
  refine V_goto (pc := 70) (tgt := 74) hk dX0_beginOf_70 rfl ?_
  exact eX0_beginOf_p74 hk hR h5 w l0 l1 l2 l3 l4 1
theorem eX0_beginOf_b5 {y : Fx (Int32 × Wd)} (hk : OkF y RX0 cX0_beginOf 6 3 82) (hR : RetM y rvI (some (.int))) {k5 : Wd → (Option Nat) → Int32 → Int32 → Int32 → Int32 → Option (Int32 × Wd)} (h5 : ∀ (w : Wd) (l0 : Option Nat) (l1 : Int32) (l2 : Int32) (l3 : Int32) (l4 : Int32), V y w [(0, va_rf l0), (1, .int l1), (2, .int l2), (3, .int l3), (4, .int l4)] [] 5 (k5 w l0 l1 l2 l3 l4)) (w : Wd) (l0 : Option Nat) (l1 : Int32) (l2 : Int32) (l3 : Int32) (l4 : Int32) : V y w [(0, va_rf l0), (1, .int l1), (2, .int l2), (3, .int l3), (4, .int l4)] [] 5 (mX0_beginOf_b5 k5 w l0 l1 l2 l3 l4) := by
  unfold mX0_beginOf_b5
  refine V_iload (pc := 5) hk dX0_beginOf_5 4 rfl ?_
  refine V_aload_n (pc := 7) hk dX0_beginOf_7 0 rfl ?_
  refine g_X0_361 (pc := 8) hk dX0_beginOf_8 (fun v1 => ?_)
  refine V_icmp_ge (pc := 11) (tgt := 111) hk dX0_beginOf_11 rfl ?_ ?_
  · refine V_iload_n (pc := 111) hk dX0_beginOf_111 3 rfl ?_
    exact V_ireturn (pc := 112) hk hR rfl dX0_beginOf_112
  · refine V_iload_n (pc := 14) hk dX0_beginOf_14 2 rfl ?_
    refine V_iload (pc := 15) hk dX0_beginOf_15 4 rfl ?_
    refine n_X0_218 (pc := 17) hk (fun r h => ctX0_has (fl y) (fK y) hk.2.2.2.2.2.2.2.1 l2 l4 w r h) ⟨Nat.le_of_ble_eq_true rfl, Nat.le_of_ble_eq_true rfl⟩ (Nat.le_of_ble_eq_true rfl) dX0_beginOf_17 (fun r2 => ?_)
    refine V_if_eq (pc := 20) (tgt := 73) hk dX0_beginOf_20 rfl ?_ ?_
    · exact eX0_beginOf_p73 hk hR h5 r2.2 l0 l1 l2 l3 l4
    · refine V_aload_n (pc := 23) hk dX0_beginOf_23 0 rfl ?_
      refine g_X0_21 (pc := 24) hk dX0_beginOf_24 (fun v3 => ?_)
      refine g_X0_86 (pc := 27) hk dX0_beginOf_27 (fun v4 => ?_)
      refine V_aload_n (pc := 30) hk dX0_beginOf_30 0 rfl ?_
      refine g_X0_57 (pc := 31) hk dX0_beginOf_31 (fun v5 => ?_)
      refine V_iload (pc := 34) hk dX0_beginOf_34 4 rfl ?_
      refine V_iaload (pc := 36) hk dX0_beginOf_36 (fun v6 => ?_)
      refine V_aaload (pc := 37) hk dX0_beginOf_37 (fun v7 => ?_)
      refine V_iconst (pc := 38) (v := 4) hk dX0_beginOf_38 rfl ?_
      refine V_iaload (pc := 39) hk dX0_beginOf_39 (fun v8 => ?_)
      refine V_aload_n (pc := 40) hk dX0_beginOf_40 0 rfl ?_
      refine g_X0_21 (pc := 41) hk dX0_beginOf_41 (fun v9 => ?_)
      refine g_X0_86 (pc := 44) hk dX0_beginOf_44 (fun v10 => ?_)
      refine V_aload_n (pc := 47) hk dX0_beginOf_47 0 rfl ?_
      refine g_X0_57 (pc := 48) hk dX0_beginOf_48 (fun v11 => ?_)
      refine V_iload_n (pc := 51) hk dX0_beginOf_51 1 rfl ?_
      refine V_iaload (pc := 52) hk dX0_beginOf_52 (fun v12 => ?_)
      refine V_aaload (pc := 53) hk dX0_beginOf_53 (fun v13 => ?_)
      refine V_iconst (pc := 54) (v := 4) hk dX0_beginOf_54 rfl ?_
      refine V_iaload (pc := 55) hk dX0_beginOf_55 (fun v14 => ?_)
      refine V_icmp_eq (pc := 56) (tgt := 69) hk dX0_beginOf_56 rfl ?_ ?_
      · exact eX0_beginOf_p69 hk hR h5 r2.2 l0 l1 l2 l3 l4
      · refine V_aload_n (pc := 59) hk dX0_beginOf_59 0 rfl ?_
        refine V_iload_n (pc := 60) hk dX0_beginOf_60 1 rfl ?_
        refine V_iload (pc := 61) hk dX0_beginOf_61 4 rfl ?_
        refine n_X0_374 (pc := 63) hk (fun b r h => ctX0_areClose (fl y) (fK y) hk.2.2.2.2.2.2.2.1 b l1 l4 r2.2 r h) ⟨Nat.le_of_ble_eq_true rfl, Nat.le_of_ble_eq_true rfl⟩ (Nat.le_of_ble_eq_true rfl) dX0_beginOf_63 (fun r15 => ?_)
        refine V_if_eq (pc := 66) (tgt := 73) hk dX0_beginOf_66 rfl ?_ ?_
        · exact eX0_beginOf_p73 hk hR h5 r15.2 l0 l1 l2 l3 l4
        · exact eX0_beginOf_p69 hk hR h5 r15.2 l0 l1 l2 l3 l4
theorem eX0_beginOf_l5 {y : Fx (Int32 × Wd)} (hk : OkF y RX0 cX0_beginOf 6 3 82) (hR : RetM y rvI (some (.int))) : ∀ (n : Nat) (w : Wd) (l0 : Option Nat) (l1 : Int32) (l2 : Int32) (l3 : Int32) (l4 : Int32), V y w [(0, va_rf l0), (1, .int l1), (2, .int l2), (3, .int l3), (4, .int l4)] [] 5 (mX0_beginOf_l5 n w l0 l1 l2 l3 l4) := by
  intro n
  induction n with
  | zero => intro w l0 l1 l2 l3 l4; exact V_none
  | succ n ih => intro w l0 l1 l2 l3 l4; exact eX0_beginOf_b5 hk hR ih w l0 l1 l2 l3 l4
theorem eX0_beginOf {y : Fx (Int32 × Wd)} (hk : OkF y RX0 cX0_beginOf 6 3 82) (hR : RetM y rvI (some (.int))) (this : Nat) (a0 : Int32) (a1 : Int32) (w : Wd) : V y w [(0, va_rf (some this)), (1, .int a0), (2, .int a1)] [] 0 (mX0_beginOf this a0 a1 w) := by
  unfold mX0_beginOf
  refine V_iconst (pc := 0) (v := 0) hk dX0_beginOf_0 rfl ?_
  refine V_istore_n (pc := 1) (lc' := [(3, .int 0), (0, va_rf ((some this))), (1, .int a0), (2, .int a1)]) (i := 3) hk dX0_beginOf_1 rfl (Nat.le_of_ble_eq_true rfl) rfl ?_
  refine V_iconst (pc := 2) (v := 0) hk dX0_beginOf_2 rfl ?_
  refine V_istore (pc := 3) (lc' := [(4, .int 0), (3, .int 0), (0, va_rf ((some this))), (1, .int a0), (2, .int a1)]) (i := 4) hk dX0_beginOf_3 (Nat.le_of_ble_eq_true rfl) rfl ?_
  refine V_pick (lc' := [(0, va_rf ((some this))), (1, .int a0), (2, .int a1), (3, .int 0), (4, .int 0)]) [2, 3, 4, 1, 0] rfl ?_
  exact eX0_beginOf_l5 hk hR FU w ((some this)) a0 a1 0 0
theorem ctX0_beginOf (l : Launch) (K : Kx) (hI : Ini K) (b : Nat) (a0 : Int32) (a1 : Int32) (w : Wd) : ∀ r, mX0_beginOf b a0 a1 w = some r → Ct l K 3 82 yX0_beginOf (ws_ yX0_beginOf cX0_beginOf 6 (some (.int))) [.ref b, .int a0, .int a1] w (rvI r.1) r.2 := Ct_of rvI l K hI 3 82 [.ref b, .int a0, .int a1] w (by decide) (lc0 := [(0, .ref b), (1, .int a0), (2, .int a1)]) rfl (Nat.le_of_ble_eq_true rfl) (fun y hk hR _ _ hin => eX0_beginOf hk hR b a0 a1 w)
noncomputable def mX0_both_b54 (s_X0_both : Nat → Int32 → Int32 → Int32 → Wd → Option (Unit × Wd)) (k54 : Wd → (Option Nat) → Int32 → Int32 → Int32 → Int32 → Int32 → Option (Unit × Wd)) (w : Wd) (l0 : Option Nat) (l1 : Int32) (l2 : Int32) (l3 : Int32) (l4 : Int32) (l5 : Int32) : Option (Unit × Wd) :=
(gI w l0 0 20).bind fun v1 =>
if v1 ≤ l5 then (
some ((), w))
else (
(gR w l0 0 0).bind fun v2 =>
(gR w v2 1 2).bind fun v3 =>
(gR w l0 0 14).bind fun v4 =>
(ia w v4 l5).bind fun v5 =>
(aa w v3 v5).bind fun v6 =>
(ia w v6 4).bind fun v7 =>
(cal w (mX0_has l2 l5 w)).bind fun r8 =>
if ¬ r8.1 = 0 then (
k54 r8.2 l0 l1 l2 l3 l4 (l5 + 1))
else (
if (l4 &&& (1 <<< (v7 &&& 31))) = 0 then (
(some (l4 ||| (1 <<< (v7 &&& 31)))).bind fun (x9 : Int32) =>
(gR r8.2 l0 0 18).bind fun v10 =>
(recv r8.2 l0 0).bind fun b12 => (cal r8.2 (mX0_beginOf b12 l5 l2 r8.2)).bind fun r11 =>
(ias r11.2 v10 l5 r11.1).bind fun w13 =>
(gR w13 l0 0 18).bind fun v14 =>
(ia w13 v14 l5).bind fun v15 =>
(gR w13 l0 0 15).bind fun v16 =>
(ia w13 v16 l5).bind fun v17 =>
(recv w13 l0 0).bind fun b19 => (cal w13 (s_X0_both b19 (l1 + 1) (l2 ||| (1 <<< (l5 &&& 31))) (jmaxI l3 (v15 + v17)) w13)).bind fun r18 =>
k54 r18.2 l0 l1 l2 l3 x9 (l5 + 1))
else (
k54 r8.2 l0 l1 l2 l3 l4 (l5 + 1))))
noncomputable def mX0_both_l54 (s_X0_both : Nat → Int32 → Int32 → Int32 → Wd → Option (Unit × Wd)) : Nat → Wd → (Option Nat) → Int32 → Int32 → Int32 → Int32 → Int32 → Option (Unit × Wd)
  | 0, _, _, _, _, _, _, _ => none
  | n + 1, w, l0, l1, l2, l3, l4, l5 => mX0_both_b54 s_X0_both (mX0_both_l54 s_X0_both n) w l0 l1 l2 l3 l4 l5
noncomputable def mX0_both_p17 (s_X0_both : Nat → Int32 → Int32 → Int32 → Wd → Option (Unit × Wd)) (w : Wd) (l0 : Option Nat) (l1 : Int32) (l2 : Int32) (l3 : Int32) : Option (Unit × Wd) :=
(gI w l0 0 20).bind fun v1 =>
if ¬ l1 = v1 then (
mX0_both_l54 s_X0_both FU w l0 l1 l2 l3 0 0)
else (
(pf w l0 0 21 (.int l3)).bind fun w2 =>
(gR w2 l0 0 18).bind fun v3 =>
(gR w2 l0 0 19).bind fun v4 =>
(gI w2 l0 0 20).bind fun v5 =>
(acpI w2 v3 0 v4 0 v5).bind fun w6 =>
some ((), w6))
noncomputable def mX0_both (s_X0_both : Nat → Int32 → Int32 → Int32 → Wd → Option (Unit × Wd)) (this : Nat) (a0 : Int32) (a1 : Int32) (a2 : Int32) (w : Wd) : Option (Unit × Wd) :=
(gI w ((some this)) 0 21).bind fun v1 =>
if v1 = (-1) then (
mX0_both_p17 s_X0_both w ((some this)) a0 a1 a2)
else (
(gI w ((some this)) 0 21).bind fun v2 =>
if a2 < v2 then (
mX0_both_p17 s_X0_both w ((some this)) a0 a1 a2)
else (
some ((), w)))
noncomputable def rX0_both : Nat → Nat → Int32 → Int32 → Int32 → Wd → Option (Unit × Wd)
  | 0 => fun _ _ _ _ _ => none
  | d + 1 => mX0_both (rX0_both d)
theorem eX0_both_b54 {y : Fx (Unit × Wd)} {F L F9 L9 : Nat} (hk : OkF y RX0 cX0_both 7 F L) (hR : RetM y rvV none) (hF1 : F9 + 1 ≤ F ∧ 60 + L9 ≤ L) (hF2 : 4 ≤ F ∧ 107 ≤ L) {s_X0_both : Nat → Int32 → Int32 → Int32 → Wd → Option (Unit × Wd)} (hs_X0_both : ∀ (b : Nat) (a0 : Int32) (a1 : Int32) (a2 : Int32) (w : Wd) r, s_X0_both b a0 a1 a2 w = some r → Ct (fl y) (fK y) F9 L9 yX0_both (ws_ yX0_both cX0_both 7 none) [.ref b, .int a0, .int a1, .int a2] w (rvV r.1) r.2) {k54 : Wd → (Option Nat) → Int32 → Int32 → Int32 → Int32 → Int32 → Option (Unit × Wd)} (h54 : ∀ (w : Wd) (l0 : Option Nat) (l1 : Int32) (l2 : Int32) (l3 : Int32) (l4 : Int32) (l5 : Int32), V y w [(0, va_rf l0), (1, .int l1), (2, .int l2), (3, .int l3), (4, .int l4), (5, .int l5)] [] 54 (k54 w l0 l1 l2 l3 l4 l5)) (w : Wd) (l0 : Option Nat) (l1 : Int32) (l2 : Int32) (l3 : Int32) (l4 : Int32) (l5 : Int32) : V y w [(0, va_rf l0), (1, .int l1), (2, .int l2), (3, .int l3), (4, .int l4), (5, .int l5)] [] 54 (mX0_both_b54 s_X0_both k54 w l0 l1 l2 l3 l4 l5) := by
  unfold mX0_both_b54
  refine V_iload (pc := 54) hk dX0_both_54 5 rfl ?_
  refine V_aload_n (pc := 56) hk dX0_both_56 0 rfl ?_
  refine g_X0_361 (pc := 57) hk dX0_both_57 (fun v1 => ?_)
  refine V_icmp_ge (pc := 60) (tgt := 163) hk dX0_both_60 rfl ?_ ?_
  · exact V_return (pc := 163) hk hR rfl dX0_both_163
  · refine V_iconst (pc := 63) (v := 1) hk dX0_both_63 rfl ?_
    refine V_aload_n (pc := 64) hk dX0_both_64 0 rfl ?_
    refine g_X0_21 (pc := 65) hk dX0_both_65 (fun v2 => ?_)
    refine g_X0_86 (pc := 68) hk dX0_both_68 (fun v3 => ?_)
    refine V_aload_n (pc := 71) hk dX0_both_71 0 rfl ?_
    refine g_X0_57 (pc := 72) hk dX0_both_72 (fun v4 => ?_)
    refine V_iload (pc := 75) hk dX0_both_75 5 rfl ?_
    refine V_iaload (pc := 77) hk dX0_both_77 (fun v5 => ?_)
    refine V_aaload (pc := 78) hk dX0_both_78 (fun v6 => ?_)
    refine V_iconst (pc := 79) (v := 4) hk dX0_both_79 rfl ?_
    refine V_iaload (pc := 80) hk dX0_both_80 (fun v7 => ?_)
    refine V_ishl (pc := 81) hk dX0_both_81 ?_
    refine V_istore (pc := 82) (lc' := [(6, .int (1 <<< (v7 &&& 31))), (0, va_rf l0), (1, .int l1), (2, .int l2), (3, .int l3), (4, .int l4), (5, .int l5)]) (i := 6) hk dX0_both_82 (Nat.le_of_ble_eq_true rfl) rfl ?_
    refine V_iload_n (pc := 84) hk dX0_both_84 3 rfl ?_
    refine V_iload (pc := 85) hk dX0_both_85 6 rfl ?_
    refine n_X0_218 (pc := 87) hk (fun r h => ctX0_has (fl y) (fK y) hk.2.2.2.2.2.2.2.1 l2 l5 w r h) ⟨by omega, by omega⟩ (Nat.le_of_ble_eq_true rfl) dX0_both_87 (fun r8 => ?_)
    refine V_if_ne (pc := 90) (tgt := 157) hk dX0_both_90 rfl ?_ ?_
    · refine V_iinc (pc := 157) (v := 1) (lc' := [(5, .int (l5 + 1)), (6, .int (1 <<< (v7 &&& 31))), (0, va_rf l0), (1, .int l1), (2, .int l2), (3, .int l3), (4, .int l4)]) hk dX0_both_157 6 rfl rfl (Nat.le_of_ble_eq_true rfl) rfl ?_
      refine V_goto (pc := 160) (tgt := 54) hk dX0_both_160 rfl ?_
      refine V_pick (lc' := [(0, va_rf l0), (1, .int l1), (2, .int l2), (3, .int l3), (4, .int l4), (5, .int (l5 + 1))]) [2, 3, 4, 5, 6, 0] rfl ?_
      exact h54 r8.2 l0 l1 l2 l3 l4 (l5 + 1)
    · refine V_iload (pc := 93) hk dX0_both_93 5 rfl ?_
      refine V_iload (pc := 95) hk dX0_both_95 0 rfl ?_
      refine V_iand (pc := 97) hk dX0_both_97 ?_
      refine V_if_eq (pc := 98) (tgt := 104) hk dX0_both_98 rfl ?_ ?_
      · refine V_iload (pc := 104) hk dX0_both_104 5 rfl ?_
        refine V_iload (pc := 106) hk dX0_both_106 0 rfl ?_
        refine V_ior (pc := 108) hk dX0_both_108 ?_
        refine V_nmI (fun x9 => ?_)
        refine V_istore (pc := 109) (lc' := [(4, .int x9), (6, .int (1 <<< (v7 &&& 31))), (0, va_rf l0), (1, .int l1), (2, .int l2), (3, .int l3), (5, .int l5)]) (i := 4) hk dX0_both_109 (Nat.le_of_ble_eq_true rfl) rfl ?_
        refine V_aload_n (pc := 111) hk dX0_both_111 2 rfl ?_
        refine g_X0_69 (pc := 112) hk dX0_both_112 (fun v10 => ?_)
        refine V_iload (pc := 115) hk dX0_both_115 6 rfl ?_
        refine V_aload_n (pc := 117) hk dX0_both_117 2 rfl ?_
        refine V_iload (pc := 118) hk dX0_both_118 6 rfl ?_
        refine V_iload_n (pc := 120) hk dX0_both_120 4 rfl ?_
        refine n_X0_377 (pc := 121) hk (fun b r h => ctX0_beginOf (fl y) (fK y) hk.2.2.2.2.2.2.2.1 b l5 l2 r8.2 r h) ⟨by omega, by omega⟩ (by simp [rf_cat, cat_int, cat_long, cat_ref]) dX0_both_121 (fun r11 => ?_)
        refine V_iastore (pc := 124) hk dX0_both_124 (fun w13 => ?_)
        refine V_aload_n (pc := 125) hk dX0_both_125 2 rfl ?_
        refine V_iload_n (pc := 126) hk dX0_both_126 3 rfl ?_
        refine V_iconst (pc := 127) (v := 1) hk dX0_both_127 rfl ?_
        refine V_iadd (pc := 128) hk dX0_both_128 ?_
        refine V_iload_n (pc := 129) hk dX0_both_129 4 rfl ?_
        refine V_iconst (pc := 130) (v := 1) hk dX0_both_130 rfl ?_
        refine V_iload (pc := 131) hk dX0_both_131 6 rfl ?_
        refine V_ishl (pc := 133) hk dX0_both_133 ?_
        refine V_ior (pc := 134) hk dX0_both_134 ?_
        refine V_iload_n (pc := 135) hk dX0_both_135 5 rfl ?_
        refine V_aload_n (pc := 136) hk dX0_both_136 2 rfl ?_
        refine g_X0_69 (pc := 137) hk dX0_both_137 (fun v14 => ?_)
        refine V_iload (pc := 140) hk dX0_both_140 6 rfl ?_
        refine V_iaload (pc := 142) hk dX0_both_142 (fun v15 => ?_)
        refine V_aload_n (pc := 143) hk dX0_both_143 2 rfl ?_
        refine g_X0_60 (pc := 144) hk dX0_both_144 (fun v16 => ?_)
        refine V_iload (pc := 147) hk dX0_both_147 6 rfl ?_
        refine V_iaload (pc := 149) hk dX0_both_149 (fun v17 => ?_)
        refine V_iadd (pc := 150) hk dX0_both_150 ?_
        refine V_mmax (pc := 151) hk q895 ⟨by omega, by omega⟩ (by simp [rf_cat, cat_int, cat_long, cat_ref]) dX0_both_151 ?_
        refine n_X0_380 (pc := 154) hk (fun b r h => hs_X0_both b (l1 + 1) (l2 ||| (1 <<< (l5 &&& 31))) (jmaxI l3 (v15 + v17)) w13 r h) ⟨by omega, by omega⟩ (Nat.le_of_ble_eq_true rfl) dX0_both_154 (fun r18 => ?_)
        refine V_iinc (pc := 157) (v := 1) (lc' := [(5, .int (l5 + 1)), (4, .int x9), (6, .int (1 <<< (v7 &&& 31))), (0, va_rf l0), (1, .int l1), (2, .int l2), (3, .int l3)]) hk dX0_both_157 6 rfl rfl (Nat.le_of_ble_eq_true rfl) rfl ?_
        refine V_goto (pc := 160) (tgt := 54) hk dX0_both_160 rfl ?_
        refine V_pick (lc' := [(0, va_rf l0), (1, .int l1), (2, .int l2), (3, .int l3), (4, .int x9), (5, .int (l5 + 1))]) [3, 4, 5, 6, 1, 0] rfl ?_
        exact h54 r18.2 l0 l1 l2 l3 x9 (l5 + 1)
      · refine V_goto (pc := 101) (tgt := 157) hk dX0_both_101 rfl ?_
        refine V_iinc (pc := 157) (v := 1) (lc' := [(5, .int (l5 + 1)), (6, .int (1 <<< (v7 &&& 31))), (0, va_rf l0), (1, .int l1), (2, .int l2), (3, .int l3), (4, .int l4)]) hk dX0_both_157 6 rfl rfl (Nat.le_of_ble_eq_true rfl) rfl ?_
        refine V_goto (pc := 160) (tgt := 54) hk dX0_both_160 rfl ?_
        refine V_pick (lc' := [(0, va_rf l0), (1, .int l1), (2, .int l2), (3, .int l3), (4, .int l4), (5, .int (l5 + 1))]) [2, 3, 4, 5, 6, 0] rfl ?_
        exact h54 r8.2 l0 l1 l2 l3 l4 (l5 + 1)
theorem eX0_both_l54 {y : Fx (Unit × Wd)} {F L F9 L9 : Nat} (hk : OkF y RX0 cX0_both 7 F L) (hR : RetM y rvV none) (hF1 : F9 + 1 ≤ F ∧ 60 + L9 ≤ L) (hF2 : 4 ≤ F ∧ 107 ≤ L) {s_X0_both : Nat → Int32 → Int32 → Int32 → Wd → Option (Unit × Wd)} (hs_X0_both : ∀ (b : Nat) (a0 : Int32) (a1 : Int32) (a2 : Int32) (w : Wd) r, s_X0_both b a0 a1 a2 w = some r → Ct (fl y) (fK y) F9 L9 yX0_both (ws_ yX0_both cX0_both 7 none) [.ref b, .int a0, .int a1, .int a2] w (rvV r.1) r.2) : ∀ (n : Nat) (w : Wd) (l0 : Option Nat) (l1 : Int32) (l2 : Int32) (l3 : Int32) (l4 : Int32) (l5 : Int32), V y w [(0, va_rf l0), (1, .int l1), (2, .int l2), (3, .int l3), (4, .int l4), (5, .int l5)] [] 54 (mX0_both_l54 s_X0_both n w l0 l1 l2 l3 l4 l5) := by
  intro n
  induction n with
  | zero => intro w l0 l1 l2 l3 l4 l5; exact V_none
  | succ n ih => intro w l0 l1 l2 l3 l4 l5; exact eX0_both_b54 hk hR hF1 hF2 hs_X0_both ih w l0 l1 l2 l3 l4 l5
theorem eX0_both_p17 {y : Fx (Unit × Wd)} {F L F9 L9 : Nat} (hk : OkF y RX0 cX0_both 7 F L) (hR : RetM y rvV none) (hF1 : F9 + 1 ≤ F ∧ 60 + L9 ≤ L) (hF2 : 4 ≤ F ∧ 107 ≤ L) {s_X0_both : Nat → Int32 → Int32 → Int32 → Wd → Option (Unit × Wd)} (hs_X0_both : ∀ (b : Nat) (a0 : Int32) (a1 : Int32) (a2 : Int32) (w : Wd) r, s_X0_both b a0 a1 a2 w = some r → Ct (fl y) (fK y) F9 L9 yX0_both (ws_ yX0_both cX0_both 7 none) [.ref b, .int a0, .int a1, .int a2] w (rvV r.1) r.2) (w : Wd) (l0 : Option Nat) (l1 : Int32) (l2 : Int32) (l3 : Int32) : V y w [(0, va_rf l0), (1, .int l1), (2, .int l2), (3, .int l3)] [] 17 (mX0_both_p17 s_X0_both w l0 l1 l2 l3) := by
  unfold mX0_both_p17
  refine V_iload_n (pc := 17) hk dX0_both_17 1 rfl ?_
  refine V_aload_n (pc := 18) hk dX0_both_18 0 rfl ?_
  refine g_X0_361 (pc := 19) hk dX0_both_19 (fun v1 => ?_)
  refine V_icmp_ne (pc := 22) (tgt := 48) hk dX0_both_22 rfl ?_ ?_
  · refine V_iconst (pc := 48) (v := 0) hk dX0_both_48 rfl ?_
    refine V_istore (pc := 49) (lc' := [(4, .int 0), (0, va_rf l0), (1, .int l1), (2, .int l2), (3, .int l3)]) (i := 4) hk dX0_both_49 (Nat.le_of_ble_eq_true rfl) rfl ?_
    refine V_iconst (pc := 51) (v := 0) hk dX0_both_51 rfl ?_
    refine V_istore (pc := 52) (lc' := [(5, .int 0), (4, .int 0), (0, va_rf l0), (1, .int l1), (2, .int l2), (3, .int l3)]) (i := 5) hk dX0_both_52 (Nat.le_of_ble_eq_true rfl) rfl ?_
    refine V_pick (lc' := [(0, va_rf l0), (1, .int l1), (2, .int l2), (3, .int l3), (4, .int 0), (5, .int 0)]) [2, 3, 4, 5, 1, 0] rfl ?_
    exact eX0_both_l54 hk hR hF1 hF2 hs_X0_both FU w l0 l1 l2 l3 0 0
  · refine V_aload_n (pc := 25) hk dX0_both_25 0 rfl ?_
    refine V_iload_n (pc := 26) hk dX0_both_26 3 rfl ?_
    refine p_X0_364 (pc := 27) hk dX0_both_27 (fun w2 => ?_)
    refine V_aload_n (pc := 30) hk dX0_both_30 0 rfl ?_
    refine g_X0_69 (pc := 31) hk dX0_both_31 (fun v3 => ?_)
    refine V_iconst (pc := 34) (v := 0) hk dX0_both_34 rfl ?_
    refine V_aload_n (pc := 35) hk dX0_both_35 0 rfl ?_
    refine g_X0_72 (pc := 36) hk dX0_both_36 (fun v4 => ?_)
    refine V_iconst (pc := 39) (v := 0) hk dX0_both_39 rfl ?_
    refine V_aload_n (pc := 40) hk dX0_both_40 0 rfl ?_
    refine g_X0_361 (pc := 41) hk dX0_both_41 (fun v5 => ?_)
    refine V_acpI (pc := 44) hk (acpW hk q909 q222 q221 q132) ⟨by omega, by omega⟩ (Nat.le_of_ble_eq_true rfl) dX0_both_44 (fun w6 => ?_)
    exact V_return (pc := 47) hk hR rfl dX0_both_47
theorem eX0_both {y : Fx (Unit × Wd)} {F L F9 L9 : Nat} (hk : OkF y RX0 cX0_both 7 F L) (hR : RetM y rvV none) (hF1 : F9 + 1 ≤ F ∧ 60 + L9 ≤ L) (hF2 : 4 ≤ F ∧ 107 ≤ L) {s_X0_both : Nat → Int32 → Int32 → Int32 → Wd → Option (Unit × Wd)} (hs_X0_both : ∀ (b : Nat) (a0 : Int32) (a1 : Int32) (a2 : Int32) (w : Wd) r, s_X0_both b a0 a1 a2 w = some r → Ct (fl y) (fK y) F9 L9 yX0_both (ws_ yX0_both cX0_both 7 none) [.ref b, .int a0, .int a1, .int a2] w (rvV r.1) r.2) (this : Nat) (a0 : Int32) (a1 : Int32) (a2 : Int32) (w : Wd) : V y w [(0, va_rf (some this)), (1, .int a0), (2, .int a1), (3, .int a2)] [] 0 (mX0_both s_X0_both this a0 a1 a2 w) := by
  unfold mX0_both
  refine V_aload_n (pc := 0) hk dX0_both_0 0 rfl ?_
  refine g_X0_364 (pc := 1) hk dX0_both_1 (fun v1 => ?_)
  refine V_iconst (pc := 4) (v := (-1)) hk dX0_both_4 (by decide +kernel) ?_
  refine V_icmp_eq (pc := 5) (tgt := 17) hk dX0_both_5 rfl ?_ ?_
  · exact eX0_both_p17 hk hR hF1 hF2 hs_X0_both w ((some this)) a0 a1 a2
  · refine V_iload_n (pc := 8) hk dX0_both_8 3 rfl ?_
    refine V_aload_n (pc := 9) hk dX0_both_9 0 rfl ?_
    refine g_X0_364 (pc := 10) hk dX0_both_10 (fun v2 => ?_)
    refine V_icmp_lt (pc := 13) (tgt := 17) hk dX0_both_13 rfl ?_ ?_
    · exact eX0_both_p17 hk hR hF1 hF2 hs_X0_both w ((some this)) a0 a1 a2
    · exact V_return (pc := 16) hk hR rfl dX0_both_16
theorem crX0_both (l : Launch) (K : Kx) (hI : Ini K) : ∀ (d : Nat) (b : Nat) (a0 : Int32) (a1 : Int32) (a2 : Int32) (w : Wd) (r : Unit × Wd), rX0_both d b a0 a1 a2 w = some r → Ct l K (4 + d) (107 + 60 * d) yX0_both (ws_ yX0_both cX0_both 7 none) [.ref b, .int a0, .int a1, .int a2] w (rvV r.1) r.2 := by
  intro d
  induction d with
  | zero => intro b a0 a1 a2 w r h; cases h
  | succ d ih =>
    intro b a0 a1 a2 w
    exact Ct_of rvV l K hI (4 + (d + 1)) (107 + 60 * (d + 1)) [.ref b, .int a0, .int a1, .int a2] w (by decide) (lc0 := [(0, .ref b), (1, .int a0), (2, .int a1), (3, .int a2)]) rfl (Nat.le_of_ble_eq_true rfl) (fun y hk hR hl hK hin => eX0_both (F9 := 4 + d) (L9 := 107 + 60 * d) hk hR ⟨by omega, by omega⟩ ⟨by omega, by omega⟩ (by rw [hl, hK]; exact ih) b a0 a1 a2 w)
noncomputable def mX0_twoJibs_b52 (k52 : Wd → (Option Nat) → Int32 → Int32 → Option (Int32 × Wd)) (w : Wd) (l0 : Option Nat) (l2 : Int32) (l3 : Int32) : Option (Int32 × Wd) :=
(gR w l0 0 14).bind fun v1 =>
(ia w v1 l3).bind fun v2 =>
if v2 = l2 then (
(gR w l0 0 19).bind fun v3 =>
(ia w v3 l3).bind fun v4 =>
some (v4, w))
else (
k52 w l0 l2 (l3 + 1))
noncomputable def mX0_twoJibs_l52 : Nat → Wd → (Option Nat) → Int32 → Int32 → Option (Int32 × Wd)
  | 0, _, _, _, _ => none
  | n + 1, w, l0, l2, l3 => mX0_twoJibs_b52 (mX0_twoJibs_l52 n) w l0 l2 l3
noncomputable def mX0_twoJibs_p33 (w : Wd) (l0 : Option Nat) (l2 : Int32) : Option (Int32 × Wd) :=
(recv w l0 0).bind fun b2 => (cal w (rX0_both 12 b2 0 0 0 w)).bind fun r1 =>
if ¬ l2 = (-1) then (
mX0_twoJibs_l52 FU r1.2 l0 l2 0)
else (
(gI r1.2 l0 0 21).bind fun v3 =>
some (v3, r1.2))
noncomputable def mX0_twoJibs (this : Nat) (a0 : Int32) (a1 : Int32) (w : Wd) : Option (Int32 × Wd) :=
(recv w ((some this)) 0).bind fun b2 => (cal w (mX0_lays b2 a0 8 w)).bind fun r1 =>
if r1.1 = 0 then (
some ((-1), r1.2))
else (
if a1 = (-1) then (
mX0_twoJibs_p33 r1.2 ((some this)) a1)
else (
(recv r1.2 ((some this)) 0).bind fun b4 => (cal r1.2 (mX0_isOrder b4 a1 r1.2)).bind fun r3 =>
if r3.1 = 0 then (
some ((-1), r3.2))
else (
(cal r3.2 (mX0_has a0 a1 r3.2)).bind fun r5 =>
if ¬ r5.1 = 0 then (
mX0_twoJibs_p33 r5.2 ((some this)) a1)
else (
some ((-1), r5.2)))))
theorem eX0_twoJibs_b52 {y : Fx (Int32 × Wd)} (hk : OkF y RX0 cX0_twoJibs 4 109 6222) (hR : RetM y rvI (some (.int))) {k52 : Wd → (Option Nat) → Int32 → Int32 → Option (Int32 × Wd)} (h52 : ∀ (w : Wd) (l0 : Option Nat) (l2 : Int32) (l3 : Int32), V y w [(0, va_rf l0), (2, .int l2), (3, .int l3)] [] 52 (k52 w l0 l2 l3)) (w : Wd) (l0 : Option Nat) (l2 : Int32) (l3 : Int32) : V y w [(0, va_rf l0), (2, .int l2), (3, .int l3)] [] 52 (mX0_twoJibs_b52 k52 w l0 l2 l3) := by
  unfold mX0_twoJibs_b52
  refine V_aload_n (pc := 52) hk dX0_twoJibs_52 0 rfl ?_
  refine g_X0_57 (pc := 53) hk dX0_twoJibs_53 (fun v1 => ?_)
  refine V_iload_n (pc := 56) hk dX0_twoJibs_56 2 rfl ?_
  refine V_iaload (pc := 57) hk dX0_twoJibs_57 (fun v2 => ?_)
  refine V_iload_n (pc := 58) hk dX0_twoJibs_58 1 rfl ?_
  refine V_icmp_eq (pc := 59) (tgt := 68) hk dX0_twoJibs_59 rfl ?_ ?_
  · refine V_aload_n (pc := 68) hk dX0_twoJibs_68 0 rfl ?_
    refine g_X0_72 (pc := 69) hk dX0_twoJibs_69 (fun v3 => ?_)
    refine V_iload_n (pc := 72) hk dX0_twoJibs_72 2 rfl ?_
    refine V_iaload (pc := 73) hk dX0_twoJibs_73 (fun v4 => ?_)
    exact V_ireturn (pc := 74) hk hR rfl dX0_twoJibs_74
  · refine V_iinc (pc := 62) (v := 1) (lc' := [(3, .int (l3 + 1)), (0, va_rf l0), (2, .int l2)]) hk dX0_twoJibs_62 2 rfl rfl (Nat.le_of_ble_eq_true rfl) rfl ?_
    refine V_goto (pc := 65) (tgt := 52) hk dX0_twoJibs_65 rfl ?_
    refine V_pick (lc' := [(0, va_rf l0), (2, .int l2), (3, .int (l3 + 1))]) [1, 2, 0] rfl ?_
    exact h52 w l0 l2 (l3 + 1)
theorem eX0_twoJibs_l52 {y : Fx (Int32 × Wd)} (hk : OkF y RX0 cX0_twoJibs 4 109 6222) (hR : RetM y rvI (some (.int))) : ∀ (n : Nat) (w : Wd) (l0 : Option Nat) (l2 : Int32) (l3 : Int32), V y w [(0, va_rf l0), (2, .int l2), (3, .int l3)] [] 52 (mX0_twoJibs_l52 n w l0 l2 l3) := by
  intro n
  induction n with
  | zero => intro w l0 l2 l3; exact V_none
  | succ n ih => intro w l0 l2 l3; exact eX0_twoJibs_b52 hk hR ih w l0 l2 l3
theorem eX0_twoJibs_p33 {y : Fx (Int32 × Wd)} (hk : OkF y RX0 cX0_twoJibs 4 109 6222) (hR : RetM y rvI (some (.int))) (w : Wd) (l0 : Option Nat) (l2 : Int32) : V y w [(0, va_rf l0), (2, .int l2)] [] 33 (mX0_twoJibs_p33 w l0 l2) := by
  unfold mX0_twoJibs_p33
  refine V_aload_n (pc := 33) hk dX0_twoJibs_33 0 rfl ?_
  refine V_iconst (pc := 34) (v := 0) hk dX0_twoJibs_34 rfl ?_
  refine V_iconst (pc := 35) (v := 0) hk dX0_twoJibs_35 rfl ?_
  refine V_iconst (pc := 36) (v := 0) hk dX0_twoJibs_36 rfl ?_
  refine n_X0_380 (pc := 37) hk (fun b r h => crX0_both (fl y) (fK y) hk.2.2.2.2.2.2.2.1 12 b 0 0 0 w r h) ⟨Nat.le_of_ble_eq_true rfl, Nat.le_of_ble_eq_true rfl⟩ (Nat.le_of_ble_eq_true rfl) dX0_twoJibs_37 (fun r1 => ?_)
  refine V_iload_n (pc := 40) hk dX0_twoJibs_40 1 rfl ?_
  refine V_iconst (pc := 41) (v := (-1)) hk dX0_twoJibs_41 (by decide +kernel) ?_
  refine V_icmp_ne (pc := 42) (tgt := 50) hk dX0_twoJibs_42 rfl ?_ ?_
  · refine V_iconst (pc := 50) (v := 0) hk dX0_twoJibs_50 rfl ?_
    refine V_istore_n (pc := 51) (lc' := [(3, .int 0), (0, va_rf l0), (2, .int l2)]) (i := 3) hk dX0_twoJibs_51 rfl (Nat.le_of_ble_eq_true rfl) rfl ?_
    refine V_pick (lc' := [(0, va_rf l0), (2, .int l2), (3, .int 0)]) [1, 2, 0] rfl ?_
    exact eX0_twoJibs_l52 hk hR FU r1.2 l0 l2 0
  · refine V_aload_n (pc := 45) hk dX0_twoJibs_45 0 rfl ?_
    refine g_X0_364 (pc := 46) hk dX0_twoJibs_46 (fun v3 => ?_)
    exact V_ireturn (pc := 49) hk hR rfl dX0_twoJibs_49
theorem eX0_twoJibs {y : Fx (Int32 × Wd)} (hk : OkF y RX0 cX0_twoJibs 4 109 6222) (hR : RetM y rvI (some (.int))) (this : Nat) (a0 : Int32) (a1 : Int32) (w : Wd) : V y w [(0, va_rf (some this)), (1, .int a0), (2, .int a1)] [] 0 (mX0_twoJibs this a0 a1 w) := by
  unfold mX0_twoJibs
  refine V_aload_n (pc := 0) hk dX0_twoJibs_0 0 rfl ?_
  refine V_iload_n (pc := 1) hk dX0_twoJibs_1 1 rfl ?_
  refine V_bipush (pc := 2) (v := 8) hk dX0_twoJibs_2 rfl ?_
  refine n_X0_371 (pc := 4) hk (fun b r h => ctX0_lays (fl y) (fK y) hk.2.2.2.2.2.2.2.1 b a0 8 w r h) ⟨Nat.le_of_ble_eq_true rfl, Nat.le_of_ble_eq_true rfl⟩ (Nat.le_of_ble_eq_true rfl) dX0_twoJibs_4 (fun r1 => ?_)
  refine V_if_eq (pc := 7) (tgt := 31) hk dX0_twoJibs_7 rfl ?_ ?_
  · refine V_iconst (pc := 31) (v := (-1)) hk dX0_twoJibs_31 (by decide +kernel) ?_
    exact V_ireturn (pc := 32) hk hR rfl dX0_twoJibs_32
  · refine V_iload_n (pc := 10) hk dX0_twoJibs_10 2 rfl ?_
    refine V_iconst (pc := 11) (v := (-1)) hk dX0_twoJibs_11 (by decide +kernel) ?_
    refine V_icmp_eq (pc := 12) (tgt := 33) hk dX0_twoJibs_12 rfl ?_ ?_
    · refine V_pick (lc' := [(0, va_rf ((some this))), (2, .int a1)]) [0, 2] rfl ?_
      exact eX0_twoJibs_p33 hk hR r1.2 ((some this)) a1
    · refine V_aload_n (pc := 15) hk dX0_twoJibs_15 0 rfl ?_
      refine V_iload_n (pc := 16) hk dX0_twoJibs_16 2 rfl ?_
      refine n_X0_215 (pc := 17) hk (fun b r h => ctX0_isOrder (fl y) (fK y) hk.2.2.2.2.2.2.2.1 b a1 r1.2 r h) ⟨Nat.le_of_ble_eq_true rfl, Nat.le_of_ble_eq_true rfl⟩ (Nat.le_of_ble_eq_true rfl) dX0_twoJibs_17 (fun r3 => ?_)
      refine V_if_eq (pc := 20) (tgt := 31) hk dX0_twoJibs_20 rfl ?_ ?_
      · refine V_iconst (pc := 31) (v := (-1)) hk dX0_twoJibs_31 (by decide +kernel) ?_
        exact V_ireturn (pc := 32) hk hR rfl dX0_twoJibs_32
      · refine V_iload_n (pc := 23) hk dX0_twoJibs_23 1 rfl ?_
        refine V_iload_n (pc := 24) hk dX0_twoJibs_24 2 rfl ?_
        refine n_X0_218 (pc := 25) hk (fun r h => ctX0_has (fl y) (fK y) hk.2.2.2.2.2.2.2.1 a0 a1 r3.2 r h) ⟨Nat.le_of_ble_eq_true rfl, Nat.le_of_ble_eq_true rfl⟩ (Nat.le_of_ble_eq_true rfl) dX0_twoJibs_25 (fun r5 => ?_)
        refine V_if_ne (pc := 28) (tgt := 33) hk dX0_twoJibs_28 rfl ?_ ?_
        · refine V_pick (lc' := [(0, va_rf ((some this))), (2, .int a1)]) [0, 2] rfl ?_
          exact eX0_twoJibs_p33 hk hR r5.2 ((some this)) a1
        · refine V_iconst (pc := 31) (v := (-1)) hk dX0_twoJibs_31 (by decide +kernel) ?_
          exact V_ireturn (pc := 32) hk hR rfl dX0_twoJibs_32
theorem ctX0_twoJibs (l : Launch) (K : Kx) (hI : Ini K) (b : Nat) (a0 : Int32) (a1 : Int32) (w : Wd) : ∀ r, mX0_twoJibs b a0 a1 w = some r → Ct l K 109 6222 yX0_twoJibs (ws_ yX0_twoJibs cX0_twoJibs 4 (some (.int))) [.ref b, .int a0, .int a1] w (rvI r.1) r.2 := Ct_of rvI l K hI 109 6222 [.ref b, .int a0, .int a1] w (by decide) (lc0 := [(0, .ref b), (1, .int a0), (2, .int a1)]) rfl (Nat.le_of_ble_eq_true rfl) (fun y hk hR _ _ hin => eX0_twoJibs hk hR b a0 a1 w)
noncomputable def mX0_said_p91 (w : Wd) (l0 : Option Nat) (t0 : Int32) (t1 : Int32) (t2 : Option Nat) : Option (Int32 × Wd) :=
(ias w t2 t1 t0).bind fun w1 =>
(gR w1 l0 0 0).bind fun v2 =>
(gR w1 v2 1 0).bind fun v3 =>
(ia w1 v3 5).bind fun v4 =>
(ias w1 v3 5 (v4 + 1)).bind fun w5 =>
(gR w5 l0 0 0).bind fun v6 =>
(gR w5 v6 1 0).bind fun v7 =>
(ia w5 v7 5).bind fun v8 =>
some (v8, w5)
noncomputable def mX0_said (this : Nat) (a0 : Int32) (a1 : Int32) (w : Wd) : Option (Int32 × Wd) :=
if ¬ a0 = (-1) then (
(cal w (mX0_in a0 0 10 w)).bind fun r1 =>
if r1.1 = 0 then (
some ((-2), r1.2))
else (
(gR r1.2 ((some this)) 0 0).bind fun v2 =>
(gR r1.2 v2 1 0).bind fun v3 =>
(ia r1.2 v3 5).bind fun v4 =>
if ¬ v4 = 8 then (
(gR r1.2 ((some this)) 0 0).bind fun v5 =>
(gR r1.2 v5 1 3).bind fun v6 =>
(gR r1.2 ((some this)) 0 0).bind fun v7 =>
(gR r1.2 v7 1 0).bind fun v8 =>
(ia r1.2 v8 5).bind fun v9 =>
(aa r1.2 v6 v9).bind fun v10 =>
(ias r1.2 v10 0 a0).bind fun w11 =>
(gR w11 ((some this)) 0 0).bind fun v12 =>
(gR w11 v12 1 3).bind fun v13 =>
(gR w11 ((some this)) 0 0).bind fun v14 =>
(gR w11 v14 1 0).bind fun v15 =>
(ia w11 v15 5).bind fun v16 =>
(aa w11 v13 v16).bind fun v17 =>
if a1 = 0 then (
mX0_said_p91 w11 ((some this)) 0 1 v17)
else (
mX0_said_p91 w11 ((some this)) 1 1 v17))
else (
some ((-2), r1.2))))
else (
(gR w ((some this)) 0 0).bind fun v18 =>
(gR w v18 1 0).bind fun v19 =>
(ias w v19 5 0).bind fun w20 =>
some (0, w20))
theorem eX0_said_p91 {y : Fx (Int32 × Wd)} (hk : OkF y RX0 cX0_said 3 3 82) (hR : RetM y rvI (some (.int))) (w : Wd) (l0 : Option Nat) (t0 : Int32) (t1 : Int32) (t2 : Option Nat) : V y w [(0, va_rf l0)] [.int t0, .int t1, va_rf t2] 91 (mX0_said_p91 w l0 t0 t1 t2) := by
  unfold mX0_said_p91
  refine V_iastore (pc := 91) hk dX0_said_91 (fun w1 => ?_)
  refine V_aload_n (pc := 92) hk dX0_said_92 0 rfl ?_
  refine g_X0_21 (pc := 93) hk dX0_said_93 (fun v2 => ?_)
  refine g_X0_79 (pc := 96) hk dX0_said_96 (fun v3 => ?_)
  refine V_iconst (pc := 99) (v := 5) hk dX0_said_99 rfl ?_
  refine V_dup2 (pc := 100) hk dX0_said_100 rfl (rf_cat _) ?_
  refine V_iaload (pc := 101) hk dX0_said_101 (fun v4 => ?_)
  refine V_iconst (pc := 102) (v := 1) hk dX0_said_102 rfl ?_
  refine V_iadd (pc := 103) hk dX0_said_103 ?_
  refine V_iastore (pc := 104) hk dX0_said_104 (fun w5 => ?_)
  refine V_aload_n (pc := 105) hk dX0_said_105 0 rfl ?_
  refine g_X0_21 (pc := 106) hk dX0_said_106 (fun v6 => ?_)
  refine g_X0_79 (pc := 109) hk dX0_said_109 (fun v7 => ?_)
  refine V_iconst (pc := 112) (v := 5) hk dX0_said_112 rfl ?_
  refine V_iaload (pc := 113) hk dX0_said_113 (fun v8 => ?_)
  exact V_ireturn (pc := 114) hk hR rfl dX0_said_114
theorem eX0_said {y : Fx (Int32 × Wd)} (hk : OkF y RX0 cX0_said 3 3 82) (hR : RetM y rvI (some (.int))) (this : Nat) (a0 : Int32) (a1 : Int32) (w : Wd) : V y w [(0, va_rf (some this)), (1, .int a0), (2, .int a1)] [] 0 (mX0_said this a0 a1 w) := by
  unfold mX0_said
  refine V_iload_n (pc := 0) hk dX0_said_0 1 rfl ?_
  refine V_iconst (pc := 1) (v := (-1)) hk dX0_said_1 (by decide +kernel) ?_
  refine V_icmp_ne (pc := 2) (tgt := 17) hk dX0_said_2 rfl ?_ ?_
  · refine V_iload_n (pc := 17) hk dX0_said_17 1 rfl ?_
    refine V_iconst (pc := 18) (v := 0) hk dX0_said_18 rfl ?_
    refine V_bipush (pc := 19) (v := 10) hk dX0_said_19 rfl ?_
    refine n_X0_82 (pc := 21) hk (fun r h => ctX0_in (fl y) (fK y) hk.2.2.2.2.2.2.2.1 a0 0 10 w r h) ⟨Nat.le_of_ble_eq_true rfl, Nat.le_of_ble_eq_true rfl⟩ (Nat.le_of_ble_eq_true rfl) dX0_said_21 (fun r1 => ?_)
    refine V_if_eq (pc := 24) (tgt := 41) hk dX0_said_24 rfl ?_ ?_
    · refine V_bipush (pc := 41) (v := (-2)) hk dX0_said_41 (by decide +kernel) ?_
      exact V_ireturn (pc := 43) hk hR rfl dX0_said_43
    · refine V_aload_n (pc := 27) hk dX0_said_27 0 rfl ?_
      refine g_X0_21 (pc := 28) hk dX0_said_28 (fun v2 => ?_)
      refine g_X0_79 (pc := 31) hk dX0_said_31 (fun v3 => ?_)
      refine V_iconst (pc := 34) (v := 5) hk dX0_said_34 rfl ?_
      refine V_iaload (pc := 35) hk dX0_said_35 (fun v4 => ?_)
      refine V_bipush (pc := 36) (v := 8) hk dX0_said_36 rfl ?_
      refine V_icmp_ne (pc := 38) (tgt := 44) hk dX0_said_38 rfl ?_ ?_
      · refine V_aload_n (pc := 44) hk dX0_said_44 0 rfl ?_
        refine g_X0_21 (pc := 45) hk dX0_said_45 (fun v5 => ?_)
        refine g_X0_384 (pc := 48) hk dX0_said_48 (fun v6 => ?_)
        refine V_aload_n (pc := 51) hk dX0_said_51 0 rfl ?_
        refine g_X0_21 (pc := 52) hk dX0_said_52 (fun v7 => ?_)
        refine g_X0_79 (pc := 55) hk dX0_said_55 (fun v8 => ?_)
        refine V_iconst (pc := 58) (v := 5) hk dX0_said_58 rfl ?_
        refine V_iaload (pc := 59) hk dX0_said_59 (fun v9 => ?_)
        refine V_aaload (pc := 60) hk dX0_said_60 (fun v10 => ?_)
        refine V_iconst (pc := 61) (v := 0) hk dX0_said_61 rfl ?_
        refine V_iload_n (pc := 62) hk dX0_said_62 1 rfl ?_
        refine V_iastore (pc := 63) hk dX0_said_63 (fun w11 => ?_)
        refine V_aload_n (pc := 64) hk dX0_said_64 0 rfl ?_
        refine g_X0_21 (pc := 65) hk dX0_said_65 (fun v12 => ?_)
        refine g_X0_384 (pc := 68) hk dX0_said_68 (fun v13 => ?_)
        refine V_aload_n (pc := 71) hk dX0_said_71 0 rfl ?_
        refine g_X0_21 (pc := 72) hk dX0_said_72 (fun v14 => ?_)
        refine g_X0_79 (pc := 75) hk dX0_said_75 (fun v15 => ?_)
        refine V_iconst (pc := 78) (v := 5) hk dX0_said_78 rfl ?_
        refine V_iaload (pc := 79) hk dX0_said_79 (fun v16 => ?_)
        refine V_aaload (pc := 80) hk dX0_said_80 (fun v17 => ?_)
        refine V_iconst (pc := 81) (v := 1) hk dX0_said_81 rfl ?_
        refine V_iload_n (pc := 82) hk dX0_said_82 2 rfl ?_
        refine V_if_eq (pc := 83) (tgt := 90) hk dX0_said_83 rfl ?_ ?_
        · refine V_iconst (pc := 90) (v := 0) hk dX0_said_90 rfl ?_
          refine V_pick (lc' := [(0, va_rf ((some this)))]) [0] rfl ?_
          exact eX0_said_p91 hk hR w11 ((some this)) 0 1 v17
        · refine V_iconst (pc := 86) (v := 1) hk dX0_said_86 rfl ?_
          refine V_goto (pc := 87) (tgt := 91) hk dX0_said_87 rfl ?_
          refine V_pick (lc' := [(0, va_rf ((some this)))]) [0] rfl ?_
          exact eX0_said_p91 hk hR w11 ((some this)) 1 1 v17
      · refine V_bipush (pc := 41) (v := (-2)) hk dX0_said_41 (by decide +kernel) ?_
        exact V_ireturn (pc := 43) hk hR rfl dX0_said_43
  · refine V_aload_n (pc := 5) hk dX0_said_5 0 rfl ?_
    refine g_X0_21 (pc := 6) hk dX0_said_6 (fun v18 => ?_)
    refine g_X0_79 (pc := 9) hk dX0_said_9 (fun v19 => ?_)
    refine V_iconst (pc := 12) (v := 5) hk dX0_said_12 rfl ?_
    refine V_iconst (pc := 13) (v := 0) hk dX0_said_13 rfl ?_
    refine V_iastore (pc := 14) hk dX0_said_14 (fun w20 => ?_)
    refine V_iconst (pc := 15) (v := 0) hk dX0_said_15 rfl ?_
    exact V_ireturn (pc := 16) hk hR rfl dX0_said_16
theorem ctX0_said (l : Launch) (K : Kx) (hI : Ini K) (b : Nat) (a0 : Int32) (a1 : Int32) (w : Wd) : ∀ r, mX0_said b a0 a1 w = some r → Ct l K 3 82 yX0_said (ws_ yX0_said cX0_said 3 (some (.int))) [.ref b, .int a0, .int a1] w (rvI r.1) r.2 := Ct_of rvI l K hI 3 82 [.ref b, .int a0, .int a1] w (by decide) (lc0 := [(0, .ref b), (1, .int a0), (2, .int a1)]) rfl (Nat.le_of_ble_eq_true rfl) (fun y hk hR _ _ hin => eX0_said hk hR b a0 a1 w)
noncomputable def mX0_productOf_b5 (k5 : Wd → (Option Nat) → Int32 → Int64 → Int32 → Option (Int64 × Wd)) (w : Wd) (l0 : Option Nat) (l1 : Int32) (l2 : Int64) (l4 : Int32) : Option (Int64 × Wd) :=
(gR w l0 0 0).bind fun v1 =>
(gR w v1 1 0).bind fun v2 =>
(ia w v2 5).bind fun v3 =>
if v3 ≤ l4 then (
some (l2, w))
else (
(gR w l0 0 0).bind fun v4 =>
(gR w v4 1 3).bind fun v5 =>
(aa w v5 l4).bind fun v6 =>
(ia w v6 1).bind fun v7 =>
if ¬ v7 = l1 then (
(gR w l0 0 0).bind fun v8 =>
(gR w v8 1 3).bind fun v9 =>
(aa w v9 l4).bind fun v10 =>
(ia w v10 0).bind fun v11 =>
(some (l2 * (((10 - v11) : Int32).toInt64))).bind fun (x12 : Int64) =>
k5 w l0 l1 x12 (l4 + 1))
else (
(gR w l0 0 0).bind fun v13 =>
(gR w v13 1 3).bind fun v14 =>
(aa w v14 l4).bind fun v15 =>
(ia w v15 0).bind fun v16 =>
(some (l2 * ((v16 : Int32).toInt64))).bind fun (x17 : Int64) =>
k5 w l0 l1 x17 (l4 + 1)))
noncomputable def mX0_productOf_l5 : Nat → Wd → (Option Nat) → Int32 → Int64 → Int32 → Option (Int64 × Wd)
  | 0, _, _, _, _, _ => none
  | n + 1, w, l0, l1, l2, l4 => mX0_productOf_b5 (mX0_productOf_l5 n) w l0 l1 l2 l4
noncomputable def mX0_productOf (this : Nat) (a0 : Int32) (w : Wd) : Option (Int64 × Wd) :=
mX0_productOf_l5 FU w ((some this)) a0 1 0
theorem eX0_productOf_b5 {y : Fx (Int64 × Wd)} (hk : OkF y RX0 cX0_productOf 5 2 60) (hR : RetM y rvJ (some (.long))) {k5 : Wd → (Option Nat) → Int32 → Int64 → Int32 → Option (Int64 × Wd)} (h5 : ∀ (w : Wd) (l0 : Option Nat) (l1 : Int32) (l2 : Int64) (l4 : Int32), V y w [(0, va_rf l0), (1, .int l1), (2, .long l2), (4, .int l4)] [] 5 (k5 w l0 l1 l2 l4)) (w : Wd) (l0 : Option Nat) (l1 : Int32) (l2 : Int64) (l4 : Int32) : V y w [(0, va_rf l0), (1, .int l1), (2, .long l2), (4, .int l4)] [] 5 (mX0_productOf_b5 k5 w l0 l1 l2 l4) := by
  unfold mX0_productOf_b5
  refine V_iload (pc := 5) hk dX0_productOf_5 3 rfl ?_
  refine V_aload_n (pc := 7) hk dX0_productOf_7 0 rfl ?_
  refine g_X0_21 (pc := 8) hk dX0_productOf_8 (fun v1 => ?_)
  refine g_X0_79 (pc := 11) hk dX0_productOf_11 (fun v2 => ?_)
  refine V_iconst (pc := 14) (v := 5) hk dX0_productOf_14 rfl ?_
  refine V_iaload (pc := 15) hk dX0_productOf_15 (fun v3 => ?_)
  refine V_icmp_ge (pc := 16) (tgt := 76) hk dX0_productOf_16 rfl ?_ ?_
  · refine V_lload_n (pc := 76) hk dX0_productOf_76 2 rfl ?_
    exact V_lreturn (pc := 77) hk hR rfl dX0_productOf_77
  · refine V_lload_n (pc := 19) hk dX0_productOf_19 2 rfl ?_
    refine V_aload_n (pc := 20) hk dX0_productOf_20 0 rfl ?_
    refine g_X0_21 (pc := 21) hk dX0_productOf_21 (fun v4 => ?_)
    refine g_X0_384 (pc := 24) hk dX0_productOf_24 (fun v5 => ?_)
    refine V_iload (pc := 27) hk dX0_productOf_27 3 rfl ?_
    refine V_aaload (pc := 29) hk dX0_productOf_29 (fun v6 => ?_)
    refine V_iconst (pc := 30) (v := 1) hk dX0_productOf_30 rfl ?_
    refine V_iaload (pc := 31) hk dX0_productOf_31 (fun v7 => ?_)
    refine V_iload_n (pc := 32) hk dX0_productOf_32 1 rfl ?_
    refine V_icmp_ne (pc := 33) (tgt := 52) hk dX0_productOf_33 rfl ?_ ?_
    · refine V_bipush (pc := 52) (v := 10) hk dX0_productOf_52 rfl ?_
      refine V_aload_n (pc := 54) hk dX0_productOf_54 0 rfl ?_
      refine g_X0_21 (pc := 55) hk dX0_productOf_55 (fun v8 => ?_)
      refine g_X0_384 (pc := 58) hk dX0_productOf_58 (fun v9 => ?_)
      refine V_iload (pc := 61) hk dX0_productOf_61 3 rfl ?_
      refine V_aaload (pc := 63) hk dX0_productOf_63 (fun v10 => ?_)
      refine V_iconst (pc := 64) (v := 0) hk dX0_productOf_64 rfl ?_
      refine V_iaload (pc := 65) hk dX0_productOf_65 (fun v11 => ?_)
      refine V_isub (pc := 66) hk dX0_productOf_66 ?_
      refine V_i2l (pc := 67) hk dX0_productOf_67 ?_
      refine V_lmul (pc := 68) hk dX0_productOf_68 ?_
      refine V_nmJ (fun x12 => ?_)
      refine V_lstore_n (pc := 69) (lc' := [(2, .long x12), (0, va_rf l0), (1, .int l1), (4, .int l4)]) (i := 2) hk dX0_productOf_69 rfl (Nat.le_of_ble_eq_true rfl) rfl ?_
      refine V_iinc (pc := 70) (v := 1) (lc' := [(4, .int (l4 + 1)), (2, .long x12), (0, va_rf l0), (1, .int l1)]) hk dX0_productOf_70 3 rfl rfl (Nat.le_of_ble_eq_true rfl) rfl ?_
      refine V_goto (pc := 73) (tgt := 5) hk dX0_productOf_73 rfl ?_
      refine V_pick (lc' := [(0, va_rf l0), (1, .int l1), (2, .long x12), (4, .int (l4 + 1))]) [2, 3, 1, 0] rfl ?_
      exact h5 w l0 l1 x12 (l4 + 1)
    · refine V_aload_n (pc := 36) hk dX0_productOf_36 0 rfl ?_
      refine g_X0_21 (pc := 37) hk dX0_productOf_37 (fun v13 => ?_)
      refine g_X0_384 (pc := 40) hk dX0_productOf_40 (fun v14 => ?_)
      refine V_iload (pc := 43) hk dX0_productOf_43 3 rfl ?_
      refine V_aaload (pc := 45) hk dX0_productOf_45 (fun v15 => ?_)
      refine V_iconst (pc := 46) (v := 0) hk dX0_productOf_46 rfl ?_
      refine V_iaload (pc := 47) hk dX0_productOf_47 (fun v16 => ?_)
      refine V_i2l (pc := 48) hk dX0_productOf_48 ?_
      refine V_goto (pc := 49) (tgt := 68) hk dX0_productOf_49 rfl ?_
      refine V_lmul (pc := 68) hk dX0_productOf_68 ?_
      refine V_nmJ (fun x17 => ?_)
      refine V_lstore_n (pc := 69) (lc' := [(2, .long x17), (0, va_rf l0), (1, .int l1), (4, .int l4)]) (i := 2) hk dX0_productOf_69 rfl (Nat.le_of_ble_eq_true rfl) rfl ?_
      refine V_iinc (pc := 70) (v := 1) (lc' := [(4, .int (l4 + 1)), (2, .long x17), (0, va_rf l0), (1, .int l1)]) hk dX0_productOf_70 3 rfl rfl (Nat.le_of_ble_eq_true rfl) rfl ?_
      refine V_goto (pc := 73) (tgt := 5) hk dX0_productOf_73 rfl ?_
      refine V_pick (lc' := [(0, va_rf l0), (1, .int l1), (2, .long x17), (4, .int (l4 + 1))]) [2, 3, 1, 0] rfl ?_
      exact h5 w l0 l1 x17 (l4 + 1)
theorem eX0_productOf_l5 {y : Fx (Int64 × Wd)} (hk : OkF y RX0 cX0_productOf 5 2 60) (hR : RetM y rvJ (some (.long))) : ∀ (n : Nat) (w : Wd) (l0 : Option Nat) (l1 : Int32) (l2 : Int64) (l4 : Int32), V y w [(0, va_rf l0), (1, .int l1), (2, .long l2), (4, .int l4)] [] 5 (mX0_productOf_l5 n w l0 l1 l2 l4) := by
  intro n
  induction n with
  | zero => intro w l0 l1 l2 l4; exact V_none
  | succ n ih => intro w l0 l1 l2 l4; exact eX0_productOf_b5 hk hR ih w l0 l1 l2 l4
theorem eX0_productOf {y : Fx (Int64 × Wd)} (hk : OkF y RX0 cX0_productOf 5 2 60) (hR : RetM y rvJ (some (.long))) (this : Nat) (a0 : Int32) (w : Wd) : V y w [(0, va_rf (some this)), (1, .int a0)] [] 0 (mX0_productOf this a0 w) := by
  unfold mX0_productOf
  refine V_lconst (pc := 0) (v := 1) hk dX0_productOf_0 rfl ?_
  refine V_lstore_n (pc := 1) (lc' := [(2, .long 1), (0, va_rf ((some this))), (1, .int a0)]) (i := 2) hk dX0_productOf_1 rfl (Nat.le_of_ble_eq_true rfl) rfl ?_
  refine V_iconst (pc := 2) (v := 0) hk dX0_productOf_2 rfl ?_
  refine V_istore (pc := 3) (lc' := [(4, .int 0), (2, .long 1), (0, va_rf ((some this))), (1, .int a0)]) (i := 4) hk dX0_productOf_3 (Nat.le_of_ble_eq_true rfl) rfl ?_
  refine V_pick (lc' := [(0, va_rf ((some this))), (1, .int a0), (2, .long 1), (4, .int 0)]) [2, 3, 1, 0] rfl ?_
  exact eX0_productOf_l5 hk hR FU w ((some this)) a0 1 0
theorem ctX0_productOf (l : Launch) (K : Kx) (hI : Ini K) (b : Nat) (a0 : Int32) (w : Wd) : ∀ r, mX0_productOf b a0 w = some r → Ct l K 2 60 yX0_productOf (ws_ yX0_productOf cX0_productOf 5 (some (.long))) [.ref b, .int a0] w (rvJ r.1) r.2 := Ct_of rvJ l K hI 2 60 [.ref b, .int a0] w (by decide) (lc0 := [(0, .ref b), (1, .int a0)]) rfl (Nat.le_of_ble_eq_true rfl) (fun y hk hR _ _ hin => eX0_productOf hk hR b a0 w)
noncomputable def mX0_left (this : Nat) (a0 : Int32) (w : Wd) : Option (Int64 × Wd) :=
(recv w ((some this)) 0).bind fun b2 => (cal w (mX0_productOf b2 1 w)).bind fun r1 =>
(recv r1.2 ((some this)) 0).bind fun b4 => (cal r1.2 (mX0_productOf b4 0 r1.2)).bind fun r3 =>
if ¬ (lg_cmp (r1.1 + r3.1) 0) = 0 then (
(cal r3.2 (mX0_inLowest r1.1 (r1.1 + r3.1) a0 r3.2)).bind fun r5 =>
some (r5.1, r5.2))
else (
if a0 = 0 then (
some (0, r3.2))
else (
some (1, r3.2)))
theorem eX0_left {y : Fx (Int64 × Wd)} (hk : OkF y RX0 cX0_left 6 204 12109) (hR : RetM y rvJ (some (.long))) (this : Nat) (a0 : Int32) (w : Wd) : V y w [(0, va_rf (some this)), (1, .int a0)] [] 0 (mX0_left this a0 w) := by
  unfold mX0_left
  refine V_aload_n (pc := 0) hk dX0_left_0 0 rfl ?_
  refine V_iconst (pc := 1) (v := 1) hk dX0_left_1 rfl ?_
  refine n_X0_387 (pc := 2) hk (fun b r h => ctX0_productOf (fl y) (fK y) hk.2.2.2.2.2.2.2.1 b 1 w r h) ⟨Nat.le_of_ble_eq_true rfl, Nat.le_of_ble_eq_true rfl⟩ (Nat.le_of_ble_eq_true rfl) dX0_left_2 (fun r1 => ?_)
  refine V_lstore_n (pc := 5) (lc' := [(2, .long r1.1), (0, va_rf ((some this))), (1, .int a0)]) (i := 2) hk dX0_left_5 rfl (Nat.le_of_ble_eq_true rfl) rfl ?_
  refine V_lload_n (pc := 6) hk dX0_left_6 0 rfl ?_
  refine V_aload_n (pc := 7) hk dX0_left_7 1 rfl ?_
  refine V_iconst (pc := 8) (v := 0) hk dX0_left_8 rfl ?_
  refine n_X0_387 (pc := 9) hk (fun b r h => ctX0_productOf (fl y) (fK y) hk.2.2.2.2.2.2.2.1 b 0 r1.2 r h) ⟨Nat.le_of_ble_eq_true rfl, Nat.le_of_ble_eq_true rfl⟩ (Nat.le_of_ble_eq_true rfl) dX0_left_9 (fun r3 => ?_)
  refine V_ladd (pc := 12) hk dX0_left_12 ?_
  refine V_lstore (pc := 13) (lc' := [(4, .long (r1.1 + r3.1)), (2, .long r1.1), (0, va_rf ((some this))), (1, .int a0)]) (i := 4) hk dX0_left_13 (Nat.le_of_ble_eq_true rfl) rfl ?_
  refine V_lload (pc := 15) hk dX0_left_15 0 rfl ?_
  refine V_lconst (pc := 17) (v := 0) hk dX0_left_17 rfl ?_
  refine V_lcmp (pc := 18) hk dX0_left_18 ?_
  refine V_if_ne (pc := 19) (tgt := 32) hk dX0_left_19 rfl ?_ ?_
  · refine V_lload_n (pc := 32) hk dX0_left_32 1 rfl ?_
    refine V_lload (pc := 33) hk dX0_left_33 0 rfl ?_
    refine V_iload_n (pc := 35) hk dX0_left_35 3 rfl ?_
    refine n_X0_328 (pc := 36) hk (fun r h => ctX0_inLowest (fl y) (fK y) hk.2.2.2.2.2.2.2.1 r1.1 (r1.1 + r3.1) a0 r3.2 r h) ⟨Nat.le_of_ble_eq_true rfl, Nat.le_of_ble_eq_true rfl⟩ (Nat.le_of_ble_eq_true rfl) dX0_left_36 (fun r5 => ?_)
    exact V_lreturn (pc := 39) hk hR rfl dX0_left_39
  · refine V_iload_n (pc := 22) hk dX0_left_22 3 rfl ?_
    refine V_if_eq (pc := 23) (tgt := 30) hk dX0_left_23 rfl ?_ ?_
    · refine V_lconst (pc := 30) (v := 0) hk dX0_left_30 rfl ?_
      exact V_lreturn (pc := 31) hk hR rfl dX0_left_31
    · refine V_lconst (pc := 26) (v := 1) hk dX0_left_26 rfl ?_
      refine V_goto (pc := 27) (tgt := 31) hk dX0_left_27 rfl ?_
      exact V_lreturn (pc := 31) hk hR rfl dX0_left_31
theorem ctX0_left (l : Launch) (K : Kx) (hI : Ini K) (b : Nat) (a0 : Int32) (w : Wd) : ∀ r, mX0_left b a0 w = some r → Ct l K 204 12109 yX0_left (ws_ yX0_left cX0_left 6 (some (.long))) [.ref b, .int a0] w (rvJ r.1) r.2 := Ct_of rvJ l K hI 204 12109 [.ref b, .int a0] w (by decide) (lc0 := [(0, .ref b), (1, .int a0)]) rfl (Nat.le_of_ble_eq_true rfl) (fun y hk hR _ _ hin => eX0_left hk hR b a0 w)
noncomputable def mX0_landed (this : Nat) (a0 : Int32) (a1 : Int32) (w : Wd) : Option (Int32 × Wd) :=
if ¬ a0 = (-1) then (
(gR w ((some this)) 0 0).bind fun v1 =>
(gR w v1 1 1).bind fun v2 =>
(ia w v2 12).bind fun v3 =>
(cal w (mX0_in a0 0 (v3 - 1) w)).bind fun r4 =>
if r4.1 = 0 then (
some ((-2), r4.2))
else (
(cal r4.2 (mX0_in a1 0 1 r4.2)).bind fun r5 =>
if r5.1 = 0 then (
some ((-2), r5.2))
else (
(gR r5.2 ((some this)) 0 0).bind fun v6 =>
(gR r5.2 v6 1 1).bind fun v7 =>
(ia r5.2 v7 ((13 + (2 * a0)) + a1)).bind fun v8 =>
some (v8, r5.2))))
else (
(gR w ((some this)) 0 0).bind fun v9 =>
(gR w v9 1 1).bind fun v10 =>
(ia w v10 12).bind fun v11 =>
some (v11, w))
theorem eX0_landed {y : Fx (Int32 × Wd)} (hk : OkF y RX0 cX0_landed 3 3 82) (hR : RetM y rvI (some (.int))) (this : Nat) (a0 : Int32) (a1 : Int32) (w : Wd) : V y w [(0, va_rf (some this)), (1, .int a0), (2, .int a1)] [] 0 (mX0_landed this a0 a1 w) := by
  unfold mX0_landed
  refine V_iload_n (pc := 0) hk dX0_landed_0 1 rfl ?_
  refine V_iconst (pc := 1) (v := (-1)) hk dX0_landed_1 (by decide +kernel) ?_
  refine V_icmp_ne (pc := 2) (tgt := 16) hk dX0_landed_2 rfl ?_ ?_
  · refine V_iload_n (pc := 16) hk dX0_landed_16 1 rfl ?_
    refine V_iconst (pc := 17) (v := 0) hk dX0_landed_17 rfl ?_
    refine V_aload_n (pc := 18) hk dX0_landed_18 0 rfl ?_
    refine g_X0_21 (pc := 19) hk dX0_landed_19 (fun v1 => ?_)
    refine g_X0_176 (pc := 22) hk dX0_landed_22 (fun v2 => ?_)
    refine V_bipush (pc := 25) (v := 12) hk dX0_landed_25 rfl ?_
    refine V_iaload (pc := 27) hk dX0_landed_27 (fun v3 => ?_)
    refine V_iconst (pc := 28) (v := 1) hk dX0_landed_28 rfl ?_
    refine V_isub (pc := 29) hk dX0_landed_29 ?_
    refine n_X0_82 (pc := 30) hk (fun r h => ctX0_in (fl y) (fK y) hk.2.2.2.2.2.2.2.1 a0 0 (v3 - 1) w r h) ⟨Nat.le_of_ble_eq_true rfl, Nat.le_of_ble_eq_true rfl⟩ (Nat.le_of_ble_eq_true rfl) dX0_landed_30 (fun r4 => ?_)
    refine V_if_eq (pc := 33) (tgt := 64) hk dX0_landed_33 rfl ?_ ?_
    · refine V_bipush (pc := 64) (v := (-2)) hk dX0_landed_64 (by decide +kernel) ?_
      exact V_ireturn (pc := 66) hk hR rfl dX0_landed_66
    · refine V_iload_n (pc := 36) hk dX0_landed_36 2 rfl ?_
      refine V_iconst (pc := 37) (v := 0) hk dX0_landed_37 rfl ?_
      refine V_iconst (pc := 38) (v := 1) hk dX0_landed_38 rfl ?_
      refine n_X0_82 (pc := 39) hk (fun r h => ctX0_in (fl y) (fK y) hk.2.2.2.2.2.2.2.1 a1 0 1 r4.2 r h) ⟨Nat.le_of_ble_eq_true rfl, Nat.le_of_ble_eq_true rfl⟩ (Nat.le_of_ble_eq_true rfl) dX0_landed_39 (fun r5 => ?_)
      refine V_if_eq (pc := 42) (tgt := 64) hk dX0_landed_42 rfl ?_ ?_
      · refine V_bipush (pc := 64) (v := (-2)) hk dX0_landed_64 (by decide +kernel) ?_
        exact V_ireturn (pc := 66) hk hR rfl dX0_landed_66
      · refine V_aload_n (pc := 45) hk dX0_landed_45 0 rfl ?_
        refine g_X0_21 (pc := 46) hk dX0_landed_46 (fun v6 => ?_)
        refine g_X0_176 (pc := 49) hk dX0_landed_49 (fun v7 => ?_)
        refine V_bipush (pc := 52) (v := 13) hk dX0_landed_52 rfl ?_
        refine V_iconst (pc := 54) (v := 2) hk dX0_landed_54 rfl ?_
        refine V_iload_n (pc := 55) hk dX0_landed_55 1 rfl ?_
        refine V_imul (pc := 56) hk dX0_landed_56 ?_
        refine V_iadd (pc := 57) hk dX0_landed_57 ?_
        refine V_iload_n (pc := 58) hk dX0_landed_58 2 rfl ?_
        refine V_iadd (pc := 59) hk dX0_landed_59 ?_
        refine V_iaload (pc := 60) hk dX0_landed_60 (fun v8 => ?_)
        refine V_goto (pc := 61) (tgt := 66) hk dX0_landed_61 rfl ?_
        exact V_ireturn (pc := 66) hk hR rfl dX0_landed_66
  · refine V_aload_n (pc := 5) hk dX0_landed_5 0 rfl ?_
    refine g_X0_21 (pc := 6) hk dX0_landed_6 (fun v9 => ?_)
    refine g_X0_176 (pc := 9) hk dX0_landed_9 (fun v10 => ?_)
    refine V_bipush (pc := 12) (v := 12) hk dX0_landed_12 rfl ?_
    refine V_iaload (pc := 14) hk dX0_landed_14 (fun v11 => ?_)
    exact V_ireturn (pc := 15) hk hR rfl dX0_landed_15
theorem ctX0_landed (l : Launch) (K : Kx) (hI : Ini K) (b : Nat) (a0 : Int32) (a1 : Int32) (w : Wd) : ∀ r, mX0_landed b a0 a1 w = some r → Ct l K 3 82 yX0_landed (ws_ yX0_landed cX0_landed 3 (some (.int))) [.ref b, .int a0, .int a1] w (rvI r.1) r.2 := Ct_of rvI l K hI 3 82 [.ref b, .int a0, .int a1] w (by decide) (lc0 := [(0, .ref b), (1, .int a0), (2, .int a1)]) rfl (Nat.le_of_ble_eq_true rfl) (fun y hk hR _ _ hin => eX0_landed hk hR b a0 a1 w)
noncomputable def mX0_hour_b17 (k17 : Wd → (Option Nat) → Int32 → Int32 → Int32 → Option (Int32 × Wd)) (w : Wd) (l0 : Option Nat) (l1 : Int32) (l2 : Int32) (l3 : Int32) : Option (Int32 × Wd) :=
(gR w l0 0 0).bind fun v1 =>
(gR w v1 1 1).bind fun v2 =>
(ia w v2 12).bind fun v3 =>
if v3 ≤ l3 then (
some (l2, w))
else (
(gR w l0 0 0).bind fun v4 =>
(gR w v4 1 1).bind fun v5 =>
(ia w v5 ((13 + (2 * l3)) + 1)).bind fun v6 =>
(gR w l0 0 0).bind fun v7 =>
(gR w v7 1 1).bind fun v8 =>
(ia w v8 8).bind fun v9 =>
if v6 ≤ (v9 - l1) then (
k17 w l0 l1 (l2 + 0) (l3 + 1))
else (
k17 w l0 l1 (l2 + 1) (l3 + 1)))
noncomputable def mX0_hour_l17 : Nat → Wd → (Option Nat) → Int32 → Int32 → Int32 → Option (Int32 × Wd)
  | 0, _, _, _, _, _ => none
  | n + 1, w, l0, l1, l2, l3 => mX0_hour_b17 (mX0_hour_l17 n) w l0 l1 l2 l3
noncomputable def mX0_hour (this : Nat) (a0 : Int32) (w : Wd) : Option (Int32 × Wd) :=
(cal w (mX0_in a0 1 9999 w)).bind fun r1 =>
if ¬ r1.1 = 0 then (
mX0_hour_l17 FU r1.2 ((some this)) a0 0 0)
else (
some ((-1), r1.2))
theorem eX0_hour_b17 {y : Fx (Int32 × Wd)} (hk : OkF y RX0 cX0_hour 4 3 82) (hR : RetM y rvI (some (.int))) {k17 : Wd → (Option Nat) → Int32 → Int32 → Int32 → Option (Int32 × Wd)} (h17 : ∀ (w : Wd) (l0 : Option Nat) (l1 : Int32) (l2 : Int32) (l3 : Int32), V y w [(0, va_rf l0), (1, .int l1), (2, .int l2), (3, .int l3)] [] 17 (k17 w l0 l1 l2 l3)) (w : Wd) (l0 : Option Nat) (l1 : Int32) (l2 : Int32) (l3 : Int32) : V y w [(0, va_rf l0), (1, .int l1), (2, .int l2), (3, .int l3)] [] 17 (mX0_hour_b17 k17 w l0 l1 l2 l3) := by
  unfold mX0_hour_b17
  refine V_iload_n (pc := 17) hk dX0_hour_17 3 rfl ?_
  refine V_aload_n (pc := 18) hk dX0_hour_18 0 rfl ?_
  refine g_X0_21 (pc := 19) hk dX0_hour_19 (fun v1 => ?_)
  refine g_X0_176 (pc := 22) hk dX0_hour_22 (fun v2 => ?_)
  refine V_bipush (pc := 25) (v := 12) hk dX0_hour_25 rfl ?_
  refine V_iaload (pc := 27) hk dX0_hour_27 (fun v3 => ?_)
  refine V_icmp_ge (pc := 28) (tgt := 76) hk dX0_hour_28 rfl ?_ ?_
  · refine V_iload_n (pc := 76) hk dX0_hour_76 2 rfl ?_
    exact V_ireturn (pc := 77) hk hR rfl dX0_hour_77
  · refine V_iload_n (pc := 31) hk dX0_hour_31 2 rfl ?_
    refine V_aload_n (pc := 32) hk dX0_hour_32 0 rfl ?_
    refine g_X0_21 (pc := 33) hk dX0_hour_33 (fun v4 => ?_)
    refine g_X0_176 (pc := 36) hk dX0_hour_36 (fun v5 => ?_)
    refine V_bipush (pc := 39) (v := 13) hk dX0_hour_39 rfl ?_
    refine V_iconst (pc := 41) (v := 2) hk dX0_hour_41 rfl ?_
    refine V_iload_n (pc := 42) hk dX0_hour_42 3 rfl ?_
    refine V_imul (pc := 43) hk dX0_hour_43 ?_
    refine V_iadd (pc := 44) hk dX0_hour_44 ?_
    refine V_iconst (pc := 45) (v := 1) hk dX0_hour_45 rfl ?_
    refine V_iadd (pc := 46) hk dX0_hour_46 ?_
    refine V_iaload (pc := 47) hk dX0_hour_47 (fun v6 => ?_)
    refine V_aload_n (pc := 48) hk dX0_hour_48 0 rfl ?_
    refine g_X0_21 (pc := 49) hk dX0_hour_49 (fun v7 => ?_)
    refine g_X0_176 (pc := 52) hk dX0_hour_52 (fun v8 => ?_)
    refine V_bipush (pc := 55) (v := 8) hk dX0_hour_55 rfl ?_
    refine V_iaload (pc := 57) hk dX0_hour_57 (fun v9 => ?_)
    refine V_iload_n (pc := 58) hk dX0_hour_58 1 rfl ?_
    refine V_isub (pc := 59) hk dX0_hour_59 ?_
    refine V_icmp_le (pc := 60) (tgt := 67) hk dX0_hour_60 rfl ?_ ?_
    · refine V_iconst (pc := 67) (v := 0) hk dX0_hour_67 rfl ?_
      refine V_iadd (pc := 68) hk dX0_hour_68 ?_
      refine V_istore_n (pc := 69) (lc' := [(2, .int (l2 + 0)), (0, va_rf l0), (1, .int l1), (3, .int l3)]) (i := 2) hk dX0_hour_69 rfl (Nat.le_of_ble_eq_true rfl) rfl ?_
      refine V_iinc (pc := 70) (v := 1) (lc' := [(3, .int (l3 + 1)), (2, .int (l2 + 0)), (0, va_rf l0), (1, .int l1)]) hk dX0_hour_70 3 rfl rfl (Nat.le_of_ble_eq_true rfl) rfl ?_
      refine V_goto (pc := 73) (tgt := 17) hk dX0_hour_73 rfl ?_
      refine V_pick (lc' := [(0, va_rf l0), (1, .int l1), (2, .int (l2 + 0)), (3, .int (l3 + 1))]) [2, 3, 1, 0] rfl ?_
      exact h17 w l0 l1 (l2 + 0) (l3 + 1)
    · refine V_iconst (pc := 63) (v := 1) hk dX0_hour_63 rfl ?_
      refine V_goto (pc := 64) (tgt := 68) hk dX0_hour_64 rfl ?_
      refine V_iadd (pc := 68) hk dX0_hour_68 ?_
      refine V_istore_n (pc := 69) (lc' := [(2, .int (l2 + 1)), (0, va_rf l0), (1, .int l1), (3, .int l3)]) (i := 2) hk dX0_hour_69 rfl (Nat.le_of_ble_eq_true rfl) rfl ?_
      refine V_iinc (pc := 70) (v := 1) (lc' := [(3, .int (l3 + 1)), (2, .int (l2 + 1)), (0, va_rf l0), (1, .int l1)]) hk dX0_hour_70 3 rfl rfl (Nat.le_of_ble_eq_true rfl) rfl ?_
      refine V_goto (pc := 73) (tgt := 17) hk dX0_hour_73 rfl ?_
      refine V_pick (lc' := [(0, va_rf l0), (1, .int l1), (2, .int (l2 + 1)), (3, .int (l3 + 1))]) [2, 3, 1, 0] rfl ?_
      exact h17 w l0 l1 (l2 + 1) (l3 + 1)
theorem eX0_hour_l17 {y : Fx (Int32 × Wd)} (hk : OkF y RX0 cX0_hour 4 3 82) (hR : RetM y rvI (some (.int))) : ∀ (n : Nat) (w : Wd) (l0 : Option Nat) (l1 : Int32) (l2 : Int32) (l3 : Int32), V y w [(0, va_rf l0), (1, .int l1), (2, .int l2), (3, .int l3)] [] 17 (mX0_hour_l17 n w l0 l1 l2 l3) := by
  intro n
  induction n with
  | zero => intro w l0 l1 l2 l3; exact V_none
  | succ n ih => intro w l0 l1 l2 l3; exact eX0_hour_b17 hk hR ih w l0 l1 l2 l3
theorem eX0_hour {y : Fx (Int32 × Wd)} (hk : OkF y RX0 cX0_hour 4 3 82) (hR : RetM y rvI (some (.int))) (this : Nat) (a0 : Int32) (w : Wd) : V y w [(0, va_rf (some this)), (1, .int a0)] [] 0 (mX0_hour this a0 w) := by
  unfold mX0_hour
  refine V_iload_n (pc := 0) hk dX0_hour_0 1 rfl ?_
  refine V_iconst (pc := 1) (v := 1) hk dX0_hour_1 rfl ?_
  refine V_sipush (pc := 2) (v := 9999) hk dX0_hour_2 rfl ?_
  refine n_X0_82 (pc := 5) hk (fun r h => ctX0_in (fl y) (fK y) hk.2.2.2.2.2.2.2.1 a0 1 9999 w r h) ⟨Nat.le_of_ble_eq_true rfl, Nat.le_of_ble_eq_true rfl⟩ (Nat.le_of_ble_eq_true rfl) dX0_hour_5 (fun r1 => ?_)
  refine V_if_ne (pc := 8) (tgt := 13) hk dX0_hour_8 rfl ?_ ?_
  · refine V_iconst (pc := 13) (v := 0) hk dX0_hour_13 rfl ?_
    refine V_istore_n (pc := 14) (lc' := [(2, .int 0), (0, va_rf ((some this))), (1, .int a0)]) (i := 2) hk dX0_hour_14 rfl (Nat.le_of_ble_eq_true rfl) rfl ?_
    refine V_iconst (pc := 15) (v := 0) hk dX0_hour_15 rfl ?_
    refine V_istore_n (pc := 16) (lc' := [(3, .int 0), (2, .int 0), (0, va_rf ((some this))), (1, .int a0)]) (i := 3) hk dX0_hour_16 rfl (Nat.le_of_ble_eq_true rfl) rfl ?_
    refine V_pick (lc' := [(0, va_rf ((some this))), (1, .int a0), (2, .int 0), (3, .int 0)]) [2, 3, 1, 0] rfl ?_
    exact eX0_hour_l17 hk hR FU r1.2 ((some this)) a0 0 0
  · refine V_iconst (pc := 11) (v := (-1)) hk dX0_hour_11 (by decide +kernel) ?_
    exact V_ireturn (pc := 12) hk hR rfl dX0_hour_12
theorem ctX0_hour (l : Launch) (K : Kx) (hI : Ini K) (b : Nat) (a0 : Int32) (w : Wd) : ∀ r, mX0_hour b a0 w = some r → Ct l K 3 82 yX0_hour (ws_ yX0_hour cX0_hour 4 (some (.int))) [.ref b, .int a0] w (rvI r.1) r.2 := Ct_of rvI l K hI 3 82 [.ref b, .int a0] w (by decide) (lc0 := [(0, .ref b), (1, .int a0)]) rfl (Nat.le_of_ble_eq_true rfl) (fun y hk hR _ _ hin => eX0_hour hk hR b a0 w)
noncomputable def mX0_mean (this : Nat) (a0 : Int32) (w : Wd) : Option (Int32 × Wd) :=
(gR w ((some this)) 0 0).bind fun v1 =>
(gR w v1 1 1).bind fun v2 =>
(ia w v2 12).bind fun v3 =>
if 1 ≤ (v3 - 1) then (
(gR w ((some this)) 0 0).bind fun v4 =>
(gR w v4 1 1).bind fun v5 =>
(ia w v5 ((13 + (2 * (v3 - 1))) + 1)).bind fun v6 =>
(gR w ((some this)) 0 0).bind fun v7 =>
(gR w v7 1 1).bind fun v8 =>
(ia w v8 14).bind fun v9 =>
(cal w (mX0_inLowest (((v6 - v9) : Int32).toInt64) (((v3 - 1) : Int32).toInt64) a0 w)).bind fun r10 =>
some ((r10.1 : Int64).toInt32, r10.2))
else (
some ((-1), w))
theorem eX0_mean {y : Fx (Int32 × Wd)} (hk : OkF y RX0 cX0_mean 3 204 12109) (hR : RetM y rvI (some (.int))) (this : Nat) (a0 : Int32) (w : Wd) : V y w [(0, va_rf (some this)), (1, .int a0)] [] 0 (mX0_mean this a0 w) := by
  unfold mX0_mean
  refine V_aload_n (pc := 0) hk dX0_mean_0 0 rfl ?_
  refine g_X0_21 (pc := 1) hk dX0_mean_1 (fun v1 => ?_)
  refine g_X0_176 (pc := 4) hk dX0_mean_4 (fun v2 => ?_)
  refine V_bipush (pc := 7) (v := 12) hk dX0_mean_7 rfl ?_
  refine V_iaload (pc := 9) hk dX0_mean_9 (fun v3 => ?_)
  refine V_iconst (pc := 10) (v := 1) hk dX0_mean_10 rfl ?_
  refine V_isub (pc := 11) hk dX0_mean_11 ?_
  refine V_istore_n (pc := 12) (lc' := [(2, .int (v3 - 1)), (0, va_rf ((some this))), (1, .int a0)]) (i := 2) hk dX0_mean_12 rfl (Nat.le_of_ble_eq_true rfl) rfl ?_
  refine V_iload_n (pc := 13) hk dX0_mean_13 0 rfl ?_
  refine V_iconst (pc := 14) (v := 1) hk dX0_mean_14 rfl ?_
  refine V_icmp_ge (pc := 15) (tgt := 22) hk dX0_mean_15 rfl ?_ ?_
  · refine V_aload_n (pc := 22) hk dX0_mean_22 1 rfl ?_
    refine g_X0_21 (pc := 23) hk dX0_mean_23 (fun v4 => ?_)
    refine g_X0_176 (pc := 26) hk dX0_mean_26 (fun v5 => ?_)
    refine V_bipush (pc := 29) (v := 13) hk dX0_mean_29 rfl ?_
    refine V_iconst (pc := 31) (v := 2) hk dX0_mean_31 rfl ?_
    refine V_iload_n (pc := 32) hk dX0_mean_32 0 rfl ?_
    refine V_imul (pc := 33) hk dX0_mean_33 ?_
    refine V_iadd (pc := 34) hk dX0_mean_34 ?_
    refine V_iconst (pc := 35) (v := 1) hk dX0_mean_35 rfl ?_
    refine V_iadd (pc := 36) hk dX0_mean_36 ?_
    refine V_iaload (pc := 37) hk dX0_mean_37 (fun v6 => ?_)
    refine V_aload_n (pc := 38) hk dX0_mean_38 1 rfl ?_
    refine g_X0_21 (pc := 39) hk dX0_mean_39 (fun v7 => ?_)
    refine g_X0_176 (pc := 42) hk dX0_mean_42 (fun v8 => ?_)
    refine V_bipush (pc := 45) (v := 14) hk dX0_mean_45 rfl ?_
    refine V_iaload (pc := 47) hk dX0_mean_47 (fun v9 => ?_)
    refine V_isub (pc := 48) hk dX0_mean_48 ?_
    refine V_i2l (pc := 49) hk dX0_mean_49 ?_
    refine V_iload_n (pc := 50) hk dX0_mean_50 0 rfl ?_
    refine V_i2l (pc := 51) hk dX0_mean_51 ?_
    refine V_iload_n (pc := 52) hk dX0_mean_52 2 rfl ?_
    refine n_X0_328 (pc := 53) hk (fun r h => ctX0_inLowest (fl y) (fK y) hk.2.2.2.2.2.2.2.1 (((v6 - v9) : Int32).toInt64) (((v3 - 1) : Int32).toInt64) a0 w r h) ⟨Nat.le_of_ble_eq_true rfl, Nat.le_of_ble_eq_true rfl⟩ (Nat.le_of_ble_eq_true rfl) dX0_mean_53 (fun r10 => ?_)
    refine V_l2i (pc := 56) hk dX0_mean_56 ?_
    exact V_ireturn (pc := 57) hk hR rfl dX0_mean_57
  · refine V_iconst (pc := 18) (v := (-1)) hk dX0_mean_18 (by decide +kernel) ?_
    refine V_goto (pc := 19) (tgt := 57) hk dX0_mean_19 rfl ?_
    exact V_ireturn (pc := 57) hk hR rfl dX0_mean_57
theorem ctX0_mean (l : Launch) (K : Kx) (hI : Ini K) (b : Nat) (a0 : Int32) (w : Wd) : ∀ r, mX0_mean b a0 w = some r → Ct l K 204 12109 yX0_mean (ws_ yX0_mean cX0_mean 3 (some (.int))) [.ref b, .int a0] w (rvI r.1) r.2 := Ct_of rvI l K hI 204 12109 [.ref b, .int a0] w (by decide) (lc0 := [(0, .ref b), (1, .int a0)]) rfl (Nat.le_of_ble_eq_true rfl) (fun y hk hR _ _ hin => eX0_mean hk hR b a0 w)
noncomputable def mX0_image (this : Nat) (w : Wd) : Option (Int32 × Wd) :=
(gR w ((some this)) 0 1).bind fun v1 =>
(gR w ((some this)) 0 0).bind fun v2 =>
(recv w v1 1).bind fun b4 => (cal w (mX1_be b4 v2 w)).bind fun r3 =>
(gR r3.2 ((some this)) 0 0).bind fun v5 =>
(gR r3.2 v5 1 1).bind fun v6 =>
(ia r3.2 v6 8).bind fun v7 =>
some (v7, r3.2)
theorem eX0_image {y : Fx (Int32 × Wd)} (hk : OkF y RX0 cX0_image 1 5 124) (hR : RetM y rvI (some (.int))) (this : Nat) (w : Wd) : V y w [(0, va_rf (some this))] [] 0 (mX0_image this w) := by
  unfold mX0_image
  refine V_aload_n (pc := 0) hk dX0_image_0 0 rfl ?_
  refine g_X0_25 (pc := 1) hk dX0_image_1 (fun v1 => ?_)
  refine V_aload_n (pc := 4) hk dX0_image_4 0 rfl ?_
  refine g_X0_21 (pc := 5) hk dX0_image_5 (fun v2 => ?_)
  refine n_X0_75 (pc := 8) hk (fun b r h => ctX1_be (fl y) (fK y) hk.2.2.2.2.2.2.2.1 b v2 w r h) ⟨Nat.le_of_ble_eq_true rfl, Nat.le_of_ble_eq_true rfl⟩ (Nat.le_of_ble_eq_true rfl) dX0_image_8 (fun r3 => ?_)
  refine V_aload_n (pc := 11) hk dX0_image_11 0 rfl ?_
  refine g_X0_21 (pc := 12) hk dX0_image_12 (fun v5 => ?_)
  refine g_X0_176 (pc := 15) hk dX0_image_15 (fun v6 => ?_)
  refine V_bipush (pc := 18) (v := 8) hk dX0_image_18 rfl ?_
  refine V_iaload (pc := 20) hk dX0_image_20 (fun v7 => ?_)
  exact V_ireturn (pc := 21) hk hR rfl dX0_image_21
theorem ctX0_image (l : Launch) (K : Kx) (hI : Ini K) (b : Nat) (w : Wd) : ∀ r, mX0_image b w = some r → Ct l K 5 124 yX0_image (ws_ yX0_image cX0_image 1 (some (.int))) [.ref b] w (rvI r.1) r.2 := Ct_of rvI l K hI 5 124 [.ref b] w (by decide) (lc0 := [(0, .ref b)]) rfl (Nat.le_of_ble_eq_true rfl) (fun y hk hR _ _ hin => eX0_image hk hR b w)
noncomputable def mX0_back (this : Nat) (w : Wd) : Option (Int32 × Wd) :=
(gR w ((some this)) 0 0).bind fun v1 =>
(gR w ((some this)) 0 1).bind fun v2 =>
(recv w v1 1).bind fun b4 => (cal w (mX1_be b4 v2 w)).bind fun r3 =>
(gR r3.2 ((some this)) 0 0).bind fun v5 =>
(gR r3.2 v5 1 1).bind fun v6 =>
(ia r3.2 v6 8).bind fun v7 =>
some (v7, r3.2)
theorem eX0_back {y : Fx (Int32 × Wd)} (hk : OkF y RX0 cX0_back 1 5 124) (hR : RetM y rvI (some (.int))) (this : Nat) (w : Wd) : V y w [(0, va_rf (some this))] [] 0 (mX0_back this w) := by
  unfold mX0_back
  refine V_aload_n (pc := 0) hk dX0_back_0 0 rfl ?_
  refine g_X0_21 (pc := 1) hk dX0_back_1 (fun v1 => ?_)
  refine V_aload_n (pc := 4) hk dX0_back_4 0 rfl ?_
  refine g_X0_25 (pc := 5) hk dX0_back_5 (fun v2 => ?_)
  refine n_X0_75 (pc := 8) hk (fun b r h => ctX1_be (fl y) (fK y) hk.2.2.2.2.2.2.2.1 b v2 w r h) ⟨Nat.le_of_ble_eq_true rfl, Nat.le_of_ble_eq_true rfl⟩ (Nat.le_of_ble_eq_true rfl) dX0_back_8 (fun r3 => ?_)
  refine V_aload_n (pc := 11) hk dX0_back_11 0 rfl ?_
  refine g_X0_21 (pc := 12) hk dX0_back_12 (fun v5 => ?_)
  refine g_X0_176 (pc := 15) hk dX0_back_15 (fun v6 => ?_)
  refine V_bipush (pc := 18) (v := 8) hk dX0_back_18 rfl ?_
  refine V_iaload (pc := 20) hk dX0_back_20 (fun v7 => ?_)
  exact V_ireturn (pc := 21) hk hR rfl dX0_back_21
theorem ctX0_back (l : Launch) (K : Kx) (hI : Ini K) (b : Nat) (w : Wd) : ∀ r, mX0_back b w = some r → Ct l K 5 124 yX0_back (ws_ yX0_back cX0_back 1 (some (.int))) [.ref b] w (rvI r.1) r.2 := Ct_of rvI l K hI 5 124 [.ref b] w (by decide) (lc0 := [(0, .ref b)]) rfl (Nat.le_of_ble_eq_true rfl) (fun y hk hR _ _ hin => eX0_back hk hR b w)
noncomputable def mX0_about (this : Nat) (a0 : Int32) (w : Wd) : Option (Int32 × Wd) :=
if a0 = 0 then (
(gR w ((some this)) 0 0).bind fun v1 =>
(gR w v1 1 0).bind fun v2 =>
(ia w v2 0).bind fun v3 =>
some (v3, w))
else (
if a0 = 1 then (
(gR w ((some this)) 0 0).bind fun v4 =>
(gR w v4 1 0).bind fun v5 =>
(ia w v5 1).bind fun v6 =>
some (v6, w))
else (
if a0 = 2 then (
(gR w ((some this)) 0 0).bind fun v7 =>
(gR w v7 1 1).bind fun v8 =>
(ia w v8 9).bind fun v9 =>
some (v9, w))
else (
if a0 = 3 then (
(gR w ((some this)) 0 0).bind fun v10 =>
(gR w v10 1 0).bind fun v11 =>
(ia w v11 2).bind fun v12 =>
some (v12, w))
else (
if a0 = 4 then (
(gR w ((some this)) 0 0).bind fun v13 =>
(gR w v13 1 0).bind fun v14 =>
(ia w v14 3).bind fun v15 =>
some (v15, w))
else (
if a0 = 5 then (
(gR w ((some this)) 0 0).bind fun v16 =>
(gR w v16 1 0).bind fun v17 =>
(ia w v17 4).bind fun v18 =>
some (v18, w))
else (
if a0 = 6 then (
(gR w ((some this)) 0 0).bind fun v19 =>
(gR w v19 1 0).bind fun v20 =>
(ia w v20 5).bind fun v21 =>
some (v21, w))
else (
if a0 = 7 then (
(gR w ((some this)) 0 0).bind fun v22 =>
(gR w v22 1 1).bind fun v23 =>
(ia w v23 8).bind fun v24 =>
(gR w ((some this)) 0 0).bind fun v25 =>
(gR w v25 1 1).bind fun v26 =>
(cal w (mX0_firstKept v26 w)).bind fun r27 =>
some (v24 - r27.1, r27.2))
else (
if a0 = 8 then (
(gI w ((some this)) 0 3).bind fun v28 =>
some (v28, w))
else (
if a0 = 9 then (
(gR w ((some this)) 0 0).bind fun v29 =>
(gR w v29 1 0).bind fun v30 =>
(ia w v30 6).bind fun v31 =>
some (v31, w))
else (
some ((-2), w)))))))))))
theorem eX0_about {y : Fx (Int32 × Wd)} (hk : OkF y RX0 cX0_about 2 3 80) (hR : RetM y rvI (some (.int))) (this : Nat) (a0 : Int32) (w : Wd) : V y w [(0, va_rf (some this)), (1, .int a0)] [] 0 (mX0_about this a0 w) := by
  unfold mX0_about
  refine V_iload_n (pc := 0) hk dX0_about_0 1 rfl ?_
  refine V_if (fun hx => ?_) (fun hn0 => ?_)
  · refine V_tblIn (pc := 1) (tgt := 56) (off := 55) hk 0 hx dX0_about_1 (by decide) (by decide) (by decide +kernel) rfl ?_
    refine V_aload_n (pc := 56) hk dX0_about_56 0 rfl ?_
    refine g_X0_21 (pc := 57) hk dX0_about_57 (fun v1 => ?_)
    refine g_X0_79 (pc := 60) hk dX0_about_60 (fun v2 => ?_)
    refine V_iconst (pc := 63) (v := 0) hk dX0_about_63 rfl ?_
    refine V_iaload (pc := 64) hk dX0_about_64 (fun v3 => ?_)
    exact V_ireturn (pc := 65) hk hR rfl dX0_about_65
  refine V_if (fun hx => ?_) (fun hn1 => ?_)
  · refine V_tblIn (pc := 1) (tgt := 66) (off := 65) hk 1 hx dX0_about_1 (by decide) (by decide) (by decide +kernel) rfl ?_
    refine V_aload_n (pc := 66) hk dX0_about_66 0 rfl ?_
    refine g_X0_21 (pc := 67) hk dX0_about_67 (fun v4 => ?_)
    refine g_X0_79 (pc := 70) hk dX0_about_70 (fun v5 => ?_)
    refine V_iconst (pc := 73) (v := 1) hk dX0_about_73 rfl ?_
    refine V_iaload (pc := 74) hk dX0_about_74 (fun v6 => ?_)
    exact V_ireturn (pc := 75) hk hR rfl dX0_about_75
  refine V_if (fun hx => ?_) (fun hn2 => ?_)
  · refine V_tblIn (pc := 1) (tgt := 76) (off := 75) hk 2 hx dX0_about_1 (by decide) (by decide) (by decide +kernel) rfl ?_
    refine V_aload_n (pc := 76) hk dX0_about_76 0 rfl ?_
    refine g_X0_21 (pc := 77) hk dX0_about_77 (fun v7 => ?_)
    refine g_X0_176 (pc := 80) hk dX0_about_80 (fun v8 => ?_)
    refine V_bipush (pc := 83) (v := 9) hk dX0_about_83 rfl ?_
    refine V_iaload (pc := 85) hk dX0_about_85 (fun v9 => ?_)
    exact V_ireturn (pc := 86) hk hR rfl dX0_about_86
  refine V_if (fun hx => ?_) (fun hn3 => ?_)
  · refine V_tblIn (pc := 1) (tgt := 87) (off := 86) hk 3 hx dX0_about_1 (by decide) (by decide) (by decide +kernel) rfl ?_
    refine V_aload_n (pc := 87) hk dX0_about_87 0 rfl ?_
    refine g_X0_21 (pc := 88) hk dX0_about_88 (fun v10 => ?_)
    refine g_X0_79 (pc := 91) hk dX0_about_91 (fun v11 => ?_)
    refine V_iconst (pc := 94) (v := 2) hk dX0_about_94 rfl ?_
    refine V_iaload (pc := 95) hk dX0_about_95 (fun v12 => ?_)
    exact V_ireturn (pc := 96) hk hR rfl dX0_about_96
  refine V_if (fun hx => ?_) (fun hn4 => ?_)
  · refine V_tblIn (pc := 1) (tgt := 97) (off := 96) hk 4 hx dX0_about_1 (by decide) (by decide) (by decide +kernel) rfl ?_
    refine V_aload_n (pc := 97) hk dX0_about_97 0 rfl ?_
    refine g_X0_21 (pc := 98) hk dX0_about_98 (fun v13 => ?_)
    refine g_X0_79 (pc := 101) hk dX0_about_101 (fun v14 => ?_)
    refine V_iconst (pc := 104) (v := 3) hk dX0_about_104 rfl ?_
    refine V_iaload (pc := 105) hk dX0_about_105 (fun v15 => ?_)
    exact V_ireturn (pc := 106) hk hR rfl dX0_about_106
  refine V_if (fun hx => ?_) (fun hn5 => ?_)
  · refine V_tblIn (pc := 1) (tgt := 107) (off := 106) hk 5 hx dX0_about_1 (by decide) (by decide) (by decide +kernel) rfl ?_
    refine V_aload_n (pc := 107) hk dX0_about_107 0 rfl ?_
    refine g_X0_21 (pc := 108) hk dX0_about_108 (fun v16 => ?_)
    refine g_X0_79 (pc := 111) hk dX0_about_111 (fun v17 => ?_)
    refine V_iconst (pc := 114) (v := 4) hk dX0_about_114 rfl ?_
    refine V_iaload (pc := 115) hk dX0_about_115 (fun v18 => ?_)
    exact V_ireturn (pc := 116) hk hR rfl dX0_about_116
  refine V_if (fun hx => ?_) (fun hn6 => ?_)
  · refine V_tblIn (pc := 1) (tgt := 117) (off := 116) hk 6 hx dX0_about_1 (by decide) (by decide) (by decide +kernel) rfl ?_
    refine V_aload_n (pc := 117) hk dX0_about_117 0 rfl ?_
    refine g_X0_21 (pc := 118) hk dX0_about_118 (fun v19 => ?_)
    refine g_X0_79 (pc := 121) hk dX0_about_121 (fun v20 => ?_)
    refine V_iconst (pc := 124) (v := 5) hk dX0_about_124 rfl ?_
    refine V_iaload (pc := 125) hk dX0_about_125 (fun v21 => ?_)
    exact V_ireturn (pc := 126) hk hR rfl dX0_about_126
  refine V_if (fun hx => ?_) (fun hn7 => ?_)
  · refine V_tblIn (pc := 1) (tgt := 127) (off := 126) hk 7 hx dX0_about_1 (by decide) (by decide) (by decide +kernel) rfl ?_
    refine V_aload_n (pc := 127) hk dX0_about_127 0 rfl ?_
    refine g_X0_21 (pc := 128) hk dX0_about_128 (fun v22 => ?_)
    refine g_X0_176 (pc := 131) hk dX0_about_131 (fun v23 => ?_)
    refine V_bipush (pc := 134) (v := 8) hk dX0_about_134 rfl ?_
    refine V_iaload (pc := 136) hk dX0_about_136 (fun v24 => ?_)
    refine V_aload_n (pc := 137) hk dX0_about_137 0 rfl ?_
    refine g_X0_21 (pc := 138) hk dX0_about_138 (fun v25 => ?_)
    refine g_X0_176 (pc := 141) hk dX0_about_141 (fun v26 => ?_)
    refine n_X0_146 (pc := 144) hk (fun r h => ctX0_firstKept (fl y) (fK y) hk.2.2.2.2.2.2.2.1 v26 w r h) ⟨Nat.le_of_ble_eq_true rfl, Nat.le_of_ble_eq_true rfl⟩ (Nat.le_of_ble_eq_true rfl) dX0_about_144 (fun r27 => ?_)
    refine V_isub (pc := 147) hk dX0_about_147 ?_
    exact V_ireturn (pc := 148) hk hR rfl dX0_about_148
  refine V_if (fun hx => ?_) (fun hn8 => ?_)
  · refine V_tblIn (pc := 1) (tgt := 149) (off := 148) hk 8 hx dX0_about_1 (by decide) (by decide) (by decide +kernel) rfl ?_
    refine V_aload_n (pc := 149) hk dX0_about_149 0 rfl ?_
    refine g_X0_93 (pc := 150) hk dX0_about_150 (fun v28 => ?_)
    exact V_ireturn (pc := 153) hk hR rfl dX0_about_153
  refine V_if (fun hx => ?_) (fun hn9 => ?_)
  · refine V_tblIn (pc := 1) (tgt := 154) (off := 153) hk 9 hx dX0_about_1 (by decide) (by decide) (by decide +kernel) rfl ?_
    refine V_aload_n (pc := 154) hk dX0_about_154 0 rfl ?_
    refine g_X0_21 (pc := 155) hk dX0_about_155 (fun v29 => ?_)
    refine g_X0_79 (pc := 158) hk dX0_about_158 (fun v30 => ?_)
    refine V_bipush (pc := 161) (v := 6) hk dX0_about_161 rfl ?_
    refine V_iaload (pc := 163) hk dX0_about_163 (fun v31 => ?_)
    exact V_ireturn (pc := 164) hk hR rfl dX0_about_164
  refine V_tblOut (pc := 1) (tgt := 165) hk dX0_about_1 (tbl_out 0 9 (by intro k h1 h2; obtain rfl | rfl | rfl | rfl | rfl | rfl | rfl | rfl | rfl | rfl : k = 0 ∨ k = 1 ∨ k = 2 ∨ k = 3 ∨ k = 4 ∨ k = 5 ∨ k = 6 ∨ k = 7 ∨ k = 8 ∨ k = 9 := (by omega); exact hn0; exact hn1; exact hn2; exact hn3; exact hn4; exact hn5; exact hn6; exact hn7; exact hn8; exact hn9)) rfl ?_
  refine V_bipush (pc := 165) (v := (-2)) hk dX0_about_165 (by decide +kernel) ?_
  exact V_ireturn (pc := 167) hk hR rfl dX0_about_167
theorem ctX0_about (l : Launch) (K : Kx) (hI : Ini K) (b : Nat) (a0 : Int32) (w : Wd) : ∀ r, mX0_about b a0 w = some r → Ct l K 3 80 yX0_about (ws_ yX0_about cX0_about 2 (some (.int))) [.ref b, .int a0] w (rvI r.1) r.2 := Ct_of rvI l K hI 3 80 [.ref b, .int a0] w (by decide) (lc0 := [(0, .ref b), (1, .int a0)]) rfl (Nat.le_of_ble_eq_true rfl) (fun y hk hR _ _ hin => eX0_about hk hR b a0 w)
