noncomputable def mX2_copy_b2 (k2 : Wd → (Option Nat) → (Option Nat) → Int32 → Option (Unit × Wd)) (w : Wd) (l0 : Option Nat) (l1 : Option Nat) (l2 : Int32) : Option (Unit × Wd) :=
if 9834 ≤ l2 then (
some ((), w))
else (
(ia w l0 l2).bind fun v1 =>
(ias w l1 l2 v1).bind fun w2 =>
k2 w2 l0 l1 (l2 + 1))
noncomputable def mX2_copy_l2 : Nat → Wd → (Option Nat) → (Option Nat) → Int32 → Option (Unit × Wd)
  | 0, _, _, _, _ => none
  | n + 1, w, l0, l1, l2 => mX2_copy_b2 (mX2_copy_l2 n) w l0 l1 l2
noncomputable def mX2_copy (a0 : Option Nat) (a1 : Option Nat) (w : Wd) : Option (Unit × Wd) :=
mX2_copy_l2 FU w a0 a1 0
theorem eX2_copy_b2 {y : Fx (Unit × Wd)} (hk : OkF y RX2 cX2_copy 3 2 60) (hR : RetM y rvV none) {k2 : Wd → (Option Nat) → (Option Nat) → Int32 → Option (Unit × Wd)} (h2 : ∀ (w : Wd) (l0 : Option Nat) (l1 : Option Nat) (l2 : Int32), V y w [(0, va_rf l0), (1, va_rf l1), (2, .int l2)] [] 2 (k2 w l0 l1 l2)) (w : Wd) (l0 : Option Nat) (l1 : Option Nat) (l2 : Int32) : V y w [(0, va_rf l0), (1, va_rf l1), (2, .int l2)] [] 2 (mX2_copy_b2 k2 w l0 l1 l2) := by
  unfold mX2_copy_b2
  refine V_iload_n (pc := 2) hk dX2_copy_2 2 rfl ?_
  refine V_sipush (pc := 3) (v := 9834) hk dX2_copy_3 rfl ?_
  refine V_icmp_ge (pc := 6) (tgt := 21) hk dX2_copy_6 rfl ?_ ?_
  · exact V_return (pc := 21) hk hR rfl dX2_copy_21
  · refine V_aload_n (pc := 9) hk dX2_copy_9 1 rfl ?_
    refine V_iload_n (pc := 10) hk dX2_copy_10 2 rfl ?_
    refine V_aload_n (pc := 11) hk dX2_copy_11 0 rfl ?_
    refine V_iload_n (pc := 12) hk dX2_copy_12 2 rfl ?_
    refine V_iaload (pc := 13) hk dX2_copy_13 (fun v1 => ?_)
    refine V_iastore (pc := 14) hk dX2_copy_14 (fun w2 => ?_)
    refine V_iinc (pc := 15) (v := 1) (lc' := [(2, .int (l2 + 1)), (0, va_rf l0), (1, va_rf l1)]) hk dX2_copy_15 2 rfl rfl (Nat.le_of_ble_eq_true rfl) (by simp [rf_cat, cat_int, cat_long, cat_ref]) ?_
    refine V_goto (pc := 18) (tgt := 2) hk dX2_copy_18 rfl ?_
    refine V_pick (lc' := [(0, va_rf l0), (1, va_rf l1), (2, .int (l2 + 1))]) [1, 2, 0] rfl ?_
    exact h2 w2 l0 l1 (l2 + 1)
theorem eX2_copy_l2 {y : Fx (Unit × Wd)} (hk : OkF y RX2 cX2_copy 3 2 60) (hR : RetM y rvV none) : ∀ (n : Nat) (w : Wd) (l0 : Option Nat) (l1 : Option Nat) (l2 : Int32), V y w [(0, va_rf l0), (1, va_rf l1), (2, .int l2)] [] 2 (mX2_copy_l2 n w l0 l1 l2) := by
  intro n
  induction n with
  | zero => intro w l0 l1 l2; exact V_none
  | succ n ih => intro w l0 l1 l2; exact eX2_copy_b2 hk hR ih w l0 l1 l2
theorem eX2_copy {y : Fx (Unit × Wd)} (hk : OkF y RX2 cX2_copy 3 2 60) (hR : RetM y rvV none) (a0 : Option Nat) (a1 : Option Nat) (w : Wd) : V y w [(0, va_rf a0), (1, va_rf a1)] [] 0 (mX2_copy a0 a1 w) := by
  unfold mX2_copy
  refine V_iconst (pc := 0) (v := 0) hk dX2_copy_0 rfl ?_
  refine V_istore_n (pc := 1) (lc' := [(2, .int 0), (0, va_rf a0), (1, va_rf a1)]) (i := 2) hk dX2_copy_1 rfl (Nat.le_of_ble_eq_true rfl) (by simp [rf_cat, cat_int, cat_long, cat_ref]) ?_
  refine V_pick (lc' := [(0, va_rf a0), (1, va_rf a1), (2, .int 0)]) [1, 2, 0] rfl ?_
  exact eX2_copy_l2 hk hR FU w a0 a1 0
theorem ctX2_copy (l : Launch) (K : Kx) (hI : Ini K) (a0 : Option Nat) (a1 : Option Nat) (w : Wd) : ∀ r, mX2_copy a0 a1 w = some r → Ct l K 2 60 yX2_copy (ws_ yX2_copy cX2_copy 3 none) [va_rf a0, va_rf a1] w (rvV r.1) r.2 := Ct_of rvV l K hI 2 60 [va_rf a0, va_rf a1] w (by decide) (lc0 := [(0, va_rf a0), (1, va_rf a1)]) (by simp [lv_args, rf_cat, cat_int, cat_long, cat_ref]) (lg_len _ _ (by simp [rf_cat, cat_int, cat_long, cat_ref])) (fun y hk hR _ _ hin => eX2_copy hk hR a0 a1 w)
noncomputable def mX2_init (this : Nat) (w : Wd) : Option (Unit × Wd) :=
(((some this))).bind fun b1 =>
(nchk 9834).bind fun n2 => (some (wnew w (.inl (.int, n2, .inl (fun _ => 0))) n2)).bind fun (w3 : Wd) =>
(pf w3 ((some this)) 2 0 (va_rf ((some (wnx w))))).bind fun w4 =>
(nchk 9834).bind fun n5 => (some (wnew w4 (.inl (.int, n5, .inl (fun _ => 0))) n5)).bind fun (w6 : Wd) =>
(pf w6 ((some this)) 2 1 (va_rf ((some (wnx w4))))).bind fun w7 =>
(nchk 3012).bind fun n8 => (some (wnew w7 (.inl (.int, n8, .inl (fun _ => 0))) n8)).bind fun (w9 : Wd) =>
(pf w9 ((some this)) 2 2 (va_rf ((some (wnx w7))))).bind fun w10 =>
(nchk 300).bind fun n11 => (some (wnew w10 (.inl (.int, n11, .inl (fun _ => 0))) n11)).bind fun (w12 : Wd) =>
(pf w12 ((some this)) 2 3 (va_rf ((some (wnx w10))))).bind fun w13 =>
(pf w13 ((some this)) 2 5 (.int (-1))).bind fun w14 =>
(pf w14 ((some this)) 2 6 (.int (-1))).bind fun w15 =>
(nchk 160).bind fun n16 => (some (wnew w15 (.inl (.int, n16, .inl (fun _ => 0))) n16)).bind fun (w17 : Wd) =>
(pf w17 ((some this)) 2 15 (va_rf ((some (wnx w15))))).bind fun w18 =>
(nchk 8).bind fun n19 => (some (wnew w18 (.inl (.int, n19, .inl (fun _ => 0))) n19)).bind fun (w20 : Wd) =>
(pf w20 ((some this)) 2 20 (va_rf ((some (wnx w18))))).bind fun w21 =>
(nchk 330).bind fun n22 => (some (wnew w21 (.inl (.long, n22, .inr (.inl (fun _ => 0)))) n22)).bind fun (w23 : Wd) =>
(pf w23 ((some this)) 2 23 (va_rf ((some (wnx w21))))).bind fun w24 =>
(nchk 330).bind fun n25 => (some (wnew w24 (.inl (.boolean, n25, .inl (fun _ => 0))) n25)).bind fun (w26 : Wd) =>
(pf w26 ((some this)) 2 24 (va_rf ((some (wnx w24))))).bind fun w27 =>
(nchk 18).bind fun n28 => (some (wnew w27 (.inl (.int, n28, .inl (fun _ => 0))) n28)).bind fun (w29 : Wd) =>
(pf w29 ((some this)) 2 26 (va_rf ((some (wnx w27))))).bind fun w30 =>
(nchk 1200).bind fun n31 => (some (wnew w30 (.inl (.int, n31, .inl (fun _ => 0))) n31)).bind fun (w32 : Wd) =>
(pf w32 ((some this)) 2 29 (va_rf ((some (wnx w30))))).bind fun w33 =>
(nchk 8).bind fun n34 => (some (wnew w33 (.inl (.int, n34, .inl (fun _ => 0))) n34)).bind fun (w35 : Wd) =>
(pf w35 ((some this)) 2 30 (va_rf ((some (wnx w33))))).bind fun w36 =>
(nchk 8).bind fun n37 => (some (wnew w36 (.inl (.int, n37, .inl (fun _ => 0))) n37)).bind fun (w38 : Wd) =>
(pf w38 ((some this)) 2 31 (va_rf ((some (wnx w36))))).bind fun w39 =>
(nchk 8).bind fun n40 => (some (wnew w39 (.inl (.int, n40, .inl (fun _ => 0))) n40)).bind fun (w41 : Wd) =>
(pf w41 ((some this)) 2 32 (va_rf ((some (wnx w39))))).bind fun w42 =>
(nchk 8).bind fun n43 => (some (wnew w42 (.inl (.int, n43, .inl (fun _ => 0))) n43)).bind fun (w44 : Wd) =>
(pf w44 ((some this)) 2 33 (va_rf ((some (wnx w42))))).bind fun w45 =>
(nchk 8).bind fun n46 => (some (wnew w45 (.inl (.int, n46, .inl (fun _ => 0))) n46)).bind fun (w47 : Wd) =>
(pf w47 ((some this)) 2 35 (va_rf ((some (wnx w45))))).bind fun w48 =>
(nchk 8).bind fun n49 => (some (wnew w48 (.inl (.int, n49, .inl (fun _ => 0))) n49)).bind fun (w50 : Wd) =>
(pf w50 ((some this)) 2 36 (va_rf ((some (wnx w48))))).bind fun w51 =>
(gR w51 ((some this)) 2 0).bind fun v52 =>
(ias w51 v52 1 2).bind fun w53 =>
(gR w53 ((some this)) 2 0).bind fun v54 =>
(ias w53 v54 2 59).bind fun w55 =>
(gR w55 ((some this)) 2 0).bind fun v56 =>
(ias w55 v56 4 (-1)).bind fun w57 =>
(gR w57 ((some this)) 2 0).bind fun v58 =>
(ias w57 v58 12 5).bind fun w59 =>
(gR w59 ((some this)) 2 0).bind fun v60 =>
(ias w59 v60 17 (-1)).bind fun w61 =>
(gR w61 ((some this)) 2 0).bind fun v62 =>
(gR w61 ((some this)) 2 1).bind fun v63 =>
(cal w61 (mX2_copy v62 v63 w61)).bind fun r64 =>
some ((), r64.2)
theorem eX2_init {y : Fx (Unit × Wd)} (hk : OkF y RX2 cX2_init 1 3 82) (hR : RetM y rvV none) (hin : (fmeth y).name = "<init>") (this : Nat) (w : Wd) : V y w [(0, va_rf (some this))] [] 0 (mX2_init this w) := by
  unfold mX2_init
  refine V_aload_n (pc := 0) hk dX2_init_0 0 rfl ?_
  refine V_objInit (pc := 1) hk q1345 q170 q171 ⟨Nat.le_of_ble_eq_true rfl, Nat.le_of_ble_eq_true rfl⟩ (Nat.le_of_ble_eq_true rfl) dX2_init_1 (fun b1 => ?_)
  refine V_aload_n (pc := 4) hk dX2_init_4 0 rfl ?_
  refine V_sipush (pc := 5) (v := 9834) hk dX2_init_5 rfl ?_
  refine V_na_int (pc := 8) hk dX2_init_8 (fun n2 => ?_)
  refine V_nmW (fun w3 => ?_)
  refine p_X2_7 (pc := 10) hk hin dX2_init_10 (fun w4 => ?_)
  refine V_aload_n (pc := 13) hk dX2_init_13 0 rfl ?_
  refine V_sipush (pc := 14) (v := 9834) hk dX2_init_14 rfl ?_
  refine V_na_int (pc := 17) hk dX2_init_17 (fun n5 => ?_)
  refine V_nmW (fun w6 => ?_)
  refine p_X2_13 (pc := 19) hk hin dX2_init_19 (fun w7 => ?_)
  refine V_aload_n (pc := 22) hk dX2_init_22 0 rfl ?_
  refine V_sipush (pc := 23) (v := 3012) hk dX2_init_23 rfl ?_
  refine V_na_int (pc := 26) hk dX2_init_26 (fun n8 => ?_)
  refine V_nmW (fun w9 => ?_)
  refine p_X2_16 (pc := 28) hk hin dX2_init_28 (fun w10 => ?_)
  refine V_aload_n (pc := 31) hk dX2_init_31 0 rfl ?_
  refine V_sipush (pc := 32) (v := 300) hk dX2_init_32 rfl ?_
  refine V_na_int (pc := 35) hk dX2_init_35 (fun n11 => ?_)
  refine V_nmW (fun w12 => ?_)
  refine p_X2_19 (pc := 37) hk hin dX2_init_37 (fun w13 => ?_)
  refine V_aload_n (pc := 40) hk dX2_init_40 0 rfl ?_
  refine V_iconst (pc := 41) (v := (-1)) hk dX2_init_41 (by decide +kernel) ?_
  refine p_X2_22 (pc := 42) hk dX2_init_42 (fun w14 => ?_)
  refine V_aload_n (pc := 45) hk dX2_init_45 0 rfl ?_
  refine V_iconst (pc := 46) (v := (-1)) hk dX2_init_46 (by decide +kernel) ?_
  refine p_X2_26 (pc := 47) hk dX2_init_47 (fun w15 => ?_)
  refine V_aload_n (pc := 50) hk dX2_init_50 0 rfl ?_
  refine V_sipush (pc := 51) (v := 160) hk dX2_init_51 rfl ?_
  refine V_na_int (pc := 54) hk dX2_init_54 (fun n16 => ?_)
  refine V_nmW (fun w17 => ?_)
  refine p_X2_29 (pc := 56) hk hin dX2_init_56 (fun w18 => ?_)
  refine V_aload_n (pc := 59) hk dX2_init_59 0 rfl ?_
  refine V_bipush (pc := 60) (v := 8) hk dX2_init_60 rfl ?_
  refine V_na_int (pc := 62) hk dX2_init_62 (fun n19 => ?_)
  refine V_nmW (fun w20 => ?_)
  refine p_X2_32 (pc := 64) hk hin dX2_init_64 (fun w21 => ?_)
  refine V_aload_n (pc := 67) hk dX2_init_67 0 rfl ?_
  refine V_sipush (pc := 68) (v := 330) hk dX2_init_68 rfl ?_
  refine V_na_long (pc := 71) hk dX2_init_71 (fun n22 => ?_)
  refine V_nmW (fun w23 => ?_)
  refine p_X2_35 (pc := 73) hk hin dX2_init_73 (fun w24 => ?_)
  refine V_aload_n (pc := 76) hk dX2_init_76 0 rfl ?_
  refine V_sipush (pc := 77) (v := 330) hk dX2_init_77 rfl ?_
  refine V_na_boolean (pc := 80) hk dX2_init_80 (fun n25 => ?_)
  refine V_nmW (fun w26 => ?_)
  refine p_X2_39 (pc := 82) hk hin dX2_init_82 (fun w27 => ?_)
  refine V_aload_n (pc := 85) hk dX2_init_85 0 rfl ?_
  refine V_bipush (pc := 86) (v := 18) hk dX2_init_86 rfl ?_
  refine V_na_int (pc := 88) hk dX2_init_88 (fun n28 => ?_)
  refine V_nmW (fun w29 => ?_)
  refine p_X2_43 (pc := 90) hk hin dX2_init_90 (fun w30 => ?_)
  refine V_aload_n (pc := 93) hk dX2_init_93 0 rfl ?_
  refine V_sipush (pc := 94) (v := 1200) hk dX2_init_94 rfl ?_
  refine V_na_int (pc := 97) hk dX2_init_97 (fun n31 => ?_)
  refine V_nmW (fun w32 => ?_)
  refine p_X2_46 (pc := 99) hk hin dX2_init_99 (fun w33 => ?_)
  refine V_aload_n (pc := 102) hk dX2_init_102 0 rfl ?_
  refine V_bipush (pc := 103) (v := 8) hk dX2_init_103 rfl ?_
  refine V_na_int (pc := 105) hk dX2_init_105 (fun n34 => ?_)
  refine V_nmW (fun w35 => ?_)
  refine p_X2_49 (pc := 107) hk hin dX2_init_107 (fun w36 => ?_)
  refine V_aload_n (pc := 110) hk dX2_init_110 0 rfl ?_
  refine V_bipush (pc := 111) (v := 8) hk dX2_init_111 rfl ?_
  refine V_na_int (pc := 113) hk dX2_init_113 (fun n37 => ?_)
  refine V_nmW (fun w38 => ?_)
  refine p_X2_52 (pc := 115) hk hin dX2_init_115 (fun w39 => ?_)
  refine V_aload_n (pc := 118) hk dX2_init_118 0 rfl ?_
  refine V_bipush (pc := 119) (v := 8) hk dX2_init_119 rfl ?_
  refine V_na_int (pc := 121) hk dX2_init_121 (fun n40 => ?_)
  refine V_nmW (fun w41 => ?_)
  refine p_X2_55 (pc := 123) hk hin dX2_init_123 (fun w42 => ?_)
  refine V_aload_n (pc := 126) hk dX2_init_126 0 rfl ?_
  refine V_bipush (pc := 127) (v := 8) hk dX2_init_127 rfl ?_
  refine V_na_int (pc := 129) hk dX2_init_129 (fun n43 => ?_)
  refine V_nmW (fun w44 => ?_)
  refine p_X2_58 (pc := 131) hk hin dX2_init_131 (fun w45 => ?_)
  refine V_aload_n (pc := 134) hk dX2_init_134 0 rfl ?_
  refine V_bipush (pc := 135) (v := 8) hk dX2_init_135 rfl ?_
  refine V_na_int (pc := 137) hk dX2_init_137 (fun n46 => ?_)
  refine V_nmW (fun w47 => ?_)
  refine p_X2_61 (pc := 139) hk hin dX2_init_139 (fun w48 => ?_)
  refine V_aload_n (pc := 142) hk dX2_init_142 0 rfl ?_
  refine V_bipush (pc := 143) (v := 8) hk dX2_init_143 rfl ?_
  refine V_na_int (pc := 145) hk dX2_init_145 (fun n49 => ?_)
  refine V_nmW (fun w50 => ?_)
  refine p_X2_64 (pc := 147) hk hin dX2_init_147 (fun w51 => ?_)
  refine V_aload_n (pc := 150) hk dX2_init_150 0 rfl ?_
  refine g_X2_7 (pc := 151) hk dX2_init_151 (fun v52 => ?_)
  refine V_iconst (pc := 154) (v := 1) hk dX2_init_154 rfl ?_
  refine V_iconst (pc := 155) (v := 2) hk dX2_init_155 rfl ?_
  refine V_iastore (pc := 156) hk dX2_init_156 (fun w53 => ?_)
  refine V_aload_n (pc := 157) hk dX2_init_157 0 rfl ?_
  refine g_X2_7 (pc := 158) hk dX2_init_158 (fun v54 => ?_)
  refine V_iconst (pc := 161) (v := 2) hk dX2_init_161 rfl ?_
  refine V_bipush (pc := 162) (v := 59) hk dX2_init_162 rfl ?_
  refine V_iastore (pc := 164) hk dX2_init_164 (fun w55 => ?_)
  refine V_aload_n (pc := 165) hk dX2_init_165 0 rfl ?_
  refine g_X2_7 (pc := 166) hk dX2_init_166 (fun v56 => ?_)
  refine V_iconst (pc := 169) (v := 4) hk dX2_init_169 rfl ?_
  refine V_iconst (pc := 170) (v := (-1)) hk dX2_init_170 (by decide +kernel) ?_
  refine V_iastore (pc := 171) hk dX2_init_171 (fun w57 => ?_)
  refine V_aload_n (pc := 172) hk dX2_init_172 0 rfl ?_
  refine g_X2_7 (pc := 173) hk dX2_init_173 (fun v58 => ?_)
  refine V_bipush (pc := 176) (v := 12) hk dX2_init_176 rfl ?_
  refine V_iconst (pc := 178) (v := 5) hk dX2_init_178 rfl ?_
  refine V_iastore (pc := 179) hk dX2_init_179 (fun w59 => ?_)
  refine V_aload_n (pc := 180) hk dX2_init_180 0 rfl ?_
  refine g_X2_7 (pc := 181) hk dX2_init_181 (fun v60 => ?_)
  refine V_bipush (pc := 184) (v := 17) hk dX2_init_184 rfl ?_
  refine V_iconst (pc := 186) (v := (-1)) hk dX2_init_186 (by decide +kernel) ?_
  refine V_iastore (pc := 187) hk dX2_init_187 (fun w61 => ?_)
  refine V_aload_n (pc := 188) hk dX2_init_188 0 rfl ?_
  refine g_X2_7 (pc := 189) hk dX2_init_189 (fun v62 => ?_)
  refine V_aload_n (pc := 192) hk dX2_init_192 0 rfl ?_
  refine g_X2_13 (pc := 193) hk dX2_init_193 (fun v63 => ?_)
  refine n_X2_67 (pc := 196) hk (fun r h => ctX2_copy (fl y) (fK y) hk.2.2.2.2.2.2.2.1 v62 v63 w61 r h) ⟨Nat.le_of_ble_eq_true rfl, Nat.le_of_ble_eq_true rfl⟩ (Nat.le_of_ble_eq_true rfl) dX2_init_196 (fun r64 => ?_)
  exact V_return (pc := 199) hk hR rfl dX2_init_199
theorem ctX2_init (l : Launch) (K : Kx) (hI : Ini K) (b : Nat) (w : Wd) : ∀ r, mX2_init b w = some r → Ct l K 3 82 yX2_init (ws_ yX2_init cX2_init 1 none) [.ref b] w (rvV r.1) r.2 := Ct_of rvV l K hI 3 82 [.ref b] w (by decide) (lc0 := [(0, .ref b)]) rfl (Nat.le_of_ble_eq_true rfl) (fun y hk hR _ _ hin => eX2_init hk hR hin b w)
noncomputable def mX2_isIn (a0 : Int32) (a1 : Int32) (a2 : Int32) (w : Wd) : Option (Int32 × Wd) :=
if a0 < a1 then (
(nok (.boolean) 0).bind fun _ => some (0, w))
else (
if a2 < a0 then (
(nok (.boolean) 0).bind fun _ => some (0, w))
else (
(nok (.boolean) 1).bind fun _ => some (1, w)))
theorem eX2_isIn {y : Fx (Int32 × Wd)} (hk : OkF y RX2 cX2_isIn 3 2 60) (hR : RetM y rvI (some (.boolean))) (a0 : Int32) (a1 : Int32) (a2 : Int32) (w : Wd) : V y w [(0, .int a0), (1, .int a1), (2, .int a2)] [] 0 (mX2_isIn a0 a1 a2 w) := by
  unfold mX2_isIn
  refine V_iload_n (pc := 0) hk dX2_isIn_0 0 rfl ?_
  refine V_iload_n (pc := 1) hk dX2_isIn_1 1 rfl ?_
  refine V_icmp_lt (pc := 2) (tgt := 14) hk dX2_isIn_2 rfl ?_ ?_
  · refine V_iconst (pc := 14) (v := 0) hk dX2_isIn_14 rfl ?_
    exact V_zreturn (pc := 15) hk hR rfl dX2_isIn_15
  · refine V_iload_n (pc := 5) hk dX2_isIn_5 0 rfl ?_
    refine V_iload_n (pc := 6) hk dX2_isIn_6 2 rfl ?_
    refine V_icmp_gt (pc := 7) (tgt := 14) hk dX2_isIn_7 rfl ?_ ?_
    · refine V_iconst (pc := 14) (v := 0) hk dX2_isIn_14 rfl ?_
      exact V_zreturn (pc := 15) hk hR rfl dX2_isIn_15
    · refine V_iconst (pc := 10) (v := 1) hk dX2_isIn_10 rfl ?_
      refine V_goto (pc := 11) (tgt := 15) hk dX2_isIn_11 rfl ?_
      exact V_zreturn (pc := 15) hk hR rfl dX2_isIn_15
theorem ctX2_isIn (l : Launch) (K : Kx) (hI : Ini K) (a0 : Int32) (a1 : Int32) (a2 : Int32) (w : Wd) : ∀ r, mX2_isIn a0 a1 a2 w = some r → Ct l K 2 60 yX2_isIn (ws_ yX2_isIn cX2_isIn 3 (some (.boolean))) [.int a0, .int a1, .int a2] w (rvI r.1) r.2 := Ct_of rvI l K hI 2 60 [.int a0, .int a1, .int a2] w (by decide) (lc0 := [(0, .int a0), (1, .int a1), (2, .int a2)]) rfl (Nat.le_of_ble_eq_true rfl) (fun y hk hR _ _ hin => eX2_isIn hk hR a0 a1 a2 w)
noncomputable def mX2_order (this : Nat) (a0 : Int32) (a1 : Int32) (a2 : Int32) (a3 : Int32) (a4 : Int32) (w : Wd) : Option (Int32 × Wd) :=
(cal w (mX2_isIn a0 1 99 w)).bind fun r1 =>
if r1.1 = 0 then (
some ((-1), r1.2))
else (
(cal r1.2 (mX2_isIn a1 0 60 r1.2)).bind fun r2 =>
if r2.1 = 0 then (
some ((-1), r2.2))
else (
(cal r2.2 (mX2_isIn a2 0 999 r2.2)).bind fun r3 =>
if r3.1 = 0 then (
some ((-1), r3.2))
else (
(cal r3.2 (mX2_isIn a3 0 9 r3.2)).bind fun r4 =>
if r4.1 = 0 then (
some ((-1), r4.2))
else (
(cal r4.2 (mX2_isIn a4 0 1 r4.2)).bind fun r5 =>
if r5.1 = 0 then (
some ((-1), r5.2))
else (
(gR r5.2 ((some this)) 2 0).bind fun v6 =>
(ia r5.2 v6 0).bind fun v7 =>
if ¬ v7 = 8 then (
(gR r5.2 ((some this)) 2 0).bind fun v8 =>
(ia r5.2 v8 0).bind fun v9 =>
(gR r5.2 ((some this)) 2 0).bind fun v10 =>
(ias r5.2 v10 (20 + (6 * v9)) a0).bind fun w11 =>
(gR w11 ((some this)) 2 0).bind fun v12 =>
(ias w11 v12 ((20 + (6 * v9)) + 1) a1).bind fun w13 =>
(gR w13 ((some this)) 2 0).bind fun v14 =>
(ias w13 v14 ((20 + (6 * v9)) + 2) a2).bind fun w15 =>
(gR w15 ((some this)) 2 0).bind fun v16 =>
(ias w15 v16 ((20 + (6 * v9)) + 3) a3).bind fun w17 =>
(gR w17 ((some this)) 2 0).bind fun v18 =>
(ias w17 v18 ((20 + (6 * v9)) + 4) a4).bind fun w19 =>
(gR w19 ((some this)) 2 0).bind fun v20 =>
(ias w19 v20 ((20 + (6 * v9)) + 5) 0).bind fun w21 =>
(gR w21 ((some this)) 2 0).bind fun v22 =>
(ia w21 v22 0).bind fun v23 =>
(ias w21 v22 0 (v23 + 1)).bind fun w24 =>
(gR w24 ((some this)) 2 0).bind fun v25 =>
(ia w24 v25 0).bind fun v26 =>
some (v26 - 1, w24))
else (
some ((-1), r5.2)))))))
theorem eX2_order {y : Fx (Int32 × Wd)} (hk : OkF y RX2 cX2_order 7 3 82) (hR : RetM y rvI (some (.int))) (this : Nat) (a0 : Int32) (a1 : Int32) (a2 : Int32) (a3 : Int32) (a4 : Int32) (w : Wd) : V y w [(0, va_rf (some this)), (1, .int a0), (2, .int a1), (3, .int a2), (4, .int a3), (5, .int a4)] [] 0 (mX2_order this a0 a1 a2 a3 a4 w) := by
  unfold mX2_order
  refine V_iload_n (pc := 0) hk dX2_order_0 1 rfl ?_
  refine V_iconst (pc := 1) (v := 1) hk dX2_order_1 rfl ?_
  refine V_bipush (pc := 2) (v := 99) hk dX2_order_2 rfl ?_
  refine n_X2_71 (pc := 4) hk (fun r h => ctX2_isIn (fl y) (fK y) hk.2.2.2.2.2.2.2.1 a0 1 99 w r h) ⟨Nat.le_of_ble_eq_true rfl, Nat.le_of_ble_eq_true rfl⟩ (Nat.le_of_ble_eq_true rfl) dX2_order_4 (fun r1 => ?_)
  refine V_if_eq (pc := 7) (tgt := 63) hk dX2_order_7 rfl ?_ ?_
  · refine V_iconst (pc := 63) (v := (-1)) hk dX2_order_63 (by decide +kernel) ?_
    exact V_ireturn (pc := 64) hk hR rfl dX2_order_64
  · refine V_iload_n (pc := 10) hk dX2_order_10 2 rfl ?_
    refine V_iconst (pc := 11) (v := 0) hk dX2_order_11 rfl ?_
    refine V_bipush (pc := 12) (v := 60) hk dX2_order_12 rfl ?_
    refine n_X2_71 (pc := 14) hk (fun r h => ctX2_isIn (fl y) (fK y) hk.2.2.2.2.2.2.2.1 a1 0 60 r1.2 r h) ⟨Nat.le_of_ble_eq_true rfl, Nat.le_of_ble_eq_true rfl⟩ (Nat.le_of_ble_eq_true rfl) dX2_order_14 (fun r2 => ?_)
    refine V_if_eq (pc := 17) (tgt := 63) hk dX2_order_17 rfl ?_ ?_
    · refine V_iconst (pc := 63) (v := (-1)) hk dX2_order_63 (by decide +kernel) ?_
      exact V_ireturn (pc := 64) hk hR rfl dX2_order_64
    · refine V_iload_n (pc := 20) hk dX2_order_20 3 rfl ?_
      refine V_iconst (pc := 21) (v := 0) hk dX2_order_21 rfl ?_
      refine V_sipush (pc := 22) (v := 999) hk dX2_order_22 rfl ?_
      refine n_X2_71 (pc := 25) hk (fun r h => ctX2_isIn (fl y) (fK y) hk.2.2.2.2.2.2.2.1 a2 0 999 r2.2 r h) ⟨Nat.le_of_ble_eq_true rfl, Nat.le_of_ble_eq_true rfl⟩ (Nat.le_of_ble_eq_true rfl) dX2_order_25 (fun r3 => ?_)
      refine V_if_eq (pc := 28) (tgt := 63) hk dX2_order_28 rfl ?_ ?_
      · refine V_iconst (pc := 63) (v := (-1)) hk dX2_order_63 (by decide +kernel) ?_
        exact V_ireturn (pc := 64) hk hR rfl dX2_order_64
      · refine V_iload (pc := 31) hk dX2_order_31 4 rfl ?_
        refine V_iconst (pc := 33) (v := 0) hk dX2_order_33 rfl ?_
        refine V_bipush (pc := 34) (v := 9) hk dX2_order_34 rfl ?_
        refine n_X2_71 (pc := 36) hk (fun r h => ctX2_isIn (fl y) (fK y) hk.2.2.2.2.2.2.2.1 a3 0 9 r3.2 r h) ⟨Nat.le_of_ble_eq_true rfl, Nat.le_of_ble_eq_true rfl⟩ (Nat.le_of_ble_eq_true rfl) dX2_order_36 (fun r4 => ?_)
        refine V_if_eq (pc := 39) (tgt := 63) hk dX2_order_39 rfl ?_ ?_
        · refine V_iconst (pc := 63) (v := (-1)) hk dX2_order_63 (by decide +kernel) ?_
          exact V_ireturn (pc := 64) hk hR rfl dX2_order_64
        · refine V_iload (pc := 42) hk dX2_order_42 5 rfl ?_
          refine V_iconst (pc := 44) (v := 0) hk dX2_order_44 rfl ?_
          refine V_iconst (pc := 45) (v := 1) hk dX2_order_45 rfl ?_
          refine n_X2_71 (pc := 46) hk (fun r h => ctX2_isIn (fl y) (fK y) hk.2.2.2.2.2.2.2.1 a4 0 1 r4.2 r h) ⟨Nat.le_of_ble_eq_true rfl, Nat.le_of_ble_eq_true rfl⟩ (Nat.le_of_ble_eq_true rfl) dX2_order_46 (fun r5 => ?_)
          refine V_if_eq (pc := 49) (tgt := 63) hk dX2_order_49 rfl ?_ ?_
          · refine V_iconst (pc := 63) (v := (-1)) hk dX2_order_63 (by decide +kernel) ?_
            exact V_ireturn (pc := 64) hk hR rfl dX2_order_64
          · refine V_aload_n (pc := 52) hk dX2_order_52 0 rfl ?_
            refine g_X2_7 (pc := 53) hk dX2_order_53 (fun v6 => ?_)
            refine V_iconst (pc := 56) (v := 0) hk dX2_order_56 rfl ?_
            refine V_iaload (pc := 57) hk dX2_order_57 (fun v7 => ?_)
            refine V_bipush (pc := 58) (v := 8) hk dX2_order_58 rfl ?_
            refine V_icmp_ne (pc := 60) (tgt := 65) hk dX2_order_60 rfl ?_ ?_
            · refine V_bipush (pc := 65) (v := 20) hk dX2_order_65 rfl ?_
              refine V_bipush (pc := 67) (v := 6) hk dX2_order_67 rfl ?_
              refine V_aload_n (pc := 69) hk dX2_order_69 0 rfl ?_
              refine g_X2_7 (pc := 70) hk dX2_order_70 (fun v8 => ?_)
              refine V_iconst (pc := 73) (v := 0) hk dX2_order_73 rfl ?_
              refine V_iaload (pc := 74) hk dX2_order_74 (fun v9 => ?_)
              refine V_imul (pc := 75) hk dX2_order_75 ?_
              refine V_iadd (pc := 76) hk dX2_order_76 ?_
              refine V_istore (pc := 77) (lc' := [(6, .int (20 + (6 * v9))), (0, va_rf ((some this))), (1, .int a0), (2, .int a1), (3, .int a2), (4, .int a3), (5, .int a4)]) (i := 6) hk dX2_order_77 (Nat.le_of_ble_eq_true rfl) rfl ?_
              refine V_aload_n (pc := 79) hk dX2_order_79 1 rfl ?_
              refine g_X2_7 (pc := 80) hk dX2_order_80 (fun v10 => ?_)
              refine V_iload (pc := 83) hk dX2_order_83 0 rfl ?_
              refine V_iload_n (pc := 85) hk dX2_order_85 2 rfl ?_
              refine V_iastore (pc := 86) hk dX2_order_86 (fun w11 => ?_)
              refine V_aload_n (pc := 87) hk dX2_order_87 1 rfl ?_
              refine g_X2_7 (pc := 88) hk dX2_order_88 (fun v12 => ?_)
              refine V_iload (pc := 91) hk dX2_order_91 0 rfl ?_
              refine V_iconst (pc := 93) (v := 1) hk dX2_order_93 rfl ?_
              refine V_iadd (pc := 94) hk dX2_order_94 ?_
              refine V_iload_n (pc := 95) hk dX2_order_95 3 rfl ?_
              refine V_iastore (pc := 96) hk dX2_order_96 (fun w13 => ?_)
              refine V_aload_n (pc := 97) hk dX2_order_97 1 rfl ?_
              refine g_X2_7 (pc := 98) hk dX2_order_98 (fun v14 => ?_)
              refine V_iload (pc := 101) hk dX2_order_101 0 rfl ?_
              refine V_iconst (pc := 103) (v := 2) hk dX2_order_103 rfl ?_
              refine V_iadd (pc := 104) hk dX2_order_104 ?_
              refine V_iload_n (pc := 105) hk dX2_order_105 4 rfl ?_
              refine V_iastore (pc := 106) hk dX2_order_106 (fun w15 => ?_)
              refine V_aload_n (pc := 107) hk dX2_order_107 1 rfl ?_
              refine g_X2_7 (pc := 108) hk dX2_order_108 (fun v16 => ?_)
              refine V_iload (pc := 111) hk dX2_order_111 0 rfl ?_
              refine V_iconst (pc := 113) (v := 3) hk dX2_order_113 rfl ?_
              refine V_iadd (pc := 114) hk dX2_order_114 ?_
              refine V_iload (pc := 115) hk dX2_order_115 5 rfl ?_
              refine V_iastore (pc := 117) hk dX2_order_117 (fun w17 => ?_)
              refine V_aload_n (pc := 118) hk dX2_order_118 1 rfl ?_
              refine g_X2_7 (pc := 119) hk dX2_order_119 (fun v18 => ?_)
              refine V_iload (pc := 122) hk dX2_order_122 0 rfl ?_
              refine V_iconst (pc := 124) (v := 4) hk dX2_order_124 rfl ?_
              refine V_iadd (pc := 125) hk dX2_order_125 ?_
              refine V_iload (pc := 126) hk dX2_order_126 6 rfl ?_
              refine V_iastore (pc := 128) hk dX2_order_128 (fun w19 => ?_)
              refine V_aload_n (pc := 129) hk dX2_order_129 1 rfl ?_
              refine g_X2_7 (pc := 130) hk dX2_order_130 (fun v20 => ?_)
              refine V_iload (pc := 133) hk dX2_order_133 0 rfl ?_
              refine V_iconst (pc := 135) (v := 5) hk dX2_order_135 rfl ?_
              refine V_iadd (pc := 136) hk dX2_order_136 ?_
              refine V_iconst (pc := 137) (v := 0) hk dX2_order_137 rfl ?_
              refine V_iastore (pc := 138) hk dX2_order_138 (fun w21 => ?_)
              refine V_aload_n (pc := 139) hk dX2_order_139 1 rfl ?_
              refine g_X2_7 (pc := 140) hk dX2_order_140 (fun v22 => ?_)
              refine V_iconst (pc := 143) (v := 0) hk dX2_order_143 rfl ?_
              refine V_dup2 (pc := 144) hk dX2_order_144 rfl (rf_cat _) ?_
              refine V_iaload (pc := 145) hk dX2_order_145 (fun v23 => ?_)
              refine V_iconst (pc := 146) (v := 1) hk dX2_order_146 rfl ?_
              refine V_iadd (pc := 147) hk dX2_order_147 ?_
              refine V_iastore (pc := 148) hk dX2_order_148 (fun w24 => ?_)
              refine V_aload_n (pc := 149) hk dX2_order_149 1 rfl ?_
              refine g_X2_7 (pc := 150) hk dX2_order_150 (fun v25 => ?_)
              refine V_iconst (pc := 153) (v := 0) hk dX2_order_153 rfl ?_
              refine V_iaload (pc := 154) hk dX2_order_154 (fun v26 => ?_)
              refine V_iconst (pc := 155) (v := 1) hk dX2_order_155 rfl ?_
              refine V_isub (pc := 156) hk dX2_order_156 ?_
              exact V_ireturn (pc := 157) hk hR rfl dX2_order_157
            · refine V_iconst (pc := 63) (v := (-1)) hk dX2_order_63 (by decide +kernel) ?_
              exact V_ireturn (pc := 64) hk hR rfl dX2_order_64
theorem ctX2_order (l : Launch) (K : Kx) (hI : Ini K) (b : Nat) (a0 : Int32) (a1 : Int32) (a2 : Int32) (a3 : Int32) (a4 : Int32) (w : Wd) : ∀ r, mX2_order b a0 a1 a2 a3 a4 w = some r → Ct l K 3 82 yX2_order (ws_ yX2_order cX2_order 7 (some (.int))) [.ref b, .int a0, .int a1, .int a2, .int a3, .int a4] w (rvI r.1) r.2 := Ct_of rvI l K hI 3 82 [.ref b, .int a0, .int a1, .int a2, .int a3, .int a4] w (by decide) (lc0 := [(0, .ref b), (1, .int a0), (2, .int a1), (3, .int a2), (4, .int a3), (5, .int a4)]) rfl (Nat.le_of_ble_eq_true rfl) (fun y hk hR _ _ hin => eX2_order hk hR b a0 a1 a2 a3 a4 w)
noncomputable def mX2_near (this : Nat) (a0 : Int32) (w : Wd) : Option (Int32 × Wd) :=
(cal w (mX2_isIn a0 0 99 w)).bind fun r1 =>
if ¬ r1.1 = 0 then (
(gR r1.2 ((some this)) 2 0).bind fun v2 =>
(ias r1.2 v2 1 a0).bind fun w3 =>
(nok (.boolean) 1).bind fun _ => some (1, w3))
else (
(nok (.boolean) 0).bind fun _ => some (0, r1.2))
theorem eX2_near {y : Fx (Int32 × Wd)} (hk : OkF y RX2 cX2_near 2 3 82) (hR : RetM y rvI (some (.boolean))) (this : Nat) (a0 : Int32) (w : Wd) : V y w [(0, va_rf (some this)), (1, .int a0)] [] 0 (mX2_near this a0 w) := by
  unfold mX2_near
  refine V_iload_n (pc := 0) hk dX2_near_0 1 rfl ?_
  refine V_iconst (pc := 1) (v := 0) hk dX2_near_1 rfl ?_
  refine V_bipush (pc := 2) (v := 99) hk dX2_near_2 rfl ?_
  refine n_X2_71 (pc := 4) hk (fun r h => ctX2_isIn (fl y) (fK y) hk.2.2.2.2.2.2.2.1 a0 0 99 w r h) ⟨Nat.le_of_ble_eq_true rfl, Nat.le_of_ble_eq_true rfl⟩ (Nat.le_of_ble_eq_true rfl) dX2_near_4 (fun r1 => ?_)
  refine V_if_ne (pc := 7) (tgt := 12) hk dX2_near_7 rfl ?_ ?_
  · refine V_aload_n (pc := 12) hk dX2_near_12 0 rfl ?_
    refine g_X2_7 (pc := 13) hk dX2_near_13 (fun v2 => ?_)
    refine V_iconst (pc := 16) (v := 1) hk dX2_near_16 rfl ?_
    refine V_iload_n (pc := 17) hk dX2_near_17 1 rfl ?_
    refine V_iastore (pc := 18) hk dX2_near_18 (fun w3 => ?_)
    refine V_iconst (pc := 19) (v := 1) hk dX2_near_19 rfl ?_
    exact V_zreturn (pc := 20) hk hR rfl dX2_near_20
  · refine V_iconst (pc := 10) (v := 0) hk dX2_near_10 rfl ?_
    exact V_zreturn (pc := 11) hk hR rfl dX2_near_11
theorem ctX2_near (l : Launch) (K : Kx) (hI : Ini K) (b : Nat) (a0 : Int32) (w : Wd) : ∀ r, mX2_near b a0 w = some r → Ct l K 3 82 yX2_near (ws_ yX2_near cX2_near 2 (some (.boolean))) [.ref b, .int a0] w (rvI r.1) r.2 := Ct_of rvI l K hI 3 82 [.ref b, .int a0] w (by decide) (lc0 := [(0, .ref b), (1, .int a0)]) rfl (Nat.le_of_ble_eq_true rfl) (fun y hk hR _ _ hin => eX2_near hk hR b a0 w)
noncomputable def mX2_four_b3 (k3 : Wd → (Option Nat) → Int32 → Int32 → Option (Unit × Wd)) (w : Wd) (l0 : Option Nat) (l1 : Int32) (l2 : Int32) : Option (Unit × Wd) :=
if l2 < 0 then (
some ((), w))
else (
(gR w l0 2 3).bind fun v1 =>
(gI w l0 2 4).bind fun v2 =>
(ias w v1 v2 ((l1 >>> (l2 &&& 31)) &&& 255)).bind fun w3 =>
(gI w3 l0 2 4).bind fun v4 =>
(pf w3 l0 2 4 (.int (v4 + 1))).bind fun w5 =>
k3 w5 l0 l1 (l2 + (-8)))
noncomputable def mX2_four_l3 : Nat → Wd → (Option Nat) → Int32 → Int32 → Option (Unit × Wd)
  | 0, _, _, _, _ => none
  | n + 1, w, l0, l1, l2 => mX2_four_b3 (mX2_four_l3 n) w l0 l1 l2
noncomputable def mX2_four (this : Nat) (a0 : Int32) (w : Wd) : Option (Unit × Wd) :=
mX2_four_l3 FU w ((some this)) a0 24
theorem eX2_four_b3 {y : Fx (Unit × Wd)} (hk : OkF y RX2 cX2_four 3 2 60) (hR : RetM y rvV none) {k3 : Wd → (Option Nat) → Int32 → Int32 → Option (Unit × Wd)} (h3 : ∀ (w : Wd) (l0 : Option Nat) (l1 : Int32) (l2 : Int32), V y w [(0, va_rf l0), (1, .int l1), (2, .int l2)] [] 3 (k3 w l0 l1 l2)) (w : Wd) (l0 : Option Nat) (l1 : Int32) (l2 : Int32) : V y w [(0, va_rf l0), (1, .int l1), (2, .int l2)] [] 3 (mX2_four_b3 k3 w l0 l1 l2) := by
  unfold mX2_four_b3
  refine V_iload_n (pc := 3) hk dX2_four_3 2 rfl ?_
  refine V_if_lt (pc := 4) (tgt := 39) hk dX2_four_4 rfl ?_ ?_
  · exact V_return (pc := 39) hk hR rfl dX2_four_39
  · refine V_aload_n (pc := 7) hk dX2_four_7 0 rfl ?_
    refine g_X2_19 (pc := 8) hk dX2_four_8 (fun v1 => ?_)
    refine V_aload_n (pc := 11) hk dX2_four_11 0 rfl ?_
    refine g_X2_75 (pc := 12) hk dX2_four_12 (fun v2 => ?_)
    refine V_iload_n (pc := 15) hk dX2_four_15 1 rfl ?_
    refine V_iload_n (pc := 16) hk dX2_four_16 2 rfl ?_
    refine V_ishr (pc := 17) hk dX2_four_17 ?_
    refine V_sipush (pc := 18) (v := 255) hk dX2_four_18 rfl ?_
    refine V_iand (pc := 21) hk dX2_four_21 ?_
    refine V_iastore (pc := 22) hk dX2_four_22 (fun w3 => ?_)
    refine V_aload_n (pc := 23) hk dX2_four_23 0 rfl ?_
    refine V_dup (pc := 24) hk dX2_four_24 (rf_cat _) ?_
    refine g_X2_75 (pc := 25) hk dX2_four_25 (fun v4 => ?_)
    refine V_iconst (pc := 28) (v := 1) hk dX2_four_28 rfl ?_
    refine V_iadd (pc := 29) hk dX2_four_29 ?_
    refine p_X2_75 (pc := 30) hk dX2_four_30 (fun w5 => ?_)
    refine V_iinc (pc := 33) (v := (-8)) (lc' := [(2, .int (l2 + (-8))), (0, va_rf l0), (1, .int l1)]) hk dX2_four_33 2 rfl (by decide +kernel) (Nat.le_of_ble_eq_true rfl) rfl ?_
    refine V_goto (pc := 36) (tgt := 3) hk dX2_four_36 rfl ?_
    refine V_pick (lc' := [(0, va_rf l0), (1, .int l1), (2, .int (l2 + (-8)))]) [1, 2, 0] rfl ?_
    exact h3 w5 l0 l1 (l2 + (-8))
theorem eX2_four_l3 {y : Fx (Unit × Wd)} (hk : OkF y RX2 cX2_four 3 2 60) (hR : RetM y rvV none) : ∀ (n : Nat) (w : Wd) (l0 : Option Nat) (l1 : Int32) (l2 : Int32), V y w [(0, va_rf l0), (1, .int l1), (2, .int l2)] [] 3 (mX2_four_l3 n w l0 l1 l2) := by
  intro n
  induction n with
  | zero => intro w l0 l1 l2; exact V_none
  | succ n ih => intro w l0 l1 l2; exact eX2_four_b3 hk hR ih w l0 l1 l2
theorem eX2_four {y : Fx (Unit × Wd)} (hk : OkF y RX2 cX2_four 3 2 60) (hR : RetM y rvV none) (this : Nat) (a0 : Int32) (w : Wd) : V y w [(0, va_rf (some this)), (1, .int a0)] [] 0 (mX2_four this a0 w) := by
  unfold mX2_four
  refine V_bipush (pc := 0) (v := 24) hk dX2_four_0 rfl ?_
  refine V_istore_n (pc := 2) (lc' := [(2, .int 24), (0, va_rf ((some this))), (1, .int a0)]) (i := 2) hk dX2_four_2 rfl (Nat.le_of_ble_eq_true rfl) rfl ?_
  refine V_pick (lc' := [(0, va_rf ((some this))), (1, .int a0), (2, .int 24)]) [1, 2, 0] rfl ?_
  exact eX2_four_l3 hk hR FU w ((some this)) a0 24
theorem ctX2_four (l : Launch) (K : Kx) (hI : Ini K) (b : Nat) (a0 : Int32) (w : Wd) : ∀ r, mX2_four b a0 w = some r → Ct l K 2 60 yX2_four (ws_ yX2_four cX2_four 3 none) [.ref b, .int a0] w (rvV r.1) r.2 := Ct_of rvV l K hI 2 60 [.ref b, .int a0] w (by decide) (lc0 := [(0, .ref b), (1, .int a0)]) rfl (Nat.le_of_ble_eq_true rfl) (fun y hk hR _ _ hin => eX2_four hk hR b a0 w)
noncomputable def mX2_feed (this : Nat) (a0 : Int32) (a1 : Int32) (a2 : Int32) (a3 : Int32) (a4 : Int32) (w : Wd) : Option (Int32 × Wd) :=
(gI w ((some this)) 2 4).bind fun v1 =>
if (v1 + 20) ≤ 300 then (
(recv w ((some this)) 2).bind fun b3 => (cal w (mX2_four b3 a0 w)).bind fun r2 =>
(recv r2.2 ((some this)) 2).bind fun b5 => (cal r2.2 (mX2_four b5 a1 r2.2)).bind fun r4 =>
(recv r4.2 ((some this)) 2).bind fun b7 => (cal r4.2 (mX2_four b7 a2 r4.2)).bind fun r6 =>
(recv r6.2 ((some this)) 2).bind fun b9 => (cal r6.2 (mX2_four b9 a3 r6.2)).bind fun r8 =>
(recv r8.2 ((some this)) 2).bind fun b11 => (cal r8.2 (mX2_four b11 a4 r8.2)).bind fun r10 =>
(gI r10.2 ((some this)) 2 4).bind fun v12 =>
some (v12, r10.2))
else (
some ((-1), w))
theorem eX2_feed {y : Fx (Int32 × Wd)} (hk : OkF y RX2 cX2_feed 6 3 82) (hR : RetM y rvI (some (.int))) (this : Nat) (a0 : Int32) (a1 : Int32) (a2 : Int32) (a3 : Int32) (a4 : Int32) (w : Wd) : V y w [(0, va_rf (some this)), (1, .int a0), (2, .int a1), (3, .int a2), (4, .int a3), (5, .int a4)] [] 0 (mX2_feed this a0 a1 a2 a3 a4 w) := by
  unfold mX2_feed
  refine V_aload_n (pc := 0) hk dX2_feed_0 0 rfl ?_
  refine g_X2_75 (pc := 1) hk dX2_feed_1 (fun v1 => ?_)
  refine V_bipush (pc := 4) (v := 20) hk dX2_feed_4 rfl ?_
  refine V_iadd (pc := 6) hk dX2_feed_6 ?_
  refine V_sipush (pc := 7) (v := 300) hk dX2_feed_7 rfl ?_
  refine V_icmp_le (pc := 10) (tgt := 15) hk dX2_feed_10 rfl ?_ ?_
  · refine V_aload_n (pc := 15) hk dX2_feed_15 0 rfl ?_
    refine V_iload_n (pc := 16) hk dX2_feed_16 1 rfl ?_
    refine n_X2_78 (pc := 17) hk (fun b r h => ctX2_four (fl y) (fK y) hk.2.2.2.2.2.2.2.1 b a0 w r h) ⟨Nat.le_of_ble_eq_true rfl, Nat.le_of_ble_eq_true rfl⟩ (Nat.le_of_ble_eq_true rfl) dX2_feed_17 (fun r2 => ?_)
    refine V_aload_n (pc := 20) hk dX2_feed_20 0 rfl ?_
    refine V_iload_n (pc := 21) hk dX2_feed_21 2 rfl ?_
    refine n_X2_78 (pc := 22) hk (fun b r h => ctX2_four (fl y) (fK y) hk.2.2.2.2.2.2.2.1 b a1 r2.2 r h) ⟨Nat.le_of_ble_eq_true rfl, Nat.le_of_ble_eq_true rfl⟩ (Nat.le_of_ble_eq_true rfl) dX2_feed_22 (fun r4 => ?_)
    refine V_aload_n (pc := 25) hk dX2_feed_25 0 rfl ?_
    refine V_iload_n (pc := 26) hk dX2_feed_26 3 rfl ?_
    refine n_X2_78 (pc := 27) hk (fun b r h => ctX2_four (fl y) (fK y) hk.2.2.2.2.2.2.2.1 b a2 r4.2 r h) ⟨Nat.le_of_ble_eq_true rfl, Nat.le_of_ble_eq_true rfl⟩ (Nat.le_of_ble_eq_true rfl) dX2_feed_27 (fun r6 => ?_)
    refine V_aload_n (pc := 30) hk dX2_feed_30 0 rfl ?_
    refine V_iload (pc := 31) hk dX2_feed_31 4 rfl ?_
    refine n_X2_78 (pc := 33) hk (fun b r h => ctX2_four (fl y) (fK y) hk.2.2.2.2.2.2.2.1 b a3 r6.2 r h) ⟨Nat.le_of_ble_eq_true rfl, Nat.le_of_ble_eq_true rfl⟩ (Nat.le_of_ble_eq_true rfl) dX2_feed_33 (fun r8 => ?_)
    refine V_aload_n (pc := 36) hk dX2_feed_36 0 rfl ?_
    refine V_iload (pc := 37) hk dX2_feed_37 5 rfl ?_
    refine n_X2_78 (pc := 39) hk (fun b r h => ctX2_four (fl y) (fK y) hk.2.2.2.2.2.2.2.1 b a4 r8.2 r h) ⟨Nat.le_of_ble_eq_true rfl, Nat.le_of_ble_eq_true rfl⟩ (Nat.le_of_ble_eq_true rfl) dX2_feed_39 (fun r10 => ?_)
    refine V_aload_n (pc := 42) hk dX2_feed_42 0 rfl ?_
    refine g_X2_75 (pc := 43) hk dX2_feed_43 (fun v12 => ?_)
    exact V_ireturn (pc := 46) hk hR rfl dX2_feed_46
  · refine V_iconst (pc := 13) (v := (-1)) hk dX2_feed_13 (by decide +kernel) ?_
    exact V_ireturn (pc := 14) hk hR rfl dX2_feed_14
theorem ctX2_feed (l : Launch) (K : Kx) (hI : Ini K) (b : Nat) (a0 : Int32) (a1 : Int32) (a2 : Int32) (a3 : Int32) (a4 : Int32) (w : Wd) : ∀ r, mX2_feed b a0 a1 a2 a3 a4 w = some r → Ct l K 3 82 yX2_feed (ws_ yX2_feed cX2_feed 6 (some (.int))) [.ref b, .int a0, .int a1, .int a2, .int a3, .int a4] w (rvI r.1) r.2 := Ct_of rvI l K hI 3 82 [.ref b, .int a0, .int a1, .int a2, .int a3, .int a4] w (by decide) (lc0 := [(0, .ref b), (1, .int a0), (2, .int a1), (3, .int a2), (4, .int a3), (5, .int a4)]) rfl (Nat.le_of_ble_eq_true rfl) (fun y hk hR _ _ hin => eX2_feed hk hR b a0 a1 a2 a3 a4 w)
noncomputable def mX2_end (this : Nat) (a0 : Int32) (w : Wd) : Option (Int32 × Wd) :=
(gI w ((some this)) 2 4).bind fun v1 =>
(cal w (mX2_isIn a0 0 v1 w)).bind fun r2 =>
if ¬ r2.1 = 0 then (
(pf r2.2 ((some this)) 2 4 (.int a0)).bind fun w3 =>
some (a0, w3))
else (
some ((-1), r2.2))
theorem eX2_end {y : Fx (Int32 × Wd)} (hk : OkF y RX2 cX2_end 2 3 82) (hR : RetM y rvI (some (.int))) (this : Nat) (a0 : Int32) (w : Wd) : V y w [(0, va_rf (some this)), (1, .int a0)] [] 0 (mX2_end this a0 w) := by
  unfold mX2_end
  refine V_iload_n (pc := 0) hk dX2_end_0 1 rfl ?_
  refine V_iconst (pc := 1) (v := 0) hk dX2_end_1 rfl ?_
  refine V_aload_n (pc := 2) hk dX2_end_2 0 rfl ?_
  refine g_X2_75 (pc := 3) hk dX2_end_3 (fun v1 => ?_)
  refine n_X2_71 (pc := 6) hk (fun r h => ctX2_isIn (fl y) (fK y) hk.2.2.2.2.2.2.2.1 a0 0 v1 w r h) ⟨Nat.le_of_ble_eq_true rfl, Nat.le_of_ble_eq_true rfl⟩ (Nat.le_of_ble_eq_true rfl) dX2_end_6 (fun r2 => ?_)
  refine V_if_ne (pc := 9) (tgt := 14) hk dX2_end_9 rfl ?_ ?_
  · refine V_aload_n (pc := 14) hk dX2_end_14 0 rfl ?_
    refine V_iload_n (pc := 15) hk dX2_end_15 1 rfl ?_
    refine p_X2_75 (pc := 16) hk dX2_end_16 (fun w3 => ?_)
    refine V_iload_n (pc := 19) hk dX2_end_19 1 rfl ?_
    exact V_ireturn (pc := 20) hk hR rfl dX2_end_20
  · refine V_iconst (pc := 12) (v := (-1)) hk dX2_end_12 (by decide +kernel) ?_
    exact V_ireturn (pc := 13) hk hR rfl dX2_end_13
theorem ctX2_end (l : Launch) (K : Kx) (hI : Ini K) (b : Nat) (a0 : Int32) (w : Wd) : ∀ r, mX2_end b a0 w = some r → Ct l K 3 82 yX2_end (ws_ yX2_end cX2_end 2 (some (.int))) [.ref b, .int a0] w (rvI r.1) r.2 := Ct_of rvI l K hI 3 82 [.ref b, .int a0] w (by decide) (lc0 := [(0, .ref b), (1, .int a0)]) rfl (Nat.le_of_ble_eq_true rfl) (fun y hk hR _ _ hin => eX2_end hk hR b a0 w)
noncomputable def mX2_byteAt (this : Nat) (a0 : Int32) (w : Wd) : Option (Int32 × Wd) :=
(gI w ((some this)) 2 4).bind fun v1 =>
if v1 ≤ a0 then (
some ((-1), w))
else (
(gR w ((some this)) 2 3).bind fun v2 =>
(ia w v2 a0).bind fun v3 =>
some (v3, w))
theorem eX2_byteAt {y : Fx (Int32 × Wd)} (hk : OkF y RX2 cX2_byteAt 2 2 60) (hR : RetM y rvI (some (.int))) (this : Nat) (a0 : Int32) (w : Wd) : V y w [(0, va_rf (some this)), (1, .int a0)] [] 0 (mX2_byteAt this a0 w) := by
  unfold mX2_byteAt
  refine V_iload_n (pc := 0) hk dX2_byteAt_0 1 rfl ?_
  refine V_aload_n (pc := 1) hk dX2_byteAt_1 0 rfl ?_
  refine g_X2_75 (pc := 2) hk dX2_byteAt_2 (fun v1 => ?_)
  refine V_icmp_ge (pc := 5) (tgt := 17) hk dX2_byteAt_5 rfl ?_ ?_
  · refine V_iconst (pc := 17) (v := (-1)) hk dX2_byteAt_17 (by decide +kernel) ?_
    exact V_ireturn (pc := 18) hk hR rfl dX2_byteAt_18
  · refine V_aload_n (pc := 8) hk dX2_byteAt_8 0 rfl ?_
    refine g_X2_19 (pc := 9) hk dX2_byteAt_9 (fun v2 => ?_)
    refine V_iload_n (pc := 12) hk dX2_byteAt_12 1 rfl ?_
    refine V_iaload (pc := 13) hk dX2_byteAt_13 (fun v3 => ?_)
    refine V_goto (pc := 14) (tgt := 18) hk dX2_byteAt_14 rfl ?_
    exact V_ireturn (pc := 18) hk hR rfl dX2_byteAt_18
theorem ctX2_byteAt (l : Launch) (K : Kx) (hI : Ini K) (b : Nat) (a0 : Int32) (w : Wd) : ∀ r, mX2_byteAt b a0 w = some r → Ct l K 2 60 yX2_byteAt (ws_ yX2_byteAt cX2_byteAt 2 (some (.int))) [.ref b, .int a0] w (rvI r.1) r.2 := Ct_of rvI l K hI 2 60 [.ref b, .int a0] w (by decide) (lc0 := [(0, .ref b), (1, .int a0)]) rfl (Nat.le_of_ble_eq_true rfl) (fun y hk hR _ _ hin => eX2_byteAt hk hR b a0 w)
noncomputable def mX2_isFigure (a0 : Int32) (w : Wd) : Option (Int32 × Wd) :=
if a0 < 48 then (
(nok (.boolean) 0).bind fun _ => some (0, w))
else (
if 57 < a0 then (
(nok (.boolean) 0).bind fun _ => some (0, w))
else (
(nok (.boolean) 1).bind fun _ => some (1, w)))
theorem eX2_isFigure {y : Fx (Int32 × Wd)} (hk : OkF y RX2 cX2_isFigure 1 2 60) (hR : RetM y rvI (some (.boolean))) (a0 : Int32) (w : Wd) : V y w [(0, .int a0)] [] 0 (mX2_isFigure a0 w) := by
  unfold mX2_isFigure
  refine V_iload_n (pc := 0) hk dX2_isFigure_0 0 rfl ?_
  refine V_bipush (pc := 1) (v := 48) hk dX2_isFigure_1 rfl ?_
  refine V_icmp_lt (pc := 3) (tgt := 16) hk dX2_isFigure_3 rfl ?_ ?_
  · refine V_iconst (pc := 16) (v := 0) hk dX2_isFigure_16 rfl ?_
    exact V_zreturn (pc := 17) hk hR rfl dX2_isFigure_17
  · refine V_iload_n (pc := 6) hk dX2_isFigure_6 0 rfl ?_
    refine V_bipush (pc := 7) (v := 57) hk dX2_isFigure_7 rfl ?_
    refine V_icmp_gt (pc := 9) (tgt := 16) hk dX2_isFigure_9 rfl ?_ ?_
    · refine V_iconst (pc := 16) (v := 0) hk dX2_isFigure_16 rfl ?_
      exact V_zreturn (pc := 17) hk hR rfl dX2_isFigure_17
    · refine V_iconst (pc := 12) (v := 1) hk dX2_isFigure_12 rfl ?_
      refine V_goto (pc := 13) (tgt := 17) hk dX2_isFigure_13 rfl ?_
      exact V_zreturn (pc := 17) hk hR rfl dX2_isFigure_17
theorem ctX2_isFigure (l : Launch) (K : Kx) (hI : Ini K) (a0 : Int32) (w : Wd) : ∀ r, mX2_isFigure a0 w = some r → Ct l K 2 60 yX2_isFigure (ws_ yX2_isFigure cX2_isFigure 1 (some (.boolean))) [.int a0] w (rvI r.1) r.2 := Ct_of rvI l K hI 2 60 [.int a0] w (by decide) (lc0 := [(0, .int a0)]) rfl (Nat.le_of_ble_eq_true rfl) (fun y hk hR _ _ hin => eX2_isFigure hk hR a0 w)
noncomputable def mX2_isLetterByte_p12 (w : Wd) (l0 : Int32) : Option (Int32 × Wd) :=
if l0 < 65 then (
(nok (.boolean) 0).bind fun _ => some (0, w))
else (
if 90 < l0 then (
(nok (.boolean) 0).bind fun _ => some (0, w))
else (
(nok (.boolean) 1).bind fun _ => some (1, w)))
noncomputable def mX2_isLetterByte (a0 : Int32) (w : Wd) : Option (Int32 × Wd) :=
if a0 < 97 then (
mX2_isLetterByte_p12 w a0)
else (
if a0 ≤ 122 then (
(nok (.boolean) 1).bind fun _ => some (1, w))
else (
mX2_isLetterByte_p12 w a0))
theorem eX2_isLetterByte_p12 {y : Fx (Int32 × Wd)} (hk : OkF y RX2 cX2_isLetterByte 1 2 60) (hR : RetM y rvI (some (.boolean))) (w : Wd) (l0 : Int32) : V y w [(0, .int l0)] [] 12 (mX2_isLetterByte_p12 w l0) := by
  unfold mX2_isLetterByte_p12
  refine V_iload_n (pc := 12) hk dX2_isLetterByte_12 0 rfl ?_
  refine V_bipush (pc := 13) (v := 65) hk dX2_isLetterByte_13 rfl ?_
  refine V_icmp_lt (pc := 15) (tgt := 28) hk dX2_isLetterByte_15 rfl ?_ ?_
  · refine V_iconst (pc := 28) (v := 0) hk dX2_isLetterByte_28 rfl ?_
    exact V_zreturn (pc := 29) hk hR rfl dX2_isLetterByte_29
  · refine V_iload_n (pc := 18) hk dX2_isLetterByte_18 0 rfl ?_
    refine V_bipush (pc := 19) (v := 90) hk dX2_isLetterByte_19 rfl ?_
    refine V_icmp_gt (pc := 21) (tgt := 28) hk dX2_isLetterByte_21 rfl ?_ ?_
    · refine V_iconst (pc := 28) (v := 0) hk dX2_isLetterByte_28 rfl ?_
      exact V_zreturn (pc := 29) hk hR rfl dX2_isLetterByte_29
    · refine V_iconst (pc := 24) (v := 1) hk dX2_isLetterByte_24 rfl ?_
      refine V_goto (pc := 25) (tgt := 29) hk dX2_isLetterByte_25 rfl ?_
      exact V_zreturn (pc := 29) hk hR rfl dX2_isLetterByte_29
theorem eX2_isLetterByte {y : Fx (Int32 × Wd)} (hk : OkF y RX2 cX2_isLetterByte 1 2 60) (hR : RetM y rvI (some (.boolean))) (a0 : Int32) (w : Wd) : V y w [(0, .int a0)] [] 0 (mX2_isLetterByte a0 w) := by
  unfold mX2_isLetterByte
  refine V_iload_n (pc := 0) hk dX2_isLetterByte_0 0 rfl ?_
  refine V_bipush (pc := 1) (v := 97) hk dX2_isLetterByte_1 rfl ?_
  refine V_icmp_lt (pc := 3) (tgt := 12) hk dX2_isLetterByte_3 rfl ?_ ?_
  · exact eX2_isLetterByte_p12 hk hR w a0
  · refine V_iload_n (pc := 6) hk dX2_isLetterByte_6 0 rfl ?_
    refine V_bipush (pc := 7) (v := 122) hk dX2_isLetterByte_7 rfl ?_
    refine V_icmp_le (pc := 9) (tgt := 24) hk dX2_isLetterByte_9 rfl ?_ ?_
    · refine V_iconst (pc := 24) (v := 1) hk dX2_isLetterByte_24 rfl ?_
      refine V_goto (pc := 25) (tgt := 29) hk dX2_isLetterByte_25 rfl ?_
      exact V_zreturn (pc := 29) hk hR rfl dX2_isLetterByte_29
    · exact eX2_isLetterByte_p12 hk hR w a0
theorem ctX2_isLetterByte (l : Launch) (K : Kx) (hI : Ini K) (a0 : Int32) (w : Wd) : ∀ r, mX2_isLetterByte a0 w = some r → Ct l K 2 60 yX2_isLetterByte (ws_ yX2_isLetterByte cX2_isLetterByte 1 (some (.boolean))) [.int a0] w (rvI r.1) r.2 := Ct_of rvI l K hI 2 60 [.int a0] w (by decide) (lc0 := [(0, .int a0)]) rfl (Nat.le_of_ble_eq_true rfl) (fun y hk hR _ _ hin => eX2_isLetterByte hk hR a0 w)
noncomputable def mX2_isSign (a0 : Int32) (w : Wd) : Option (Int32 × Wd) :=
if a0 = 35 then (
(nok (.boolean) 1).bind fun _ => some (1, w))
else (
if a0 = 36 then (
(nok (.boolean) 0).bind fun _ => some (0, w))
else (
if a0 = 37 then (
(nok (.boolean) 0).bind fun _ => some (0, w))
else (
if a0 = 38 then (
(nok (.boolean) 0).bind fun _ => some (0, w))
else (
if a0 = 39 then (
(nok (.boolean) 0).bind fun _ => some (0, w))
else (
if a0 = 40 then (
(nok (.boolean) 1).bind fun _ => some (1, w))
else (
if a0 = 41 then (
(nok (.boolean) 1).bind fun _ => some (1, w))
else (
if a0 = 42 then (
(nok (.boolean) 1).bind fun _ => some (1, w))
else (
if a0 = 43 then (
(nok (.boolean) 1).bind fun _ => some (1, w))
else (
if a0 = 44 then (
(nok (.boolean) 0).bind fun _ => some (0, w))
else (
if a0 = 45 then (
(nok (.boolean) 1).bind fun _ => some (1, w))
else (
if a0 = 46 then (
(nok (.boolean) 0).bind fun _ => some (0, w))
else (
if a0 = 47 then (
(nok (.boolean) 1).bind fun _ => some (1, w))
else (
if a0 = 48 then (
(nok (.boolean) 0).bind fun _ => some (0, w))
else (
if a0 = 49 then (
(nok (.boolean) 0).bind fun _ => some (0, w))
else (
if a0 = 50 then (
(nok (.boolean) 0).bind fun _ => some (0, w))
else (
if a0 = 51 then (
(nok (.boolean) 0).bind fun _ => some (0, w))
else (
if a0 = 52 then (
(nok (.boolean) 0).bind fun _ => some (0, w))
else (
if a0 = 53 then (
(nok (.boolean) 0).bind fun _ => some (0, w))
else (
if a0 = 54 then (
(nok (.boolean) 0).bind fun _ => some (0, w))
else (
if a0 = 55 then (
(nok (.boolean) 0).bind fun _ => some (0, w))
else (
if a0 = 56 then (
(nok (.boolean) 0).bind fun _ => some (0, w))
else (
if a0 = 57 then (
(nok (.boolean) 0).bind fun _ => some (0, w))
else (
if a0 = 58 then (
(nok (.boolean) 0).bind fun _ => some (0, w))
else (
if a0 = 59 then (
(nok (.boolean) 1).bind fun _ => some (1, w))
else (
if a0 = 60 then (
(nok (.boolean) 1).bind fun _ => some (1, w))
else (
if a0 = 61 then (
(nok (.boolean) 1).bind fun _ => some (1, w))
else (
if a0 = 62 then (
(nok (.boolean) 1).bind fun _ => some (1, w))
else (
(nok (.boolean) 0).bind fun _ => some (0, w)))))))))))))))))))))))))))))
theorem eX2_isSign {y : Fx (Int32 × Wd)} (hk : OkF y RX2 cX2_isSign 1 2 60) (hR : RetM y rvI (some (.boolean))) (a0 : Int32) (w : Wd) : V y w [(0, .int a0)] [] 0 (mX2_isSign a0 w) := by
  unfold mX2_isSign
  refine V_iload_n (pc := 0) hk dX2_isSign_0 0 rfl ?_
  refine V_if (fun hx => ?_) (fun hn35 => ?_)
  · refine V_tblIn (pc := 1) (tgt := 128) (off := 127) hk 35 hx dX2_isSign_1 (by decide) (by decide) (by decide +kernel) rfl ?_
    refine V_iconst (pc := 128) (v := 1) hk dX2_isSign_128 rfl ?_
    exact V_zreturn (pc := 129) hk hR rfl dX2_isSign_129
  refine V_if (fun hx => ?_) (fun hn36 => ?_)
  · refine V_tblIn (pc := 1) (tgt := 130) (off := 129) hk 36 hx dX2_isSign_1 (by decide) (by decide) (by decide +kernel) rfl ?_
    refine V_iconst (pc := 130) (v := 0) hk dX2_isSign_130 rfl ?_
    exact V_zreturn (pc := 131) hk hR rfl dX2_isSign_131
  refine V_if (fun hx => ?_) (fun hn37 => ?_)
  · refine V_tblIn (pc := 1) (tgt := 130) (off := 129) hk 37 hx dX2_isSign_1 (by decide) (by decide) (by decide +kernel) rfl ?_
    refine V_iconst (pc := 130) (v := 0) hk dX2_isSign_130 rfl ?_
    exact V_zreturn (pc := 131) hk hR rfl dX2_isSign_131
  refine V_if (fun hx => ?_) (fun hn38 => ?_)
  · refine V_tblIn (pc := 1) (tgt := 130) (off := 129) hk 38 hx dX2_isSign_1 (by decide) (by decide) (by decide +kernel) rfl ?_
    refine V_iconst (pc := 130) (v := 0) hk dX2_isSign_130 rfl ?_
    exact V_zreturn (pc := 131) hk hR rfl dX2_isSign_131
  refine V_if (fun hx => ?_) (fun hn39 => ?_)
  · refine V_tblIn (pc := 1) (tgt := 130) (off := 129) hk 39 hx dX2_isSign_1 (by decide) (by decide) (by decide +kernel) rfl ?_
    refine V_iconst (pc := 130) (v := 0) hk dX2_isSign_130 rfl ?_
    exact V_zreturn (pc := 131) hk hR rfl dX2_isSign_131
  refine V_if (fun hx => ?_) (fun hn40 => ?_)
  · refine V_tblIn (pc := 1) (tgt := 128) (off := 127) hk 40 hx dX2_isSign_1 (by decide) (by decide) (by decide +kernel) rfl ?_
    refine V_iconst (pc := 128) (v := 1) hk dX2_isSign_128 rfl ?_
    exact V_zreturn (pc := 129) hk hR rfl dX2_isSign_129
  refine V_if (fun hx => ?_) (fun hn41 => ?_)
  · refine V_tblIn (pc := 1) (tgt := 128) (off := 127) hk 41 hx dX2_isSign_1 (by decide) (by decide) (by decide +kernel) rfl ?_
    refine V_iconst (pc := 128) (v := 1) hk dX2_isSign_128 rfl ?_
    exact V_zreturn (pc := 129) hk hR rfl dX2_isSign_129
  refine V_if (fun hx => ?_) (fun hn42 => ?_)
  · refine V_tblIn (pc := 1) (tgt := 128) (off := 127) hk 42 hx dX2_isSign_1 (by decide) (by decide) (by decide +kernel) rfl ?_
    refine V_iconst (pc := 128) (v := 1) hk dX2_isSign_128 rfl ?_
    exact V_zreturn (pc := 129) hk hR rfl dX2_isSign_129
  refine V_if (fun hx => ?_) (fun hn43 => ?_)
  · refine V_tblIn (pc := 1) (tgt := 128) (off := 127) hk 43 hx dX2_isSign_1 (by decide) (by decide) (by decide +kernel) rfl ?_
    refine V_iconst (pc := 128) (v := 1) hk dX2_isSign_128 rfl ?_
    exact V_zreturn (pc := 129) hk hR rfl dX2_isSign_129
  refine V_if (fun hx => ?_) (fun hn44 => ?_)
  · refine V_tblIn (pc := 1) (tgt := 130) (off := 129) hk 44 hx dX2_isSign_1 (by decide) (by decide) (by decide +kernel) rfl ?_
    refine V_iconst (pc := 130) (v := 0) hk dX2_isSign_130 rfl ?_
    exact V_zreturn (pc := 131) hk hR rfl dX2_isSign_131
  refine V_if (fun hx => ?_) (fun hn45 => ?_)
  · refine V_tblIn (pc := 1) (tgt := 128) (off := 127) hk 45 hx dX2_isSign_1 (by decide) (by decide) (by decide +kernel) rfl ?_
    refine V_iconst (pc := 128) (v := 1) hk dX2_isSign_128 rfl ?_
    exact V_zreturn (pc := 129) hk hR rfl dX2_isSign_129
  refine V_if (fun hx => ?_) (fun hn46 => ?_)
  · refine V_tblIn (pc := 1) (tgt := 130) (off := 129) hk 46 hx dX2_isSign_1 (by decide) (by decide) (by decide +kernel) rfl ?_
    refine V_iconst (pc := 130) (v := 0) hk dX2_isSign_130 rfl ?_
    exact V_zreturn (pc := 131) hk hR rfl dX2_isSign_131
  refine V_if (fun hx => ?_) (fun hn47 => ?_)
  · refine V_tblIn (pc := 1) (tgt := 128) (off := 127) hk 47 hx dX2_isSign_1 (by decide) (by decide) (by decide +kernel) rfl ?_
    refine V_iconst (pc := 128) (v := 1) hk dX2_isSign_128 rfl ?_
    exact V_zreturn (pc := 129) hk hR rfl dX2_isSign_129
  refine V_if (fun hx => ?_) (fun hn48 => ?_)
  · refine V_tblIn (pc := 1) (tgt := 130) (off := 129) hk 48 hx dX2_isSign_1 (by decide) (by decide) (by decide +kernel) rfl ?_
    refine V_iconst (pc := 130) (v := 0) hk dX2_isSign_130 rfl ?_
    exact V_zreturn (pc := 131) hk hR rfl dX2_isSign_131
  refine V_if (fun hx => ?_) (fun hn49 => ?_)
  · refine V_tblIn (pc := 1) (tgt := 130) (off := 129) hk 49 hx dX2_isSign_1 (by decide) (by decide) (by decide +kernel) rfl ?_
    refine V_iconst (pc := 130) (v := 0) hk dX2_isSign_130 rfl ?_
    exact V_zreturn (pc := 131) hk hR rfl dX2_isSign_131
  refine V_if (fun hx => ?_) (fun hn50 => ?_)
  · refine V_tblIn (pc := 1) (tgt := 130) (off := 129) hk 50 hx dX2_isSign_1 (by decide) (by decide) (by decide +kernel) rfl ?_
    refine V_iconst (pc := 130) (v := 0) hk dX2_isSign_130 rfl ?_
    exact V_zreturn (pc := 131) hk hR rfl dX2_isSign_131
  refine V_if (fun hx => ?_) (fun hn51 => ?_)
  · refine V_tblIn (pc := 1) (tgt := 130) (off := 129) hk 51 hx dX2_isSign_1 (by decide) (by decide) (by decide +kernel) rfl ?_
    refine V_iconst (pc := 130) (v := 0) hk dX2_isSign_130 rfl ?_
    exact V_zreturn (pc := 131) hk hR rfl dX2_isSign_131
  refine V_if (fun hx => ?_) (fun hn52 => ?_)
  · refine V_tblIn (pc := 1) (tgt := 130) (off := 129) hk 52 hx dX2_isSign_1 (by decide) (by decide) (by decide +kernel) rfl ?_
    refine V_iconst (pc := 130) (v := 0) hk dX2_isSign_130 rfl ?_
    exact V_zreturn (pc := 131) hk hR rfl dX2_isSign_131
  refine V_if (fun hx => ?_) (fun hn53 => ?_)
  · refine V_tblIn (pc := 1) (tgt := 130) (off := 129) hk 53 hx dX2_isSign_1 (by decide) (by decide) (by decide +kernel) rfl ?_
    refine V_iconst (pc := 130) (v := 0) hk dX2_isSign_130 rfl ?_
    exact V_zreturn (pc := 131) hk hR rfl dX2_isSign_131
  refine V_if (fun hx => ?_) (fun hn54 => ?_)
  · refine V_tblIn (pc := 1) (tgt := 130) (off := 129) hk 54 hx dX2_isSign_1 (by decide) (by decide) (by decide +kernel) rfl ?_
    refine V_iconst (pc := 130) (v := 0) hk dX2_isSign_130 rfl ?_
    exact V_zreturn (pc := 131) hk hR rfl dX2_isSign_131
  refine V_if (fun hx => ?_) (fun hn55 => ?_)
  · refine V_tblIn (pc := 1) (tgt := 130) (off := 129) hk 55 hx dX2_isSign_1 (by decide) (by decide) (by decide +kernel) rfl ?_
    refine V_iconst (pc := 130) (v := 0) hk dX2_isSign_130 rfl ?_
    exact V_zreturn (pc := 131) hk hR rfl dX2_isSign_131
  refine V_if (fun hx => ?_) (fun hn56 => ?_)
  · refine V_tblIn (pc := 1) (tgt := 130) (off := 129) hk 56 hx dX2_isSign_1 (by decide) (by decide) (by decide +kernel) rfl ?_
    refine V_iconst (pc := 130) (v := 0) hk dX2_isSign_130 rfl ?_
    exact V_zreturn (pc := 131) hk hR rfl dX2_isSign_131
  refine V_if (fun hx => ?_) (fun hn57 => ?_)
  · refine V_tblIn (pc := 1) (tgt := 130) (off := 129) hk 57 hx dX2_isSign_1 (by decide) (by decide) (by decide +kernel) rfl ?_
    refine V_iconst (pc := 130) (v := 0) hk dX2_isSign_130 rfl ?_
    exact V_zreturn (pc := 131) hk hR rfl dX2_isSign_131
  refine V_if (fun hx => ?_) (fun hn58 => ?_)
  · refine V_tblIn (pc := 1) (tgt := 130) (off := 129) hk 58 hx dX2_isSign_1 (by decide) (by decide) (by decide +kernel) rfl ?_
    refine V_iconst (pc := 130) (v := 0) hk dX2_isSign_130 rfl ?_
    exact V_zreturn (pc := 131) hk hR rfl dX2_isSign_131
  refine V_if (fun hx => ?_) (fun hn59 => ?_)
  · refine V_tblIn (pc := 1) (tgt := 128) (off := 127) hk 59 hx dX2_isSign_1 (by decide) (by decide) (by decide +kernel) rfl ?_
    refine V_iconst (pc := 128) (v := 1) hk dX2_isSign_128 rfl ?_
    exact V_zreturn (pc := 129) hk hR rfl dX2_isSign_129
  refine V_if (fun hx => ?_) (fun hn60 => ?_)
  · refine V_tblIn (pc := 1) (tgt := 128) (off := 127) hk 60 hx dX2_isSign_1 (by decide) (by decide) (by decide +kernel) rfl ?_
    refine V_iconst (pc := 128) (v := 1) hk dX2_isSign_128 rfl ?_
    exact V_zreturn (pc := 129) hk hR rfl dX2_isSign_129
  refine V_if (fun hx => ?_) (fun hn61 => ?_)
  · refine V_tblIn (pc := 1) (tgt := 128) (off := 127) hk 61 hx dX2_isSign_1 (by decide) (by decide) (by decide +kernel) rfl ?_
    refine V_iconst (pc := 128) (v := 1) hk dX2_isSign_128 rfl ?_
    exact V_zreturn (pc := 129) hk hR rfl dX2_isSign_129
  refine V_if (fun hx => ?_) (fun hn62 => ?_)
  · refine V_tblIn (pc := 1) (tgt := 128) (off := 127) hk 62 hx dX2_isSign_1 (by decide) (by decide) (by decide +kernel) rfl ?_
    refine V_iconst (pc := 128) (v := 1) hk dX2_isSign_128 rfl ?_
    exact V_zreturn (pc := 129) hk hR rfl dX2_isSign_129
  refine V_tblOut (pc := 1) (tgt := 130) hk dX2_isSign_1 (tbl_out 35 62 (by intro k h1 h2; obtain rfl | rfl | rfl | rfl | rfl | rfl | rfl | rfl | rfl | rfl | rfl | rfl | rfl | rfl | rfl | rfl | rfl | rfl | rfl | rfl | rfl | rfl | rfl | rfl | rfl | rfl | rfl | rfl : k = 35 ∨ k = 36 ∨ k = 37 ∨ k = 38 ∨ k = 39 ∨ k = 40 ∨ k = 41 ∨ k = 42 ∨ k = 43 ∨ k = 44 ∨ k = 45 ∨ k = 46 ∨ k = 47 ∨ k = 48 ∨ k = 49 ∨ k = 50 ∨ k = 51 ∨ k = 52 ∨ k = 53 ∨ k = 54 ∨ k = 55 ∨ k = 56 ∨ k = 57 ∨ k = 58 ∨ k = 59 ∨ k = 60 ∨ k = 61 ∨ k = 62 := (by omega); exact hn35; exact hn36; exact hn37; exact hn38; exact hn39; exact hn40; exact hn41; exact hn42; exact hn43; exact hn44; exact hn45; exact hn46; exact hn47; exact hn48; exact hn49; exact hn50; exact hn51; exact hn52; exact hn53; exact hn54; exact hn55; exact hn56; exact hn57; exact hn58; exact hn59; exact hn60; exact hn61; exact hn62)) rfl ?_
  refine V_iconst (pc := 130) (v := 0) hk dX2_isSign_130 rfl ?_
  exact V_zreturn (pc := 131) hk hR rfl dX2_isSign_131
theorem ctX2_isSign (l : Launch) (K : Kx) (hI : Ini K) (a0 : Int32) (w : Wd) : ∀ r, mX2_isSign a0 w = some r → Ct l K 2 60 yX2_isSign (ws_ yX2_isSign cX2_isSign 1 (some (.boolean))) [.int a0] w (rvI r.1) r.2 := Ct_of rvI l K hI 2 60 [.int a0] w (by decide) (lc0 := [(0, .int a0)]) rfl (Nat.le_of_ble_eq_true rfl) (fun y hk hR _ _ hin => eX2_isSign hk hR a0 w)
noncomputable def mX2_nextToken_p272 (w : Wd) (l0 : Option Nat) (l1 : Int32) : Option (Unit × Wd) :=
(gI w l0 2 7).bind fun v1 =>
(recv w l0 2).bind fun b3 => (cal w (mX2_byteAt b3 v1 w)).bind fun r2 =>
if ¬ r2.1 = 61 then (
some ((), r2.2))
else (
if ¬ l1 = 60 then (
(pf r2.2 l0 2 9 (.int 5)).bind fun w4 =>
(gI w4 l0 2 7).bind fun v5 =>
(pf w4 l0 2 7 (.int (v5 + 1))).bind fun w6 =>
some ((), w6))
else (
(pf r2.2 l0 2 9 (.int 4)).bind fun w7 =>
(gI w7 l0 2 7).bind fun v8 =>
(pf w7 l0 2 7 (.int (v8 + 1))).bind fun w9 =>
some ((), w9)))
noncomputable def mX2_nextToken_p247 (w : Wd) (l0 : Option Nat) (l1 : Int32) (t0 : Int32) (t1 : Option Nat) : Option (Unit × Wd) :=
(pf w t1 2 9 (.int t0)).bind fun w1 =>
(gI w1 l0 2 7).bind fun v2 =>
(pf w1 l0 2 7 (.int (v2 + 1))).bind fun w3 =>
if l1 = 60 then (
mX2_nextToken_p272 w3 l0 l1)
else (
if ¬ l1 = 62 then (
some ((), w3))
else (
mX2_nextToken_p272 w3 l0 l1))
noncomputable def mX2_nextToken_b168 (k168 : Wd → (Option Nat) → Option (Unit × Wd)) (w : Wd) (l0 : Option Nat) : Option (Unit × Wd) :=
(gI w l0 2 7).bind fun v1 =>
(recv w l0 2).bind fun b3 => (cal w (mX2_byteAt b3 v1 w)).bind fun r2 =>
(cal r2.2 (mX2_isLetterByte r2.1 r2.2)).bind fun r4 =>
if r4.1 = 0 then (
some ((), r4.2))
else (
(gJ r4.2 l0 2 11).bind fun v5 =>
if (lg_cmp (v5 >>> ((48 : Int32).toInt64 &&& 63)) 0) = 0 then (
(gJ r4.2 l0 2 11).bind fun v6 =>
(gI r4.2 l0 2 7).bind fun v7 =>
(recv r4.2 l0 2).bind fun b9 => (cal r4.2 (mX2_byteAt b9 v7 r4.2)).bind fun r8 =>
(pf r8.2 l0 2 11 (.long ((v6 <<< ((8 : Int32).toInt64 &&& 63)) ||| ((r8.1 : Int32).toInt64)))).bind fun w10 =>
(gI w10 l0 2 7).bind fun v11 =>
(pf w10 l0 2 7 (.int (v11 + 1))).bind fun w12 =>
k168 w12 l0)
else (
(pf r4.2 l0 2 11 (.long 1152921504606846976)).bind fun w13 =>
(gI w13 l0 2 7).bind fun v14 =>
(pf w13 l0 2 7 (.int (v14 + 1))).bind fun w15 =>
k168 w15 l0))
noncomputable def mX2_nextToken_l168 : Nat → Wd → (Option Nat) → Option (Unit × Wd)
  | 0, _, _ => none
  | n + 1, w, l0 => mX2_nextToken_b168 (mX2_nextToken_l168 n) w l0
noncomputable def mX2_nextToken_b85 (k85 : Wd → (Option Nat) → Option (Unit × Wd)) (w : Wd) (l0 : Option Nat) : Option (Unit × Wd) :=
(gI w l0 2 7).bind fun v1 =>
(recv w l0 2).bind fun b3 => (cal w (mX2_byteAt b3 v1 w)).bind fun r2 =>
(cal r2.2 (mX2_isFigure r2.1 r2.2)).bind fun r4 =>
if r4.1 = 0 then (
some ((), r4.2))
else (
(gI r4.2 l0 2 10).bind fun v5 =>
if v5 ≤ 99999 then (
(gI r4.2 l0 2 10).bind fun v6 =>
(gI r4.2 l0 2 7).bind fun v7 =>
(recv r4.2 l0 2).bind fun b9 => (cal r4.2 (mX2_byteAt b9 v7 r4.2)).bind fun r8 =>
(pf r8.2 l0 2 10 (.int (((10 * v6) + r8.1) - 48))).bind fun w10 =>
(gI w10 l0 2 7).bind fun v11 =>
(pf w10 l0 2 7 (.int (v11 + 1))).bind fun w12 =>
k85 w12 l0)
else (
(gI r4.2 l0 2 10).bind fun v13 =>
(pf r4.2 l0 2 10 (.int v13)).bind fun w14 =>
(gI w14 l0 2 7).bind fun v15 =>
(pf w14 l0 2 7 (.int (v15 + 1))).bind fun w16 =>
k85 w16 l0))
noncomputable def mX2_nextToken_l85 : Nat → Wd → (Option Nat) → Option (Unit × Wd)
  | 0, _, _ => none
  | n + 1, w, l0 => mX2_nextToken_b85 (mX2_nextToken_l85 n) w l0
noncomputable def mX2_nextToken_b0 (k0 : Wd → (Option Nat) → Option (Unit × Wd)) (w : Wd) (l0 : Option Nat) : Option (Unit × Wd) :=
(gI w l0 2 7).bind fun v1 =>
(recv w l0 2).bind fun b3 => (cal w (mX2_byteAt b3 v1 w)).bind fun r2 =>
if r2.1 = 32 then (
(gI r2.2 l0 2 7).bind fun v4 =>
(pf r2.2 l0 2 7 (.int (v4 + 1))).bind fun w5 =>
k0 w5 l0)
else (
(gI r2.2 l0 2 7).bind fun v6 =>
(recv r2.2 l0 2).bind fun b8 => (cal r2.2 (mX2_byteAt b8 v6 r2.2)).bind fun r7 =>
if ¬ r7.1 = 10 then (
(gI r7.2 l0 2 7).bind fun v9 =>
(pf r7.2 l0 2 8 (.int v9)).bind fun w10 =>
(gI w10 l0 2 7).bind fun v11 =>
(recv w10 l0 2).bind fun b13 => (cal w10 (mX2_byteAt b13 v11 w10)).bind fun r12 =>
if 0 ≤ r12.1 then (
(cal r12.2 (mX2_isFigure r12.1 r12.2)).bind fun r14 =>
if r14.1 = 0 then (
(cal r14.2 (mX2_isLetterByte r12.1 r14.2)).bind fun r15 =>
if r15.1 = 0 then (
(cal r15.2 (mX2_isSign r12.1 r15.2)).bind fun r16 =>
if r16.1 = 0 then (
mX2_nextToken_p247 r16.2 l0 r12.1 3 l0)
else (
mX2_nextToken_p247 r16.2 l0 r12.1 r12.1 l0))
else (
(pf r15.2 l0 2 9 (.int 2)).bind fun w17 =>
(pf w17 l0 2 11 (.long 0)).bind fun w18 =>
mX2_nextToken_l168 FU w18 l0))
else (
(pf r14.2 l0 2 9 (.int 1)).bind fun w19 =>
(pf w19 l0 2 10 (.int 0)).bind fun w20 =>
mX2_nextToken_l85 FU w20 l0))
else (
(pf r12.2 l0 2 9 (.int 0)).bind fun w21 =>
some ((), w21)))
else (
(gI r7.2 l0 2 7).bind fun v22 =>
(pf r7.2 l0 2 7 (.int (v22 + 1))).bind fun w23 =>
k0 w23 l0))
noncomputable def mX2_nextToken_l0 : Nat → Wd → (Option Nat) → Option (Unit × Wd)
  | 0, _, _ => none
  | n + 1, w, l0 => mX2_nextToken_b0 (mX2_nextToken_l0 n) w l0
noncomputable def mX2_nextToken (this : Nat) (w : Wd) : Option (Unit × Wd) := mX2_nextToken_l0 FU w (some this)
theorem eX2_nextToken_p272 {y : Fx (Unit × Wd)} (hk : OkF y RX2 cX2_nextToken 2 3 81) (hR : RetM y rvV none) (w : Wd) (l0 : Option Nat) (l1 : Int32) : V y w [(0, va_rf l0), (1, .int l1)] [] 272 (mX2_nextToken_p272 w l0 l1) := by
  unfold mX2_nextToken_p272
  refine V_aload_n (pc := 272) hk dX2_nextToken_272 0 rfl ?_
  refine V_aload_n (pc := 273) hk dX2_nextToken_273 0 rfl ?_
  refine g_X2_82 (pc := 274) hk dX2_nextToken_274 (fun v1 => ?_)
  refine n_X2_85 (pc := 277) hk (fun b r h => ctX2_byteAt (fl y) (fK y) hk.2.2.2.2.2.2.2.1 b v1 w r h) ⟨Nat.le_of_ble_eq_true rfl, Nat.le_of_ble_eq_true rfl⟩ (Nat.le_of_ble_eq_true rfl) dX2_nextToken_277 (fun r2 => ?_)
  refine V_bipush (pc := 280) (v := 61) hk dX2_nextToken_280 rfl ?_
  refine V_icmp_ne (pc := 282) (tgt := 310) hk dX2_nextToken_282 rfl ?_ ?_
  · exact V_return (pc := 310) hk hR rfl dX2_nextToken_310
  · refine V_aload_n (pc := 285) hk dX2_nextToken_285 0 rfl ?_
    refine V_iload_n (pc := 286) hk dX2_nextToken_286 1 rfl ?_
    refine V_bipush (pc := 287) (v := 60) hk dX2_nextToken_287 rfl ?_
    refine V_icmp_ne (pc := 289) (tgt := 296) hk dX2_nextToken_289 rfl ?_ ?_
    · refine V_iconst (pc := 296) (v := 5) hk dX2_nextToken_296 rfl ?_
      refine p_X2_92 (pc := 297) hk dX2_nextToken_297 (fun w4 => ?_)
      refine V_aload_n (pc := 300) hk dX2_nextToken_300 0 rfl ?_
      refine V_dup (pc := 301) hk dX2_nextToken_301 (rf_cat _) ?_
      refine g_X2_82 (pc := 302) hk dX2_nextToken_302 (fun v5 => ?_)
      refine V_iconst (pc := 305) (v := 1) hk dX2_nextToken_305 rfl ?_
      refine V_iadd (pc := 306) hk dX2_nextToken_306 ?_
      refine p_X2_82 (pc := 307) hk dX2_nextToken_307 (fun w6 => ?_)
      exact V_return (pc := 310) hk hR rfl dX2_nextToken_310
    · refine V_iconst (pc := 292) (v := 4) hk dX2_nextToken_292 rfl ?_
      refine V_goto (pc := 293) (tgt := 297) hk dX2_nextToken_293 rfl ?_
      refine p_X2_92 (pc := 297) hk dX2_nextToken_297 (fun w7 => ?_)
      refine V_aload_n (pc := 300) hk dX2_nextToken_300 0 rfl ?_
      refine V_dup (pc := 301) hk dX2_nextToken_301 (rf_cat _) ?_
      refine g_X2_82 (pc := 302) hk dX2_nextToken_302 (fun v8 => ?_)
      refine V_iconst (pc := 305) (v := 1) hk dX2_nextToken_305 rfl ?_
      refine V_iadd (pc := 306) hk dX2_nextToken_306 ?_
      refine p_X2_82 (pc := 307) hk dX2_nextToken_307 (fun w9 => ?_)
      exact V_return (pc := 310) hk hR rfl dX2_nextToken_310
theorem eX2_nextToken_p247 {y : Fx (Unit × Wd)} (hk : OkF y RX2 cX2_nextToken 2 3 81) (hR : RetM y rvV none) (w : Wd) (l0 : Option Nat) (l1 : Int32) (t0 : Int32) (t1 : Option Nat) : V y w [(0, va_rf l0), (1, .int l1)] [.int t0, va_rf t1] 247 (mX2_nextToken_p247 w l0 l1 t0 t1) := by
  unfold mX2_nextToken_p247
  refine p_X2_92 (pc := 247) hk dX2_nextToken_247 (fun w1 => ?_)
  refine V_aload_n (pc := 250) hk dX2_nextToken_250 0 rfl ?_
  refine V_dup (pc := 251) hk dX2_nextToken_251 (rf_cat _) ?_
  refine g_X2_82 (pc := 252) hk dX2_nextToken_252 (fun v2 => ?_)
  refine V_iconst (pc := 255) (v := 1) hk dX2_nextToken_255 rfl ?_
  refine V_iadd (pc := 256) hk dX2_nextToken_256 ?_
  refine p_X2_82 (pc := 257) hk dX2_nextToken_257 (fun w3 => ?_)
  refine V_iload_n (pc := 260) hk dX2_nextToken_260 1 rfl ?_
  refine V_bipush (pc := 261) (v := 60) hk dX2_nextToken_261 rfl ?_
  refine V_icmp_eq (pc := 263) (tgt := 272) hk dX2_nextToken_263 rfl ?_ ?_
  · exact eX2_nextToken_p272 hk hR w3 l0 l1
  · refine V_iload_n (pc := 266) hk dX2_nextToken_266 1 rfl ?_
    refine V_bipush (pc := 267) (v := 62) hk dX2_nextToken_267 rfl ?_
    refine V_icmp_ne (pc := 269) (tgt := 310) hk dX2_nextToken_269 rfl ?_ ?_
    · exact V_return (pc := 310) hk hR rfl dX2_nextToken_310
    · exact eX2_nextToken_p272 hk hR w3 l0 l1
theorem eX2_nextToken_b168 {y : Fx (Unit × Wd)} (hk : OkF y RX2 cX2_nextToken 2 3 81) (hR : RetM y rvV none) {k168 : Wd → (Option Nat) → Option (Unit × Wd)} (h168 : ∀ (w : Wd) (l0 : Option Nat), V y w [(0, va_rf l0)] [] 168 (k168 w l0)) (w : Wd) (l0 : Option Nat) : V y w [(0, va_rf l0)] [] 168 (mX2_nextToken_b168 k168 w l0) := by
  unfold mX2_nextToken_b168
  refine V_aload_n (pc := 168) hk dX2_nextToken_168 0 rfl ?_
  refine V_aload_n (pc := 169) hk dX2_nextToken_169 0 rfl ?_
  refine g_X2_82 (pc := 170) hk dX2_nextToken_170 (fun v1 => ?_)
  refine n_X2_85 (pc := 173) hk (fun b r h => ctX2_byteAt (fl y) (fK y) hk.2.2.2.2.2.2.2.1 b v1 w r h) ⟨Nat.le_of_ble_eq_true rfl, Nat.le_of_ble_eq_true rfl⟩ (Nat.le_of_ble_eq_true rfl) dX2_nextToken_173 (fun r2 => ?_)
  refine n_X2_103 (pc := 176) hk (fun r h => ctX2_isLetterByte (fl y) (fK y) hk.2.2.2.2.2.2.2.1 r2.1 r2.2 r h) ⟨Nat.le_of_ble_eq_true rfl, Nat.le_of_ble_eq_true rfl⟩ (Nat.le_of_ble_eq_true rfl) dX2_nextToken_176 (fun r4 => ?_)
  refine V_if_eq (pc := 179) (tgt := 310) hk dX2_nextToken_179 rfl ?_ ?_
  · exact V_return (pc := 310) hk hR rfl dX2_nextToken_310
  · refine V_aload_n (pc := 182) hk dX2_nextToken_182 0 rfl ?_
    refine V_aload_n (pc := 183) hk dX2_nextToken_183 0 rfl ?_
    refine g_X2_106 (pc := 184) hk dX2_nextToken_184 (fun v5 => ?_)
    refine V_bipush (pc := 187) (v := 48) hk dX2_nextToken_187 rfl ?_
    refine V_lshr (pc := 189) hk dX2_nextToken_189 ?_
    refine V_lconst (pc := 190) (v := 0) hk dX2_nextToken_190 rfl ?_
    refine V_lcmp (pc := 191) hk dX2_nextToken_191 ?_
    refine V_if_eq (pc := 192) (tgt := 201) hk dX2_nextToken_192 rfl ?_ ?_
    · refine V_aload_n (pc := 201) hk dX2_nextToken_201 0 rfl ?_
      refine g_X2_106 (pc := 202) hk dX2_nextToken_202 (fun v6 => ?_)
      refine V_bipush (pc := 205) (v := 8) hk dX2_nextToken_205 rfl ?_
      refine V_lshl (pc := 207) hk dX2_nextToken_207 ?_
      refine V_aload_n (pc := 208) hk dX2_nextToken_208 0 rfl ?_
      refine V_aload_n (pc := 209) hk dX2_nextToken_209 0 rfl ?_
      refine g_X2_82 (pc := 210) hk dX2_nextToken_210 (fun v7 => ?_)
      refine n_X2_85 (pc := 213) hk (fun b r h => ctX2_byteAt (fl y) (fK y) hk.2.2.2.2.2.2.2.1 b v7 r4.2 r h) ⟨Nat.le_of_ble_eq_true rfl, Nat.le_of_ble_eq_true rfl⟩ (by simp [rf_cat, cat_int, cat_long, cat_ref]) dX2_nextToken_213 (fun r8 => ?_)
      refine V_i2l (pc := 216) hk dX2_nextToken_216 ?_
      refine V_lor (pc := 217) hk dX2_nextToken_217 ?_
      refine p_X2_106 (pc := 218) hk dX2_nextToken_218 (fun w10 => ?_)
      refine V_aload_n (pc := 221) hk dX2_nextToken_221 0 rfl ?_
      refine V_dup (pc := 222) hk dX2_nextToken_222 (rf_cat _) ?_
      refine g_X2_82 (pc := 223) hk dX2_nextToken_223 (fun v11 => ?_)
      refine V_iconst (pc := 226) (v := 1) hk dX2_nextToken_226 rfl ?_
      refine V_iadd (pc := 227) hk dX2_nextToken_227 ?_
      refine p_X2_82 (pc := 228) hk dX2_nextToken_228 (fun w12 => ?_)
      refine V_goto (pc := 231) (tgt := 168) hk dX2_nextToken_231 rfl ?_
      exact h168 w12 l0
    · refine V_ldc2 (pc := 195) (v := 1152921504606846976) hk dX2_nextToken_195 q1509 ?_
      refine V_goto (pc := 198) (tgt := 218) hk dX2_nextToken_198 rfl ?_
      refine p_X2_106 (pc := 218) hk dX2_nextToken_218 (fun w13 => ?_)
      refine V_aload_n (pc := 221) hk dX2_nextToken_221 0 rfl ?_
      refine V_dup (pc := 222) hk dX2_nextToken_222 (rf_cat _) ?_
      refine g_X2_82 (pc := 223) hk dX2_nextToken_223 (fun v14 => ?_)
      refine V_iconst (pc := 226) (v := 1) hk dX2_nextToken_226 rfl ?_
      refine V_iadd (pc := 227) hk dX2_nextToken_227 ?_
      refine p_X2_82 (pc := 228) hk dX2_nextToken_228 (fun w15 => ?_)
      refine V_goto (pc := 231) (tgt := 168) hk dX2_nextToken_231 rfl ?_
      exact h168 w15 l0
theorem eX2_nextToken_l168 {y : Fx (Unit × Wd)} (hk : OkF y RX2 cX2_nextToken 2 3 81) (hR : RetM y rvV none) : ∀ (n : Nat) (w : Wd) (l0 : Option Nat), V y w [(0, va_rf l0)] [] 168 (mX2_nextToken_l168 n w l0) := by
  intro n
  induction n with
  | zero => intro w l0; exact V_none
  | succ n ih => intro w l0; exact eX2_nextToken_b168 hk hR ih w l0
theorem eX2_nextToken_b85 {y : Fx (Unit × Wd)} (hk : OkF y RX2 cX2_nextToken 2 3 81) (hR : RetM y rvV none) {k85 : Wd → (Option Nat) → Option (Unit × Wd)} (h85 : ∀ (w : Wd) (l0 : Option Nat), V y w [(0, va_rf l0)] [] 85 (k85 w l0)) (w : Wd) (l0 : Option Nat) : V y w [(0, va_rf l0)] [] 85 (mX2_nextToken_b85 k85 w l0) := by
  unfold mX2_nextToken_b85
  refine V_aload_n (pc := 85) hk dX2_nextToken_85 0 rfl ?_
  refine V_aload_n (pc := 86) hk dX2_nextToken_86 0 rfl ?_
  refine g_X2_82 (pc := 87) hk dX2_nextToken_87 (fun v1 => ?_)
  refine n_X2_85 (pc := 90) hk (fun b r h => ctX2_byteAt (fl y) (fK y) hk.2.2.2.2.2.2.2.1 b v1 w r h) ⟨Nat.le_of_ble_eq_true rfl, Nat.le_of_ble_eq_true rfl⟩ (Nat.le_of_ble_eq_true rfl) dX2_nextToken_90 (fun r2 => ?_)
  refine n_X2_95 (pc := 93) hk (fun r h => ctX2_isFigure (fl y) (fK y) hk.2.2.2.2.2.2.2.1 r2.1 r2.2 r h) ⟨Nat.le_of_ble_eq_true rfl, Nat.le_of_ble_eq_true rfl⟩ (Nat.le_of_ble_eq_true rfl) dX2_nextToken_93 (fun r4 => ?_)
  refine V_if_eq (pc := 96) (tgt := 310) hk dX2_nextToken_96 rfl ?_ ?_
  · exact V_return (pc := 310) hk hR rfl dX2_nextToken_310
  · refine V_aload_n (pc := 99) hk dX2_nextToken_99 0 rfl ?_
    refine V_aload_n (pc := 100) hk dX2_nextToken_100 0 rfl ?_
    refine g_X2_99 (pc := 101) hk dX2_nextToken_101 (fun v5 => ?_)
    refine V_ldc (pc := 104) (v := 99999) hk dX2_nextToken_104 q1505 ?_
    refine V_icmp_le (pc := 106) (tgt := 116) hk dX2_nextToken_106 rfl ?_ ?_
    · refine V_bipush (pc := 116) (v := 10) hk dX2_nextToken_116 rfl ?_
      refine V_aload_n (pc := 118) hk dX2_nextToken_118 0 rfl ?_
      refine g_X2_99 (pc := 119) hk dX2_nextToken_119 (fun v6 => ?_)
      refine V_imul (pc := 122) hk dX2_nextToken_122 ?_
      refine V_aload_n (pc := 123) hk dX2_nextToken_123 0 rfl ?_
      refine V_aload_n (pc := 124) hk dX2_nextToken_124 0 rfl ?_
      refine g_X2_82 (pc := 125) hk dX2_nextToken_125 (fun v7 => ?_)
      refine n_X2_85 (pc := 128) hk (fun b r h => ctX2_byteAt (fl y) (fK y) hk.2.2.2.2.2.2.2.1 b v7 r4.2 r h) ⟨Nat.le_of_ble_eq_true rfl, Nat.le_of_ble_eq_true rfl⟩ (by simp [rf_cat, cat_int, cat_long, cat_ref]) dX2_nextToken_128 (fun r8 => ?_)
      refine V_iadd (pc := 131) hk dX2_nextToken_131 ?_
      refine V_bipush (pc := 132) (v := 48) hk dX2_nextToken_132 rfl ?_
      refine V_isub (pc := 134) hk dX2_nextToken_134 ?_
      refine p_X2_99 (pc := 135) hk dX2_nextToken_135 (fun w10 => ?_)
      refine V_aload_n (pc := 138) hk dX2_nextToken_138 0 rfl ?_
      refine V_dup (pc := 139) hk dX2_nextToken_139 (rf_cat _) ?_
      refine g_X2_82 (pc := 140) hk dX2_nextToken_140 (fun v11 => ?_)
      refine V_iconst (pc := 143) (v := 1) hk dX2_nextToken_143 rfl ?_
      refine V_iadd (pc := 144) hk dX2_nextToken_144 ?_
      refine p_X2_82 (pc := 145) hk dX2_nextToken_145 (fun w12 => ?_)
      refine V_goto (pc := 148) (tgt := 85) hk dX2_nextToken_148 rfl ?_
      exact h85 w12 l0
    · refine V_aload_n (pc := 109) hk dX2_nextToken_109 0 rfl ?_
      refine g_X2_99 (pc := 110) hk dX2_nextToken_110 (fun v13 => ?_)
      refine V_goto (pc := 113) (tgt := 135) hk dX2_nextToken_113 rfl ?_
      refine p_X2_99 (pc := 135) hk dX2_nextToken_135 (fun w14 => ?_)
      refine V_aload_n (pc := 138) hk dX2_nextToken_138 0 rfl ?_
      refine V_dup (pc := 139) hk dX2_nextToken_139 (rf_cat _) ?_
      refine g_X2_82 (pc := 140) hk dX2_nextToken_140 (fun v15 => ?_)
      refine V_iconst (pc := 143) (v := 1) hk dX2_nextToken_143 rfl ?_
      refine V_iadd (pc := 144) hk dX2_nextToken_144 ?_
      refine p_X2_82 (pc := 145) hk dX2_nextToken_145 (fun w16 => ?_)
      refine V_goto (pc := 148) (tgt := 85) hk dX2_nextToken_148 rfl ?_
      exact h85 w16 l0
theorem eX2_nextToken_l85 {y : Fx (Unit × Wd)} (hk : OkF y RX2 cX2_nextToken 2 3 81) (hR : RetM y rvV none) : ∀ (n : Nat) (w : Wd) (l0 : Option Nat), V y w [(0, va_rf l0)] [] 85 (mX2_nextToken_l85 n w l0) := by
  intro n
  induction n with
  | zero => intro w l0; exact V_none
  | succ n ih => intro w l0; exact eX2_nextToken_b85 hk hR ih w l0
theorem eX2_nextToken_b0 {y : Fx (Unit × Wd)} (hk : OkF y RX2 cX2_nextToken 2 3 81) (hR : RetM y rvV none) {k0 : Wd → (Option Nat) → Option (Unit × Wd)} (h0 : ∀ (w : Wd) (l0 : Option Nat), V y w [(0, va_rf l0)] [] 0 (k0 w l0)) (w : Wd) (l0 : Option Nat) : V y w [(0, va_rf l0)] [] 0 (mX2_nextToken_b0 k0 w l0) := by
  unfold mX2_nextToken_b0
  refine V_aload_n (pc := 0) hk dX2_nextToken_0 0 rfl ?_
  refine V_aload_n (pc := 1) hk dX2_nextToken_1 0 rfl ?_
  refine g_X2_82 (pc := 2) hk dX2_nextToken_2 (fun v1 => ?_)
  refine n_X2_85 (pc := 5) hk (fun b r h => ctX2_byteAt (fl y) (fK y) hk.2.2.2.2.2.2.2.1 b v1 w r h) ⟨Nat.le_of_ble_eq_true rfl, Nat.le_of_ble_eq_true rfl⟩ (Nat.le_of_ble_eq_true rfl) dX2_nextToken_5 (fun r2 => ?_)
  refine V_bipush (pc := 8) (v := 32) hk dX2_nextToken_8 rfl ?_
  refine V_icmp_eq (pc := 10) (tgt := 26) hk dX2_nextToken_10 rfl ?_ ?_
  · refine V_aload_n (pc := 26) hk dX2_nextToken_26 0 rfl ?_
    refine V_dup (pc := 27) hk dX2_nextToken_27 (rf_cat _) ?_
    refine g_X2_82 (pc := 28) hk dX2_nextToken_28 (fun v4 => ?_)
    refine V_iconst (pc := 31) (v := 1) hk dX2_nextToken_31 rfl ?_
    refine V_iadd (pc := 32) hk dX2_nextToken_32 ?_
    refine p_X2_82 (pc := 33) hk dX2_nextToken_33 (fun w5 => ?_)
    refine V_goto (pc := 36) (tgt := 0) hk dX2_nextToken_36 rfl ?_
    exact h0 w5 l0
  · refine V_aload_n (pc := 13) hk dX2_nextToken_13 0 rfl ?_
    refine V_aload_n (pc := 14) hk dX2_nextToken_14 0 rfl ?_
    refine g_X2_82 (pc := 15) hk dX2_nextToken_15 (fun v6 => ?_)
    refine n_X2_85 (pc := 18) hk (fun b r h => ctX2_byteAt (fl y) (fK y) hk.2.2.2.2.2.2.2.1 b v6 r2.2 r h) ⟨Nat.le_of_ble_eq_true rfl, Nat.le_of_ble_eq_true rfl⟩ (Nat.le_of_ble_eq_true rfl) dX2_nextToken_18 (fun r7 => ?_)
    refine V_bipush (pc := 21) (v := 10) hk dX2_nextToken_21 rfl ?_
    refine V_icmp_ne (pc := 23) (tgt := 39) hk dX2_nextToken_23 rfl ?_ ?_
    · refine V_aload_n (pc := 39) hk dX2_nextToken_39 0 rfl ?_
      refine V_aload_n (pc := 40) hk dX2_nextToken_40 0 rfl ?_
      refine g_X2_82 (pc := 41) hk dX2_nextToken_41 (fun v9 => ?_)
      refine p_X2_89 (pc := 44) hk dX2_nextToken_44 (fun w10 => ?_)
      refine V_aload_n (pc := 47) hk dX2_nextToken_47 0 rfl ?_
      refine V_aload_n (pc := 48) hk dX2_nextToken_48 0 rfl ?_
      refine g_X2_82 (pc := 49) hk dX2_nextToken_49 (fun v11 => ?_)
      refine n_X2_85 (pc := 52) hk (fun b r h => ctX2_byteAt (fl y) (fK y) hk.2.2.2.2.2.2.2.1 b v11 w10 r h) ⟨Nat.le_of_ble_eq_true rfl, Nat.le_of_ble_eq_true rfl⟩ (Nat.le_of_ble_eq_true rfl) dX2_nextToken_52 (fun r12 => ?_)
      refine V_istore_n (pc := 55) (lc' := [(1, .int r12.1), (0, va_rf l0)]) (i := 1) hk dX2_nextToken_55 rfl (Nat.le_of_ble_eq_true rfl) (by simp [rf_cat, cat_int, cat_long, cat_ref]) ?_
      refine V_iload_n (pc := 56) hk dX2_nextToken_56 0 rfl ?_
      refine V_if_ge (pc := 57) (tgt := 68) hk dX2_nextToken_57 rfl ?_ ?_
      · refine V_iload_n (pc := 68) hk dX2_nextToken_68 0 rfl ?_
        refine n_X2_95 (pc := 69) hk (fun r h => ctX2_isFigure (fl y) (fK y) hk.2.2.2.2.2.2.2.1 r12.1 r12.2 r h) ⟨Nat.le_of_ble_eq_true rfl, Nat.le_of_ble_eq_true rfl⟩ (Nat.le_of_ble_eq_true rfl) dX2_nextToken_69 (fun r14 => ?_)
        refine V_if_eq (pc := 72) (tgt := 151) hk dX2_nextToken_72 rfl ?_ ?_
        · refine V_iload_n (pc := 151) hk dX2_nextToken_151 0 rfl ?_
          refine n_X2_103 (pc := 152) hk (fun r h => ctX2_isLetterByte (fl y) (fK y) hk.2.2.2.2.2.2.2.1 r12.1 r14.2 r h) ⟨Nat.le_of_ble_eq_true rfl, Nat.le_of_ble_eq_true rfl⟩ (Nat.le_of_ble_eq_true rfl) dX2_nextToken_152 (fun r15 => ?_)
          refine V_if_eq (pc := 155) (tgt := 234) hk dX2_nextToken_155 rfl ?_ ?_
          · refine V_aload_n (pc := 234) hk dX2_nextToken_234 1 rfl ?_
            refine V_iload_n (pc := 235) hk dX2_nextToken_235 0 rfl ?_
            refine n_X2_112 (pc := 236) hk (fun r h => ctX2_isSign (fl y) (fK y) hk.2.2.2.2.2.2.2.1 r12.1 r15.2 r h) ⟨Nat.le_of_ble_eq_true rfl, Nat.le_of_ble_eq_true rfl⟩ (by simp [rf_cat, cat_int, cat_long, cat_ref]) dX2_nextToken_236 (fun r16 => ?_)
            refine V_if_eq (pc := 239) (tgt := 246) hk dX2_nextToken_239 rfl ?_ ?_
            · refine V_iconst (pc := 246) (v := 3) hk dX2_nextToken_246 rfl ?_
              refine V_pick (lc' := [(0, va_rf l0), (1, .int r12.1)]) [1, 0] rfl ?_
              exact eX2_nextToken_p247 hk hR r16.2 l0 r12.1 3 l0
            · refine V_iload_n (pc := 242) hk dX2_nextToken_242 0 rfl ?_
              refine V_goto (pc := 243) (tgt := 247) hk dX2_nextToken_243 rfl ?_
              refine V_pick (lc' := [(0, va_rf l0), (1, .int r12.1)]) [1, 0] rfl ?_
              exact eX2_nextToken_p247 hk hR r16.2 l0 r12.1 r12.1 l0
          · refine V_aload_n (pc := 158) hk dX2_nextToken_158 1 rfl ?_
            refine V_iconst (pc := 159) (v := 2) hk dX2_nextToken_159 rfl ?_
            refine p_X2_92 (pc := 160) hk dX2_nextToken_160 (fun w17 => ?_)
            refine V_aload_n (pc := 163) hk dX2_nextToken_163 1 rfl ?_
            refine V_lconst (pc := 164) (v := 0) hk dX2_nextToken_164 rfl ?_
            refine p_X2_106 (pc := 165) hk dX2_nextToken_165 (fun w18 => ?_)
            refine V_pick (lc' := [(0, va_rf l0)]) [1] rfl ?_
            exact eX2_nextToken_l168 hk hR FU w18 l0
        · refine V_aload_n (pc := 75) hk dX2_nextToken_75 1 rfl ?_
          refine V_iconst (pc := 76) (v := 1) hk dX2_nextToken_76 rfl ?_
          refine p_X2_92 (pc := 77) hk dX2_nextToken_77 (fun w19 => ?_)
          refine V_aload_n (pc := 80) hk dX2_nextToken_80 1 rfl ?_
          refine V_iconst (pc := 81) (v := 0) hk dX2_nextToken_81 rfl ?_
          refine p_X2_99 (pc := 82) hk dX2_nextToken_82 (fun w20 => ?_)
          refine V_pick (lc' := [(0, va_rf l0)]) [1] rfl ?_
          exact eX2_nextToken_l85 hk hR FU w20 l0
      · refine V_aload_n (pc := 60) hk dX2_nextToken_60 1 rfl ?_
        refine V_iconst (pc := 61) (v := 0) hk dX2_nextToken_61 rfl ?_
        refine p_X2_92 (pc := 62) hk dX2_nextToken_62 (fun w21 => ?_)
        refine V_goto (pc := 65) (tgt := 310) hk dX2_nextToken_65 rfl ?_
        exact V_return (pc := 310) hk hR rfl dX2_nextToken_310
    · refine V_aload_n (pc := 26) hk dX2_nextToken_26 0 rfl ?_
      refine V_dup (pc := 27) hk dX2_nextToken_27 (rf_cat _) ?_
      refine g_X2_82 (pc := 28) hk dX2_nextToken_28 (fun v22 => ?_)
      refine V_iconst (pc := 31) (v := 1) hk dX2_nextToken_31 rfl ?_
      refine V_iadd (pc := 32) hk dX2_nextToken_32 ?_
      refine p_X2_82 (pc := 33) hk dX2_nextToken_33 (fun w23 => ?_)
      refine V_goto (pc := 36) (tgt := 0) hk dX2_nextToken_36 rfl ?_
      exact h0 w23 l0
theorem eX2_nextToken_l0 {y : Fx (Unit × Wd)} (hk : OkF y RX2 cX2_nextToken 2 3 81) (hR : RetM y rvV none) : ∀ (n : Nat) (w : Wd) (l0 : Option Nat), V y w [(0, va_rf l0)] [] 0 (mX2_nextToken_l0 n w l0) := by
  intro n
  induction n with
  | zero => intro w l0; exact V_none
  | succ n ih => intro w l0; exact eX2_nextToken_b0 hk hR ih w l0
theorem eX2_nextToken {y : Fx (Unit × Wd)} (hk : OkF y RX2 cX2_nextToken 2 3 81) (hR : RetM y rvV none) (this : Nat) (w : Wd) : V y w [(0, va_rf (some this))] [] 0 (mX2_nextToken this w) := by
  unfold mX2_nextToken
  refine V_pick (lc' := [(0, va_rf ((some this)))]) [0] rfl ?_
  exact eX2_nextToken_l0 hk hR FU w (some this)
theorem ctX2_nextToken (l : Launch) (K : Kx) (hI : Ini K) (b : Nat) (w : Wd) : ∀ r, mX2_nextToken b w = some r → Ct l K 3 81 yX2_nextToken (ws_ yX2_nextToken cX2_nextToken 2 none) [.ref b] w (rvV r.1) r.2 := Ct_of rvV l K hI 3 81 [.ref b] w (by decide) (lc0 := [(0, .ref b)]) rfl (Nat.le_of_ble_eq_true rfl) (fun y hk hR _ _ hin => eX2_nextToken hk hR b w)
noncomputable def mX2_w2 (a0 : Int32) (a1 : Int32) (w : Wd) : Option (Int64 × Wd) :=
some ((((a0 : Int32).toInt64) <<< ((8 : Int32).toInt64 &&& 63)) ||| ((a1 : Int32).toInt64), w)
theorem eX2_w2 {y : Fx (Int64 × Wd)} (hk : OkF y RX2 cX2_w2 2 2 60) (hR : RetM y rvJ (some (.long))) (a0 : Int32) (a1 : Int32) (w : Wd) : V y w [(0, .int a0), (1, .int a1)] [] 0 (mX2_w2 a0 a1 w) := by
  unfold mX2_w2
  refine V_iload_n (pc := 0) hk dX2_w2_0 0 rfl ?_
  refine V_i2l (pc := 1) hk dX2_w2_1 ?_
  refine V_bipush (pc := 2) (v := 8) hk dX2_w2_2 rfl ?_
  refine V_lshl (pc := 4) hk dX2_w2_4 ?_
  refine V_iload_n (pc := 5) hk dX2_w2_5 1 rfl ?_
  refine V_i2l (pc := 6) hk dX2_w2_6 ?_
  refine V_lor (pc := 7) hk dX2_w2_7 ?_
  exact V_lreturn (pc := 8) hk hR rfl dX2_w2_8
theorem ctX2_w2 (l : Launch) (K : Kx) (hI : Ini K) (a0 : Int32) (a1 : Int32) (w : Wd) : ∀ r, mX2_w2 a0 a1 w = some r → Ct l K 2 60 yX2_w2 (ws_ yX2_w2 cX2_w2 2 (some (.long))) [.int a0, .int a1] w (rvJ r.1) r.2 := Ct_of rvJ l K hI 2 60 [.int a0, .int a1] w (by decide) (lc0 := [(0, .int a0), (1, .int a1)]) rfl (Nat.le_of_ble_eq_true rfl) (fun y hk hR _ _ hin => eX2_w2 hk hR a0 a1 w)
noncomputable def mX2_w3 (a0 : Int32) (a1 : Int32) (a2 : Int32) (w : Wd) : Option (Int64 × Wd) :=
(cal w (mX2_w2 a0 a1 w)).bind fun r1 =>
some ((r1.1 <<< ((8 : Int32).toInt64 &&& 63)) ||| ((a2 : Int32).toInt64), r1.2)
theorem eX2_w3 {y : Fx (Int64 × Wd)} (hk : OkF y RX2 cX2_w3 3 3 81) (hR : RetM y rvJ (some (.long))) (a0 : Int32) (a1 : Int32) (a2 : Int32) (w : Wd) : V y w [(0, .int a0), (1, .int a1), (2, .int a2)] [] 0 (mX2_w3 a0 a1 a2 w) := by
  unfold mX2_w3
  refine V_iload_n (pc := 0) hk dX2_w3_0 0 rfl ?_
  refine V_iload_n (pc := 1) hk dX2_w3_1 1 rfl ?_
  refine n_X2_115 (pc := 2) hk (fun r h => ctX2_w2 (fl y) (fK y) hk.2.2.2.2.2.2.2.1 a0 a1 w r h) ⟨Nat.le_of_ble_eq_true rfl, Nat.le_of_ble_eq_true rfl⟩ (Nat.le_of_ble_eq_true rfl) dX2_w3_2 (fun r1 => ?_)
  refine V_bipush (pc := 5) (v := 8) hk dX2_w3_5 rfl ?_
  refine V_lshl (pc := 7) hk dX2_w3_7 ?_
  refine V_iload_n (pc := 8) hk dX2_w3_8 2 rfl ?_
  refine V_i2l (pc := 9) hk dX2_w3_9 ?_
  refine V_lor (pc := 10) hk dX2_w3_10 ?_
  exact V_lreturn (pc := 11) hk hR rfl dX2_w3_11
theorem ctX2_w3 (l : Launch) (K : Kx) (hI : Ini K) (a0 : Int32) (a1 : Int32) (a2 : Int32) (w : Wd) : ∀ r, mX2_w3 a0 a1 a2 w = some r → Ct l K 3 81 yX2_w3 (ws_ yX2_w3 cX2_w3 3 (some (.long))) [.int a0, .int a1, .int a2] w (rvJ r.1) r.2 := Ct_of rvJ l K hI 3 81 [.int a0, .int a1, .int a2] w (by decide) (lc0 := [(0, .int a0), (1, .int a1), (2, .int a2)]) rfl (Nat.le_of_ble_eq_true rfl) (fun y hk hR _ _ hin => eX2_w3 hk hR a0 a1 a2 w)
noncomputable def mX2_w4 (a0 : Int32) (a1 : Int32) (a2 : Int32) (a3 : Int32) (w : Wd) : Option (Int64 × Wd) :=
(cal w (mX2_w3 a0 a1 a2 w)).bind fun r1 =>
some ((r1.1 <<< ((8 : Int32).toInt64 &&& 63)) ||| ((a3 : Int32).toInt64), r1.2)
theorem eX2_w4 {y : Fx (Int64 × Wd)} (hk : OkF y RX2 cX2_w4 4 4 103) (hR : RetM y rvJ (some (.long))) (a0 : Int32) (a1 : Int32) (a2 : Int32) (a3 : Int32) (w : Wd) : V y w [(0, .int a0), (1, .int a1), (2, .int a2), (3, .int a3)] [] 0 (mX2_w4 a0 a1 a2 a3 w) := by
  unfold mX2_w4
  refine V_iload_n (pc := 0) hk dX2_w4_0 0 rfl ?_
  refine V_iload_n (pc := 1) hk dX2_w4_1 1 rfl ?_
  refine V_iload_n (pc := 2) hk dX2_w4_2 2 rfl ?_
  refine n_X2_119 (pc := 3) hk (fun r h => ctX2_w3 (fl y) (fK y) hk.2.2.2.2.2.2.2.1 a0 a1 a2 w r h) ⟨Nat.le_of_ble_eq_true rfl, Nat.le_of_ble_eq_true rfl⟩ (Nat.le_of_ble_eq_true rfl) dX2_w4_3 (fun r1 => ?_)
  refine V_bipush (pc := 6) (v := 8) hk dX2_w4_6 rfl ?_
  refine V_lshl (pc := 8) hk dX2_w4_8 ?_
  refine V_iload_n (pc := 9) hk dX2_w4_9 3 rfl ?_
  refine V_i2l (pc := 10) hk dX2_w4_10 ?_
  refine V_lor (pc := 11) hk dX2_w4_11 ?_
  exact V_lreturn (pc := 12) hk hR rfl dX2_w4_12
theorem ctX2_w4 (l : Launch) (K : Kx) (hI : Ini K) (a0 : Int32) (a1 : Int32) (a2 : Int32) (a3 : Int32) (w : Wd) : ∀ r, mX2_w4 a0 a1 a2 a3 w = some r → Ct l K 4 103 yX2_w4 (ws_ yX2_w4 cX2_w4 4 (some (.long))) [.int a0, .int a1, .int a2, .int a3] w (rvJ r.1) r.2 := Ct_of rvJ l K hI 4 103 [.int a0, .int a1, .int a2, .int a3] w (by decide) (lc0 := [(0, .int a0), (1, .int a1), (2, .int a2), (3, .int a3)]) rfl (Nat.le_of_ble_eq_true rfl) (fun y hk hR _ _ hin => eX2_w4 hk hR a0 a1 a2 a3 w)
noncomputable def mX2_w5 (a0 : Int32) (a1 : Int32) (a2 : Int32) (a3 : Int32) (a4 : Int32) (w : Wd) : Option (Int64 × Wd) :=
(cal w (mX2_w4 a0 a1 a2 a3 w)).bind fun r1 =>
some ((r1.1 <<< ((8 : Int32).toInt64 &&& 63)) ||| ((a4 : Int32).toInt64), r1.2)
theorem eX2_w5 {y : Fx (Int64 × Wd)} (hk : OkF y RX2 cX2_w5 5 5 126) (hR : RetM y rvJ (some (.long))) (a0 : Int32) (a1 : Int32) (a2 : Int32) (a3 : Int32) (a4 : Int32) (w : Wd) : V y w [(0, .int a0), (1, .int a1), (2, .int a2), (3, .int a3), (4, .int a4)] [] 0 (mX2_w5 a0 a1 a2 a3 a4 w) := by
  unfold mX2_w5
  refine V_iload_n (pc := 0) hk dX2_w5_0 0 rfl ?_
  refine V_iload_n (pc := 1) hk dX2_w5_1 1 rfl ?_
  refine V_iload_n (pc := 2) hk dX2_w5_2 2 rfl ?_
  refine V_iload_n (pc := 3) hk dX2_w5_3 3 rfl ?_
  refine n_X2_123 (pc := 4) hk (fun r h => ctX2_w4 (fl y) (fK y) hk.2.2.2.2.2.2.2.1 a0 a1 a2 a3 w r h) ⟨Nat.le_of_ble_eq_true rfl, Nat.le_of_ble_eq_true rfl⟩ (Nat.le_of_ble_eq_true rfl) dX2_w5_4 (fun r1 => ?_)
  refine V_bipush (pc := 7) (v := 8) hk dX2_w5_7 rfl ?_
  refine V_lshl (pc := 9) hk dX2_w5_9 ?_
  refine V_iload (pc := 10) hk dX2_w5_10 4 rfl ?_
  refine V_i2l (pc := 12) hk dX2_w5_12 ?_
  refine V_lor (pc := 13) hk dX2_w5_13 ?_
  exact V_lreturn (pc := 14) hk hR rfl dX2_w5_14
theorem ctX2_w5 (l : Launch) (K : Kx) (hI : Ini K) (a0 : Int32) (a1 : Int32) (a2 : Int32) (a3 : Int32) (a4 : Int32) (w : Wd) : ∀ r, mX2_w5 a0 a1 a2 a3 a4 w = some r → Ct l K 5 126 yX2_w5 (ws_ yX2_w5 cX2_w5 5 (some (.long))) [.int a0, .int a1, .int a2, .int a3, .int a4] w (rvJ r.1) r.2 := Ct_of rvJ l K hI 5 126 [.int a0, .int a1, .int a2, .int a3, .int a4] w (by decide) (lc0 := [(0, .int a0), (1, .int a1), (2, .int a2), (3, .int a3), (4, .int a4)]) rfl (Nat.le_of_ble_eq_true rfl) (fun y hk hR _ _ hin => eX2_w5 hk hR a0 a1 a2 a3 a4 w)
noncomputable def mX2_isWord (this : Nat) (a0 : Int64) (w : Wd) : Option (Int32 × Wd) :=
(gI w ((some this)) 2 9).bind fun v1 =>
if ¬ v1 = 2 then (
(nok (.boolean) 0).bind fun _ => some (0, w))
else (
(gJ w ((some this)) 2 11).bind fun v2 =>
if ¬ (lg_cmp v2 a0) = 0 then (
(nok (.boolean) 0).bind fun _ => some (0, w))
else (
(nok (.boolean) 1).bind fun _ => some (1, w)))
theorem eX2_isWord {y : Fx (Int32 × Wd)} (hk : OkF y RX2 cX2_isWord 3 2 60) (hR : RetM y rvI (some (.boolean))) (this : Nat) (a0 : Int64) (w : Wd) : V y w [(0, va_rf (some this)), (1, .long a0)] [] 0 (mX2_isWord this a0 w) := by
  unfold mX2_isWord
  refine V_aload_n (pc := 0) hk dX2_isWord_0 0 rfl ?_
  refine g_X2_92 (pc := 1) hk dX2_isWord_1 (fun v1 => ?_)
  refine V_iconst (pc := 4) (v := 2) hk dX2_isWord_4 rfl ?_
  refine V_icmp_ne (pc := 5) (tgt := 21) hk dX2_isWord_5 rfl ?_ ?_
  · refine V_iconst (pc := 21) (v := 0) hk dX2_isWord_21 rfl ?_
    exact V_zreturn (pc := 22) hk hR rfl dX2_isWord_22
  · refine V_aload_n (pc := 8) hk dX2_isWord_8 0 rfl ?_
    refine g_X2_106 (pc := 9) hk dX2_isWord_9 (fun v2 => ?_)
    refine V_lload_n (pc := 12) hk dX2_isWord_12 1 rfl ?_
    refine V_lcmp (pc := 13) hk dX2_isWord_13 ?_
    refine V_if_ne (pc := 14) (tgt := 21) hk dX2_isWord_14 rfl ?_ ?_
    · refine V_iconst (pc := 21) (v := 0) hk dX2_isWord_21 rfl ?_
      exact V_zreturn (pc := 22) hk hR rfl dX2_isWord_22
    · refine V_iconst (pc := 17) (v := 1) hk dX2_isWord_17 rfl ?_
      refine V_goto (pc := 18) (tgt := 22) hk dX2_isWord_18 rfl ?_
      exact V_zreturn (pc := 22) hk hR rfl dX2_isWord_22
theorem ctX2_isWord (l : Launch) (K : Kx) (hI : Ini K) (b : Nat) (a0 : Int64) (w : Wd) : ∀ r, mX2_isWord b a0 w = some r → Ct l K 2 60 yX2_isWord (ws_ yX2_isWord cX2_isWord 3 (some (.boolean))) [.ref b, .long a0] w (rvI r.1) r.2 := Ct_of rvI l K hI 2 60 [.ref b, .long a0] w (by decide) (lc0 := [(0, .ref b), (1, .long a0)]) rfl (Nat.le_of_ble_eq_true rfl) (fun y hk hR _ _ hin => eX2_isWord hk hR b a0 w)
noncomputable def mX2_w6 (a0 : Int32) (a1 : Int32) (a2 : Int32) (a3 : Int32) (a4 : Int32) (a5 : Int32) (w : Wd) : Option (Int64 × Wd) :=
(cal w (mX2_w5 a0 a1 a2 a3 a4 w)).bind fun r1 =>
some ((r1.1 <<< ((8 : Int32).toInt64 &&& 63)) ||| ((a5 : Int32).toInt64), r1.2)
theorem eX2_w6 {y : Fx (Int64 × Wd)} (hk : OkF y RX2 cX2_w6 6 6 150) (hR : RetM y rvJ (some (.long))) (a0 : Int32) (a1 : Int32) (a2 : Int32) (a3 : Int32) (a4 : Int32) (a5 : Int32) (w : Wd) : V y w [(0, .int a0), (1, .int a1), (2, .int a2), (3, .int a3), (4, .int a4), (5, .int a5)] [] 0 (mX2_w6 a0 a1 a2 a3 a4 a5 w) := by
  unfold mX2_w6
  refine V_iload_n (pc := 0) hk dX2_w6_0 0 rfl ?_
  refine V_iload_n (pc := 1) hk dX2_w6_1 1 rfl ?_
  refine V_iload_n (pc := 2) hk dX2_w6_2 2 rfl ?_
  refine V_iload_n (pc := 3) hk dX2_w6_3 3 rfl ?_
  refine V_iload (pc := 4) hk dX2_w6_4 4 rfl ?_
  refine n_X2_127 (pc := 6) hk (fun r h => ctX2_w5 (fl y) (fK y) hk.2.2.2.2.2.2.2.1 a0 a1 a2 a3 a4 w r h) ⟨Nat.le_of_ble_eq_true rfl, Nat.le_of_ble_eq_true rfl⟩ (Nat.le_of_ble_eq_true rfl) dX2_w6_6 (fun r1 => ?_)
  refine V_bipush (pc := 9) (v := 8) hk dX2_w6_9 rfl ?_
  refine V_lshl (pc := 11) hk dX2_w6_11 ?_
  refine V_iload (pc := 12) hk dX2_w6_12 5 rfl ?_
  refine V_i2l (pc := 14) hk dX2_w6_14 ?_
  refine V_lor (pc := 15) hk dX2_w6_15 ?_
  exact V_lreturn (pc := 16) hk hR rfl dX2_w6_16
theorem ctX2_w6 (l : Launch) (K : Kx) (hI : Ini K) (a0 : Int32) (a1 : Int32) (a2 : Int32) (a3 : Int32) (a4 : Int32) (a5 : Int32) (w : Wd) : ∀ r, mX2_w6 a0 a1 a2 a3 a4 a5 w = some r → Ct l K 6 150 yX2_w6 (ws_ yX2_w6 cX2_w6 6 (some (.long))) [.int a0, .int a1, .int a2, .int a3, .int a4, .int a5] w (rvJ r.1) r.2 := Ct_of rvJ l K hI 6 150 [.int a0, .int a1, .int a2, .int a3, .int a4, .int a5] w (by decide) (lc0 := [(0, .int a0), (1, .int a1), (2, .int a2), (3, .int a3), (4, .int a4), (5, .int a5)]) rfl (Nat.le_of_ble_eq_true rfl) (fun y hk hR _ _ hin => eX2_w6 hk hR a0 a1 a2 a3 a4 a5 w)
noncomputable def mX2_sortOf (this : Nat) (w : Wd) : Option (Int32 × Wd) :=
(cal w (mX2_w5 112 97 99 101 115 w)).bind fun r1 =>
(recv r1.2 ((some this)) 2).bind fun b3 => (cal r1.2 (mX2_isWord b3 r1.1 r1.2)).bind fun r2 =>
if r2.1 = 0 then (
(cal r2.2 (mX2_w6 115 119 105 110 103 115 r2.2)).bind fun r4 =>
(recv r4.2 ((some this)) 2).bind fun b6 => (cal r4.2 (mX2_isWord b6 r4.1 r4.2)).bind fun r5 =>
if r5.1 = 0 then (
(cal r5.2 (mX2_w4 104 97 110 100 r5.2)).bind fun r7 =>
(recv r7.2 ((some this)) 2).bind fun b9 => (cal r7.2 (mX2_isWord b9 r7.1 r7.2)).bind fun r8 =>
if r8.1 = 0 then (
(cal r8.2 (mX2_w5 104 111 108 100 115 r8.2)).bind fun r10 =>
(recv r10.2 ((some this)) 2).bind fun b12 => (cal r10.2 (mX2_isWord b12 r10.1 r10.2)).bind fun r11 =>
if r11.1 = 0 then (
(cal r11.2 (mX2_w5 108 97 115 116 115 r11.2)).bind fun r13 =>
(recv r13.2 ((some this)) 2).bind fun b15 => (cal r13.2 (mX2_isWord b15 r13.1 r13.2)).bind fun r14 =>
if r14.1 = 0 then (
(cal r14.2 (mX2_w5 111 114 100 101 114 r14.2)).bind fun r16 =>
(recv r16.2 ((some this)) 2).bind fun b18 => (cal r16.2 (mX2_isWord b18 r16.1 r16.2)).bind fun r17 =>
if r17.1 = 0 then (
(cal r17.2 (mX2_w4 109 111 118 101 r17.2)).bind fun r19 =>
(recv r19.2 ((some this)) 2).bind fun b21 => (cal r19.2 (mX2_isWord b21 r19.1 r19.2)).bind fun r20 =>
if r20.1 = 0 then (
(cal r20.2 (mX2_w3 114 117 110 r20.2)).bind fun r22 =>
(recv r22.2 ((some this)) 2).bind fun b24 => (cal r22.2 (mX2_isWord b24 r22.1 r22.2)).bind fun r23 =>
if r23.1 = 0 then (
(cal r23.2 (mX2_w4 114 111 112 101 r23.2)).bind fun r25 =>
(recv r25.2 ((some this)) 2).bind fun b27 => (cal r25.2 (mX2_isWord b27 r25.1 r25.2)).bind fun r26 =>
if r26.1 = 0 then (
(cal r26.2 (mX2_w3 97 105 109 r26.2)).bind fun r28 =>
(recv r28.2 ((some this)) 2).bind fun b30 => (cal r28.2 (mX2_isWord b30 r28.1 r28.2)).bind fun r29 =>
if r29.1 = 0 then (
(cal r29.2 (mX2_w4 104 111 111 107 r29.2)).bind fun r31 =>
(recv r31.2 ((some this)) 2).bind fun b33 => (cal r31.2 (mX2_isWord b33 r31.1 r31.2)).bind fun r32 =>
if r32.1 = 0 then (
(cal r32.2 (mX2_w4 108 97 110 100 r32.2)).bind fun r34 =>
(recv r34.2 ((some this)) 2).bind fun b36 => (cal r34.2 (mX2_isWord b36 r34.1 r34.2)).bind fun r35 =>
if r35.1 = 0 then (
some ((-1), r35.2))
else (
some (11, r35.2)))
else (
some (10, r32.2)))
else (
some (9, r29.2)))
else (
some (8, r26.2)))
else (
some (7, r23.2)))
else (
some (6, r20.2)))
else (
some (5, r17.2)))
else (
some (4, r14.2)))
else (
some (3, r11.2)))
else (
some (2, r8.2)))
else (
some (1, r5.2)))
else (
some (0, r2.2))
theorem eX2_sortOf {y : Fx (Int32 × Wd)} (hk : OkF y RX2 cX2_sortOf 1 7 175) (hR : RetM y rvI (some (.int))) (this : Nat) (w : Wd) : V y w [(0, va_rf (some this))] [] 0 (mX2_sortOf this w) := by
  unfold mX2_sortOf
  refine V_aload_n (pc := 0) hk dX2_sortOf_0 0 rfl ?_
  refine V_bipush (pc := 1) (v := 112) hk dX2_sortOf_1 rfl ?_
  refine V_bipush (pc := 3) (v := 97) hk dX2_sortOf_3 rfl ?_
  refine V_bipush (pc := 5) (v := 99) hk dX2_sortOf_5 rfl ?_
  refine V_bipush (pc := 7) (v := 101) hk dX2_sortOf_7 rfl ?_
  refine V_bipush (pc := 9) (v := 115) hk dX2_sortOf_9 rfl ?_
  refine n_X2_127 (pc := 11) hk (fun r h => ctX2_w5 (fl y) (fK y) hk.2.2.2.2.2.2.2.1 112 97 99 101 115 w r h) ⟨Nat.le_of_ble_eq_true rfl, Nat.le_of_ble_eq_true rfl⟩ (by simp [rf_cat, cat_int, cat_long, cat_ref]) dX2_sortOf_11 (fun r1 => ?_)
  refine n_X2_183 (pc := 14) hk (fun b r h => ctX2_isWord (fl y) (fK y) hk.2.2.2.2.2.2.2.1 b r1.1 r1.2 r h) ⟨Nat.le_of_ble_eq_true rfl, Nat.le_of_ble_eq_true rfl⟩ (Nat.le_of_ble_eq_true rfl) dX2_sortOf_14 (fun r2 => ?_)
  refine V_if_eq (pc := 17) (tgt := 22) hk dX2_sortOf_17 rfl ?_ ?_
  · refine V_aload_n (pc := 22) hk dX2_sortOf_22 0 rfl ?_
    refine V_bipush (pc := 23) (v := 115) hk dX2_sortOf_23 rfl ?_
    refine V_bipush (pc := 25) (v := 119) hk dX2_sortOf_25 rfl ?_
    refine V_bipush (pc := 27) (v := 105) hk dX2_sortOf_27 rfl ?_
    refine V_bipush (pc := 29) (v := 110) hk dX2_sortOf_29 rfl ?_
    refine V_bipush (pc := 31) (v := 103) hk dX2_sortOf_31 rfl ?_
    refine V_bipush (pc := 33) (v := 115) hk dX2_sortOf_33 rfl ?_
    refine n_X2_137 (pc := 35) hk (fun r h => ctX2_w6 (fl y) (fK y) hk.2.2.2.2.2.2.2.1 115 119 105 110 103 115 r2.2 r h) ⟨Nat.le_of_ble_eq_true rfl, Nat.le_of_ble_eq_true rfl⟩ (by simp [rf_cat, cat_int, cat_long, cat_ref]) dX2_sortOf_35 (fun r4 => ?_)
    refine n_X2_183 (pc := 38) hk (fun b r h => ctX2_isWord (fl y) (fK y) hk.2.2.2.2.2.2.2.1 b r4.1 r4.2 r h) ⟨Nat.le_of_ble_eq_true rfl, Nat.le_of_ble_eq_true rfl⟩ (Nat.le_of_ble_eq_true rfl) dX2_sortOf_38 (fun r5 => ?_)
    refine V_if_eq (pc := 41) (tgt := 46) hk dX2_sortOf_41 rfl ?_ ?_
    · refine V_aload_n (pc := 46) hk dX2_sortOf_46 0 rfl ?_
      refine V_bipush (pc := 47) (v := 104) hk dX2_sortOf_47 rfl ?_
      refine V_bipush (pc := 49) (v := 97) hk dX2_sortOf_49 rfl ?_
      refine V_bipush (pc := 51) (v := 110) hk dX2_sortOf_51 rfl ?_
      refine V_bipush (pc := 53) (v := 100) hk dX2_sortOf_53 rfl ?_
      refine n_X2_123 (pc := 55) hk (fun r h => ctX2_w4 (fl y) (fK y) hk.2.2.2.2.2.2.2.1 104 97 110 100 r5.2 r h) ⟨Nat.le_of_ble_eq_true rfl, Nat.le_of_ble_eq_true rfl⟩ (by simp [rf_cat, cat_int, cat_long, cat_ref]) dX2_sortOf_55 (fun r7 => ?_)
      refine n_X2_183 (pc := 58) hk (fun b r h => ctX2_isWord (fl y) (fK y) hk.2.2.2.2.2.2.2.1 b r7.1 r7.2 r h) ⟨Nat.le_of_ble_eq_true rfl, Nat.le_of_ble_eq_true rfl⟩ (Nat.le_of_ble_eq_true rfl) dX2_sortOf_58 (fun r8 => ?_)
      refine V_if_eq (pc := 61) (tgt := 66) hk dX2_sortOf_61 rfl ?_ ?_
      · refine V_aload_n (pc := 66) hk dX2_sortOf_66 0 rfl ?_
        refine V_bipush (pc := 67) (v := 104) hk dX2_sortOf_67 rfl ?_
        refine V_bipush (pc := 69) (v := 111) hk dX2_sortOf_69 rfl ?_
        refine V_bipush (pc := 71) (v := 108) hk dX2_sortOf_71 rfl ?_
        refine V_bipush (pc := 73) (v := 100) hk dX2_sortOf_73 rfl ?_
        refine V_bipush (pc := 75) (v := 115) hk dX2_sortOf_75 rfl ?_
        refine n_X2_127 (pc := 77) hk (fun r h => ctX2_w5 (fl y) (fK y) hk.2.2.2.2.2.2.2.1 104 111 108 100 115 r8.2 r h) ⟨Nat.le_of_ble_eq_true rfl, Nat.le_of_ble_eq_true rfl⟩ (by simp [rf_cat, cat_int, cat_long, cat_ref]) dX2_sortOf_77 (fun r10 => ?_)
        refine n_X2_183 (pc := 80) hk (fun b r h => ctX2_isWord (fl y) (fK y) hk.2.2.2.2.2.2.2.1 b r10.1 r10.2 r h) ⟨Nat.le_of_ble_eq_true rfl, Nat.le_of_ble_eq_true rfl⟩ (Nat.le_of_ble_eq_true rfl) dX2_sortOf_80 (fun r11 => ?_)
        refine V_if_eq (pc := 83) (tgt := 88) hk dX2_sortOf_83 rfl ?_ ?_
        · refine V_aload_n (pc := 88) hk dX2_sortOf_88 0 rfl ?_
          refine V_bipush (pc := 89) (v := 108) hk dX2_sortOf_89 rfl ?_
          refine V_bipush (pc := 91) (v := 97) hk dX2_sortOf_91 rfl ?_
          refine V_bipush (pc := 93) (v := 115) hk dX2_sortOf_93 rfl ?_
          refine V_bipush (pc := 95) (v := 116) hk dX2_sortOf_95 rfl ?_
          refine V_bipush (pc := 97) (v := 115) hk dX2_sortOf_97 rfl ?_
          refine n_X2_127 (pc := 99) hk (fun r h => ctX2_w5 (fl y) (fK y) hk.2.2.2.2.2.2.2.1 108 97 115 116 115 r11.2 r h) ⟨Nat.le_of_ble_eq_true rfl, Nat.le_of_ble_eq_true rfl⟩ (by simp [rf_cat, cat_int, cat_long, cat_ref]) dX2_sortOf_99 (fun r13 => ?_)
          refine n_X2_183 (pc := 102) hk (fun b r h => ctX2_isWord (fl y) (fK y) hk.2.2.2.2.2.2.2.1 b r13.1 r13.2 r h) ⟨Nat.le_of_ble_eq_true rfl, Nat.le_of_ble_eq_true rfl⟩ (Nat.le_of_ble_eq_true rfl) dX2_sortOf_102 (fun r14 => ?_)
          refine V_if_eq (pc := 105) (tgt := 110) hk dX2_sortOf_105 rfl ?_ ?_
          · refine V_aload_n (pc := 110) hk dX2_sortOf_110 0 rfl ?_
            refine V_bipush (pc := 111) (v := 111) hk dX2_sortOf_111 rfl ?_
            refine V_bipush (pc := 113) (v := 114) hk dX2_sortOf_113 rfl ?_
            refine V_bipush (pc := 115) (v := 100) hk dX2_sortOf_115 rfl ?_
            refine V_bipush (pc := 117) (v := 101) hk dX2_sortOf_117 rfl ?_
            refine V_bipush (pc := 119) (v := 114) hk dX2_sortOf_119 rfl ?_
            refine n_X2_127 (pc := 121) hk (fun r h => ctX2_w5 (fl y) (fK y) hk.2.2.2.2.2.2.2.1 111 114 100 101 114 r14.2 r h) ⟨Nat.le_of_ble_eq_true rfl, Nat.le_of_ble_eq_true rfl⟩ (by simp [rf_cat, cat_int, cat_long, cat_ref]) dX2_sortOf_121 (fun r16 => ?_)
            refine n_X2_183 (pc := 124) hk (fun b r h => ctX2_isWord (fl y) (fK y) hk.2.2.2.2.2.2.2.1 b r16.1 r16.2 r h) ⟨Nat.le_of_ble_eq_true rfl, Nat.le_of_ble_eq_true rfl⟩ (Nat.le_of_ble_eq_true rfl) dX2_sortOf_124 (fun r17 => ?_)
            refine V_if_eq (pc := 127) (tgt := 132) hk dX2_sortOf_127 rfl ?_ ?_
            · refine V_aload_n (pc := 132) hk dX2_sortOf_132 0 rfl ?_
              refine V_bipush (pc := 133) (v := 109) hk dX2_sortOf_133 rfl ?_
              refine V_bipush (pc := 135) (v := 111) hk dX2_sortOf_135 rfl ?_
              refine V_bipush (pc := 137) (v := 118) hk dX2_sortOf_137 rfl ?_
              refine V_bipush (pc := 139) (v := 101) hk dX2_sortOf_139 rfl ?_
              refine n_X2_123 (pc := 141) hk (fun r h => ctX2_w4 (fl y) (fK y) hk.2.2.2.2.2.2.2.1 109 111 118 101 r17.2 r h) ⟨Nat.le_of_ble_eq_true rfl, Nat.le_of_ble_eq_true rfl⟩ (by simp [rf_cat, cat_int, cat_long, cat_ref]) dX2_sortOf_141 (fun r19 => ?_)
              refine n_X2_183 (pc := 144) hk (fun b r h => ctX2_isWord (fl y) (fK y) hk.2.2.2.2.2.2.2.1 b r19.1 r19.2 r h) ⟨Nat.le_of_ble_eq_true rfl, Nat.le_of_ble_eq_true rfl⟩ (Nat.le_of_ble_eq_true rfl) dX2_sortOf_144 (fun r20 => ?_)
              refine V_if_eq (pc := 147) (tgt := 153) hk dX2_sortOf_147 rfl ?_ ?_
              · refine V_aload_n (pc := 153) hk dX2_sortOf_153 0 rfl ?_
                refine V_bipush (pc := 154) (v := 114) hk dX2_sortOf_154 rfl ?_
                refine V_bipush (pc := 156) (v := 117) hk dX2_sortOf_156 rfl ?_
                refine V_bipush (pc := 158) (v := 110) hk dX2_sortOf_158 rfl ?_
                refine n_X2_119 (pc := 160) hk (fun r h => ctX2_w3 (fl y) (fK y) hk.2.2.2.2.2.2.2.1 114 117 110 r20.2 r h) ⟨Nat.le_of_ble_eq_true rfl, Nat.le_of_ble_eq_true rfl⟩ (by simp [rf_cat, cat_int, cat_long, cat_ref]) dX2_sortOf_160 (fun r22 => ?_)
                refine n_X2_183 (pc := 163) hk (fun b r h => ctX2_isWord (fl y) (fK y) hk.2.2.2.2.2.2.2.1 b r22.1 r22.2 r h) ⟨Nat.le_of_ble_eq_true rfl, Nat.le_of_ble_eq_true rfl⟩ (Nat.le_of_ble_eq_true rfl) dX2_sortOf_163 (fun r23 => ?_)
                refine V_if_eq (pc := 166) (tgt := 172) hk dX2_sortOf_166 rfl ?_ ?_
                · refine V_aload_n (pc := 172) hk dX2_sortOf_172 0 rfl ?_
                  refine V_bipush (pc := 173) (v := 114) hk dX2_sortOf_173 rfl ?_
                  refine V_bipush (pc := 175) (v := 111) hk dX2_sortOf_175 rfl ?_
                  refine V_bipush (pc := 177) (v := 112) hk dX2_sortOf_177 rfl ?_
                  refine V_bipush (pc := 179) (v := 101) hk dX2_sortOf_179 rfl ?_
                  refine n_X2_123 (pc := 181) hk (fun r h => ctX2_w4 (fl y) (fK y) hk.2.2.2.2.2.2.2.1 114 111 112 101 r23.2 r h) ⟨Nat.le_of_ble_eq_true rfl, Nat.le_of_ble_eq_true rfl⟩ (by simp [rf_cat, cat_int, cat_long, cat_ref]) dX2_sortOf_181 (fun r25 => ?_)
                  refine n_X2_183 (pc := 184) hk (fun b r h => ctX2_isWord (fl y) (fK y) hk.2.2.2.2.2.2.2.1 b r25.1 r25.2 r h) ⟨Nat.le_of_ble_eq_true rfl, Nat.le_of_ble_eq_true rfl⟩ (Nat.le_of_ble_eq_true rfl) dX2_sortOf_184 (fun r26 => ?_)
                  refine V_if_eq (pc := 187) (tgt := 193) hk dX2_sortOf_187 rfl ?_ ?_
                  · refine V_aload_n (pc := 193) hk dX2_sortOf_193 0 rfl ?_
                    refine V_bipush (pc := 194) (v := 97) hk dX2_sortOf_194 rfl ?_
                    refine V_bipush (pc := 196) (v := 105) hk dX2_sortOf_196 rfl ?_
                    refine V_bipush (pc := 198) (v := 109) hk dX2_sortOf_198 rfl ?_
                    refine n_X2_119 (pc := 200) hk (fun r h => ctX2_w3 (fl y) (fK y) hk.2.2.2.2.2.2.2.1 97 105 109 r26.2 r h) ⟨Nat.le_of_ble_eq_true rfl, Nat.le_of_ble_eq_true rfl⟩ (by simp [rf_cat, cat_int, cat_long, cat_ref]) dX2_sortOf_200 (fun r28 => ?_)
                    refine n_X2_183 (pc := 203) hk (fun b r h => ctX2_isWord (fl y) (fK y) hk.2.2.2.2.2.2.2.1 b r28.1 r28.2 r h) ⟨Nat.le_of_ble_eq_true rfl, Nat.le_of_ble_eq_true rfl⟩ (Nat.le_of_ble_eq_true rfl) dX2_sortOf_203 (fun r29 => ?_)
                    refine V_if_eq (pc := 206) (tgt := 212) hk dX2_sortOf_206 rfl ?_ ?_
                    · refine V_aload_n (pc := 212) hk dX2_sortOf_212 0 rfl ?_
                      refine V_bipush (pc := 213) (v := 104) hk dX2_sortOf_213 rfl ?_
                      refine V_bipush (pc := 215) (v := 111) hk dX2_sortOf_215 rfl ?_
                      refine V_bipush (pc := 217) (v := 111) hk dX2_sortOf_217 rfl ?_
                      refine V_bipush (pc := 219) (v := 107) hk dX2_sortOf_219 rfl ?_
                      refine n_X2_123 (pc := 221) hk (fun r h => ctX2_w4 (fl y) (fK y) hk.2.2.2.2.2.2.2.1 104 111 111 107 r29.2 r h) ⟨Nat.le_of_ble_eq_true rfl, Nat.le_of_ble_eq_true rfl⟩ (by simp [rf_cat, cat_int, cat_long, cat_ref]) dX2_sortOf_221 (fun r31 => ?_)
                      refine n_X2_183 (pc := 224) hk (fun b r h => ctX2_isWord (fl y) (fK y) hk.2.2.2.2.2.2.2.1 b r31.1 r31.2 r h) ⟨Nat.le_of_ble_eq_true rfl, Nat.le_of_ble_eq_true rfl⟩ (Nat.le_of_ble_eq_true rfl) dX2_sortOf_224 (fun r32 => ?_)
                      refine V_if_eq (pc := 227) (tgt := 235) hk dX2_sortOf_227 rfl ?_ ?_
                      · refine V_aload_n (pc := 235) hk dX2_sortOf_235 0 rfl ?_
                        refine V_bipush (pc := 236) (v := 108) hk dX2_sortOf_236 rfl ?_
                        refine V_bipush (pc := 238) (v := 97) hk dX2_sortOf_238 rfl ?_
                        refine V_bipush (pc := 240) (v := 110) hk dX2_sortOf_240 rfl ?_
                        refine V_bipush (pc := 242) (v := 100) hk dX2_sortOf_242 rfl ?_
                        refine n_X2_123 (pc := 244) hk (fun r h => ctX2_w4 (fl y) (fK y) hk.2.2.2.2.2.2.2.1 108 97 110 100 r32.2 r h) ⟨Nat.le_of_ble_eq_true rfl, Nat.le_of_ble_eq_true rfl⟩ (by simp [rf_cat, cat_int, cat_long, cat_ref]) dX2_sortOf_244 (fun r34 => ?_)
                        refine n_X2_183 (pc := 247) hk (fun b r h => ctX2_isWord (fl y) (fK y) hk.2.2.2.2.2.2.2.1 b r34.1 r34.2 r h) ⟨Nat.le_of_ble_eq_true rfl, Nat.le_of_ble_eq_true rfl⟩ (Nat.le_of_ble_eq_true rfl) dX2_sortOf_247 (fun r35 => ?_)
                        refine V_if_eq (pc := 250) (tgt := 258) hk dX2_sortOf_250 rfl ?_ ?_
                        · refine V_iconst (pc := 258) (v := (-1)) hk dX2_sortOf_258 (by decide +kernel) ?_
                          exact V_ireturn (pc := 259) hk hR rfl dX2_sortOf_259
                        · refine V_bipush (pc := 253) (v := 11) hk dX2_sortOf_253 rfl ?_
                          refine V_goto (pc := 255) (tgt := 259) hk dX2_sortOf_255 rfl ?_
                          exact V_ireturn (pc := 259) hk hR rfl dX2_sortOf_259
                      · refine V_bipush (pc := 230) (v := 10) hk dX2_sortOf_230 rfl ?_
                        refine V_goto (pc := 232) (tgt := 259) hk dX2_sortOf_232 rfl ?_
                        exact V_ireturn (pc := 259) hk hR rfl dX2_sortOf_259
                    · refine V_bipush (pc := 209) (v := 9) hk dX2_sortOf_209 rfl ?_
                      exact V_ireturn (pc := 211) hk hR rfl dX2_sortOf_211
                  · refine V_bipush (pc := 190) (v := 8) hk dX2_sortOf_190 rfl ?_
                    exact V_ireturn (pc := 192) hk hR rfl dX2_sortOf_192
                · refine V_bipush (pc := 169) (v := 7) hk dX2_sortOf_169 rfl ?_
                  exact V_ireturn (pc := 171) hk hR rfl dX2_sortOf_171
              · refine V_bipush (pc := 150) (v := 6) hk dX2_sortOf_150 rfl ?_
                exact V_ireturn (pc := 152) hk hR rfl dX2_sortOf_152
            · refine V_iconst (pc := 130) (v := 5) hk dX2_sortOf_130 rfl ?_
              exact V_ireturn (pc := 131) hk hR rfl dX2_sortOf_131
          · refine V_iconst (pc := 108) (v := 4) hk dX2_sortOf_108 rfl ?_
            exact V_ireturn (pc := 109) hk hR rfl dX2_sortOf_109
        · refine V_iconst (pc := 86) (v := 3) hk dX2_sortOf_86 rfl ?_
          exact V_ireturn (pc := 87) hk hR rfl dX2_sortOf_87
      · refine V_iconst (pc := 64) (v := 2) hk dX2_sortOf_64 rfl ?_
        exact V_ireturn (pc := 65) hk hR rfl dX2_sortOf_65
    · refine V_iconst (pc := 44) (v := 1) hk dX2_sortOf_44 rfl ?_
      exact V_ireturn (pc := 45) hk hR rfl dX2_sortOf_45
  · refine V_iconst (pc := 20) (v := 0) hk dX2_sortOf_20 rfl ?_
    exact V_ireturn (pc := 21) hk hR rfl dX2_sortOf_21
theorem ctX2_sortOf (l : Launch) (K : Kx) (hI : Ini K) (b : Nat) (w : Wd) : ∀ r, mX2_sortOf b w = some r → Ct l K 7 175 yX2_sortOf (ws_ yX2_sortOf cX2_sortOf 1 (some (.int))) [.ref b] w (rvI r.1) r.2 := Ct_of rvI l K hI 7 175 [.ref b] w (by decide) (lc0 := [(0, .ref b)]) rfl (Nat.le_of_ble_eq_true rfl) (fun y hk hR _ _ hin => eX2_sortOf hk hR b w)
noncomputable def mX2_has (a0 : Int32) (a1 : Int32) (w : Wd) : Option (Int32 × Wd) :=
if ¬ ((a0 >>> (a1 &&& 31)) &&& 1) = 1 then (
(nok (.boolean) 0).bind fun _ => some (0, w))
else (
(nok (.boolean) 1).bind fun _ => some (1, w))
theorem eX2_has {y : Fx (Int32 × Wd)} (hk : OkF y RX2 cX2_has 2 2 60) (hR : RetM y rvI (some (.boolean))) (a0 : Int32) (a1 : Int32) (w : Wd) : V y w [(0, .int a0), (1, .int a1)] [] 0 (mX2_has a0 a1 w) := by
  unfold mX2_has
  refine V_iload_n (pc := 0) hk dX2_has_0 0 rfl ?_
  refine V_iload_n (pc := 1) hk dX2_has_1 1 rfl ?_
  refine V_ishr (pc := 2) hk dX2_has_2 ?_
  refine V_iconst (pc := 3) (v := 1) hk dX2_has_3 rfl ?_
  refine V_iand (pc := 4) hk dX2_has_4 ?_
  refine V_iconst (pc := 5) (v := 1) hk dX2_has_5 rfl ?_
  refine V_icmp_ne (pc := 6) (tgt := 13) hk dX2_has_6 rfl ?_ ?_
  · refine V_iconst (pc := 13) (v := 0) hk dX2_has_13 rfl ?_
    exact V_zreturn (pc := 14) hk hR rfl dX2_has_14
  · refine V_iconst (pc := 9) (v := 1) hk dX2_has_9 rfl ?_
    refine V_goto (pc := 10) (tgt := 14) hk dX2_has_10 rfl ?_
    exact V_zreturn (pc := 14) hk hR rfl dX2_has_14
theorem ctX2_has (l : Launch) (K : Kx) (hI : Ini K) (a0 : Int32) (a1 : Int32) (w : Wd) : ∀ r, mX2_has a0 a1 w = some r → Ct l K 2 60 yX2_has (ws_ yX2_has cX2_has 2 (some (.boolean))) [.int a0, .int a1] w (rvI r.1) r.2 := Ct_of rvI l K hI 2 60 [.int a0, .int a1] w (by decide) (lc0 := [(0, .int a0), (1, .int a1)]) rfl (Nat.le_of_ble_eq_true rfl) (fun y hk hR _ _ hin => eX2_has hk hR a0 a1 w)
noncomputable def mX2_figure (this : Nat) (a0 : Int32) (a1 : Int32) (a2 : Int32) (w : Wd) : Option (Int32 × Wd) :=
(gI w ((some this)) 2 9).bind fun v1 =>
if v1 = 1 then (
(gI w ((some this)) 2 10).bind fun v2 =>
(cal w (mX2_isIn v2 a1 a2 w)).bind fun r3 =>
if ¬ r3.1 = 0 then (
(gR r3.2 ((some this)) 2 2).bind fun v4 =>
(gI r3.2 ((some this)) 2 10).bind fun v5 =>
(ias r3.2 v4 a0 v5).bind fun w6 =>
(recv w6 ((some this)) 2).bind fun b8 => (cal w6 (mX2_nextToken b8 w6)).bind fun r7 =>
some (0, r7.2))
else (
some (2, r3.2)))
else (
some (1, w))
theorem eX2_figure {y : Fx (Int32 × Wd)} (hk : OkF y RX2 cX2_figure 4 4 102) (hR : RetM y rvI (some (.int))) (this : Nat) (a0 : Int32) (a1 : Int32) (a2 : Int32) (w : Wd) : V y w [(0, va_rf (some this)), (1, .int a0), (2, .int a1), (3, .int a2)] [] 0 (mX2_figure this a0 a1 a2 w) := by
  unfold mX2_figure
  refine V_aload_n (pc := 0) hk dX2_figure_0 0 rfl ?_
  refine g_X2_92 (pc := 1) hk dX2_figure_1 (fun v1 => ?_)
  refine V_iconst (pc := 4) (v := 1) hk dX2_figure_4 rfl ?_
  refine V_icmp_eq (pc := 5) (tgt := 10) hk dX2_figure_5 rfl ?_ ?_
  · refine V_aload_n (pc := 10) hk dX2_figure_10 0 rfl ?_
    refine g_X2_99 (pc := 11) hk dX2_figure_11 (fun v2 => ?_)
    refine V_iload_n (pc := 14) hk dX2_figure_14 2 rfl ?_
    refine V_iload_n (pc := 15) hk dX2_figure_15 3 rfl ?_
    refine n_X2_71 (pc := 16) hk (fun r h => ctX2_isIn (fl y) (fK y) hk.2.2.2.2.2.2.2.1 v2 a1 a2 w r h) ⟨Nat.le_of_ble_eq_true rfl, Nat.le_of_ble_eq_true rfl⟩ (Nat.le_of_ble_eq_true rfl) dX2_figure_16 (fun r3 => ?_)
    refine V_if_ne (pc := 19) (tgt := 24) hk dX2_figure_19 rfl ?_ ?_
    · refine V_aload_n (pc := 24) hk dX2_figure_24 0 rfl ?_
      refine g_X2_16 (pc := 25) hk dX2_figure_25 (fun v4 => ?_)
      refine V_iload_n (pc := 28) hk dX2_figure_28 1 rfl ?_
      refine V_aload_n (pc := 29) hk dX2_figure_29 0 rfl ?_
      refine g_X2_99 (pc := 30) hk dX2_figure_30 (fun v5 => ?_)
      refine V_iastore (pc := 33) hk dX2_figure_33 (fun w6 => ?_)
      refine V_aload_n (pc := 34) hk dX2_figure_34 0 rfl ?_
      refine n_X2_164 (pc := 35) hk (fun b r h => ctX2_nextToken (fl y) (fK y) hk.2.2.2.2.2.2.2.1 b w6 r h) ⟨Nat.le_of_ble_eq_true rfl, Nat.le_of_ble_eq_true rfl⟩ (Nat.le_of_ble_eq_true rfl) dX2_figure_35 (fun r7 => ?_)
      refine V_iconst (pc := 38) (v := 0) hk dX2_figure_38 rfl ?_
      exact V_ireturn (pc := 39) hk hR rfl dX2_figure_39
    · refine V_iconst (pc := 22) (v := 2) hk dX2_figure_22 rfl ?_
      exact V_ireturn (pc := 23) hk hR rfl dX2_figure_23
  · refine V_iconst (pc := 8) (v := 1) hk dX2_figure_8 rfl ?_
    exact V_ireturn (pc := 9) hk hR rfl dX2_figure_9
theorem ctX2_figure (l : Launch) (K : Kx) (hI : Ini K) (b : Nat) (a0 : Int32) (a1 : Int32) (a2 : Int32) (w : Wd) : ∀ r, mX2_figure b a0 a1 a2 w = some r → Ct l K 4 102 yX2_figure (ws_ yX2_figure cX2_figure 4 (some (.int))) [.ref b, .int a0, .int a1, .int a2] w (rvI r.1) r.2 := Ct_of rvI l K hI 4 102 [.ref b, .int a0, .int a1, .int a2] w (by decide) (lc0 := [(0, .ref b), (1, .int a0), (2, .int a1), (3, .int a2)]) rfl (Nat.le_of_ble_eq_true rfl) (fun y hk hR _ _ hin => eX2_figure hk hR b a0 a1 a2 w)
noncomputable def mX2_worded (this : Nat) (a0 : Int64) (a1 : Int32) (a2 : Int32) (a3 : Int32) (w : Wd) : Option (Int32 × Wd) :=
(recv w ((some this)) 2).bind fun b2 => (cal w (mX2_isWord b2 a0 w)).bind fun r1 =>
if ¬ r1.1 = 0 then (
(recv r1.2 ((some this)) 2).bind fun b4 => (cal r1.2 (mX2_nextToken b4 r1.2)).bind fun r3 =>
(recv r3.2 ((some this)) 2).bind fun b6 => (cal r3.2 (mX2_figure b6 a1 a2 a3 r3.2)).bind fun r5 =>
some (r5.1, r5.2))
else (
some (1, r1.2))
theorem eX2_worded {y : Fx (Int32 × Wd)} (hk : OkF y RX2 cX2_worded 6 5 125) (hR : RetM y rvI (some (.int))) (this : Nat) (a0 : Int64) (a1 : Int32) (a2 : Int32) (a3 : Int32) (w : Wd) : V y w [(0, va_rf (some this)), (1, .long a0), (3, .int a1), (4, .int a2), (5, .int a3)] [] 0 (mX2_worded this a0 a1 a2 a3 w) := by
  unfold mX2_worded
  refine V_aload_n (pc := 0) hk dX2_worded_0 0 rfl ?_
  refine V_lload_n (pc := 1) hk dX2_worded_1 1 rfl ?_
  refine n_X2_183 (pc := 2) hk (fun b r h => ctX2_isWord (fl y) (fK y) hk.2.2.2.2.2.2.2.1 b a0 w r h) ⟨Nat.le_of_ble_eq_true rfl, Nat.le_of_ble_eq_true rfl⟩ (Nat.le_of_ble_eq_true rfl) dX2_worded_2 (fun r1 => ?_)
  refine V_if_ne (pc := 5) (tgt := 10) hk dX2_worded_5 rfl ?_ ?_
  · refine V_aload_n (pc := 10) hk dX2_worded_10 0 rfl ?_
    refine n_X2_164 (pc := 11) hk (fun b r h => ctX2_nextToken (fl y) (fK y) hk.2.2.2.2.2.2.2.1 b r1.2 r h) ⟨Nat.le_of_ble_eq_true rfl, Nat.le_of_ble_eq_true rfl⟩ (Nat.le_of_ble_eq_true rfl) dX2_worded_11 (fun r3 => ?_)
    refine V_aload_n (pc := 14) hk dX2_worded_14 0 rfl ?_
    refine V_iload_n (pc := 15) hk dX2_worded_15 2 rfl ?_
    refine V_iload (pc := 16) hk dX2_worded_16 3 rfl ?_
    refine V_iload (pc := 18) hk dX2_worded_18 4 rfl ?_
    refine n_X2_215 (pc := 20) hk (fun b r h => ctX2_figure (fl y) (fK y) hk.2.2.2.2.2.2.2.1 b a1 a2 a3 r3.2 r h) ⟨Nat.le_of_ble_eq_true rfl, Nat.le_of_ble_eq_true rfl⟩ (Nat.le_of_ble_eq_true rfl) dX2_worded_20 (fun r5 => ?_)
    exact V_ireturn (pc := 23) hk hR rfl dX2_worded_23
  · refine V_iconst (pc := 8) (v := 1) hk dX2_worded_8 rfl ?_
    exact V_ireturn (pc := 9) hk hR rfl dX2_worded_9
theorem ctX2_worded (l : Launch) (K : Kx) (hI : Ini K) (b : Nat) (a0 : Int64) (a1 : Int32) (a2 : Int32) (a3 : Int32) (w : Wd) : ∀ r, mX2_worded b a0 a1 a2 a3 w = some r → Ct l K 5 125 yX2_worded (ws_ yX2_worded cX2_worded 6 (some (.int))) [.ref b, .long a0, .int a1, .int a2, .int a3] w (rvI r.1) r.2 := Ct_of rvI l K hI 5 125 [.ref b, .long a0, .int a1, .int a2, .int a3] w (by decide) (lc0 := [(0, .ref b), (1, .long a0), (3, .int a1), (4, .int a2), (5, .int a3)]) rfl (Nat.le_of_ble_eq_true rfl) (fun y hk hR _ _ hin => eX2_worded hk hR b a0 a1 a2 a3 w)
noncomputable def mX2_orderClause_p82 (w : Wd) (l0 : Option Nat) (l1 : Int32) (l2 : Int32) : Option (Int32 × Wd) :=
if l2 = 0 then (
(cal w (mX2_w2 111 110 w)).bind fun r1 =>
(recv r1.2 l0 2).bind fun b3 => (cal r1.2 (mX2_worded b3 r1.1 (l1 + 5) 0 1 r1.2)).bind fun r2 =>
some (r2.1, r2.2))
else (
some (l2, w))
noncomputable def mX2_orderClause_p58 (w : Wd) (l0 : Option Nat) (l1 : Int32) (l2 : Int32) : Option (Int32 × Wd) :=
if ¬ l2 = 0 then (
mX2_orderClause_p82 w l0 l1 l2)
else (
(cal w (mX2_w3 109 101 110 w)).bind fun r1 =>
(recv r1.2 l0 2).bind fun b3 => (cal r1.2 (mX2_worded b3 r1.1 (l1 + 4) 0 9 r1.2)).bind fun r2 =>
mX2_orderClause_p82 r2.2 l0 l1 r2.1)
noncomputable def mX2_orderClause_p33 (w : Wd) (l0 : Option Nat) (l1 : Int32) (l2 : Int32) : Option (Int32 × Wd) :=
if ¬ l2 = 0 then (
mX2_orderClause_p58 w l0 l1 l2)
else (
(cal w (mX2_w3 100 117 101 w)).bind fun r1 =>
(recv r1.2 l0 2).bind fun b3 => (cal r1.2 (mX2_worded b3 r1.1 (l1 + 3) 0 999 r1.2)).bind fun r2 =>
mX2_orderClause_p58 r2.2 l0 l1 r2.1)
noncomputable def mX2_orderClause (this : Nat) (a0 : Int32) (w : Wd) : Option (Int32 × Wd) :=
(recv w ((some this)) 2).bind fun b2 => (cal w (mX2_figure b2 (a0 + 1) 1 99 w)).bind fun r1 =>
if ¬ r1.1 = 0 then (
mX2_orderClause_p33 r1.2 ((some this)) a0 r1.1)
else (
(cal r1.2 (mX2_w2 97 116 r1.2)).bind fun r3 =>
(recv r3.2 ((some this)) 2).bind fun b5 => (cal r3.2 (mX2_worded b5 r3.1 (a0 + 2) 0 60 r3.2)).bind fun r4 =>
mX2_orderClause_p33 r4.2 ((some this)) a0 r4.1)
theorem eX2_orderClause_p82 {y : Fx (Int32 × Wd)} (hk : OkF y RX2 cX2_orderClause 3 6 150) (hR : RetM y rvI (some (.int))) (w : Wd) (l0 : Option Nat) (l1 : Int32) (l2 : Int32) : V y w [(0, va_rf l0), (1, .int l1), (2, .int l2)] [] 82 (mX2_orderClause_p82 w l0 l1 l2) := by
  unfold mX2_orderClause_p82
  refine V_iload_n (pc := 82) hk dX2_orderClause_82 2 rfl ?_
  refine V_if_eq (pc := 83) (tgt := 90) hk dX2_orderClause_83 rfl ?_ ?_
  · refine V_aload_n (pc := 90) hk dX2_orderClause_90 0 rfl ?_
    refine V_bipush (pc := 91) (v := 111) hk dX2_orderClause_91 rfl ?_
    refine V_bipush (pc := 93) (v := 110) hk dX2_orderClause_93 rfl ?_
    refine n_X2_115 (pc := 95) hk (fun r h => ctX2_w2 (fl y) (fK y) hk.2.2.2.2.2.2.2.1 111 110 w r h) ⟨Nat.le_of_ble_eq_true rfl, Nat.le_of_ble_eq_true rfl⟩ (by simp [rf_cat, cat_int, cat_long, cat_ref]) dX2_orderClause_95 (fun r1 => ?_)
    refine V_iload_n (pc := 98) hk dX2_orderClause_98 1 rfl ?_
    refine V_iconst (pc := 99) (v := 5) hk dX2_orderClause_99 rfl ?_
    refine V_iadd (pc := 100) hk dX2_orderClause_100 ?_
    refine V_iconst (pc := 101) (v := 0) hk dX2_orderClause_101 rfl ?_
    refine V_iconst (pc := 102) (v := 1) hk dX2_orderClause_102 rfl ?_
    refine n_X2_222 (pc := 103) hk (fun b r h => ctX2_worded (fl y) (fK y) hk.2.2.2.2.2.2.2.1 b r1.1 (l1 + 5) 0 1 r1.2 r h) ⟨Nat.le_of_ble_eq_true rfl, Nat.le_of_ble_eq_true rfl⟩ (Nat.le_of_ble_eq_true rfl) dX2_orderClause_103 (fun r2 => ?_)
    exact V_ireturn (pc := 106) hk hR rfl dX2_orderClause_106
  · refine V_iload_n (pc := 86) hk dX2_orderClause_86 2 rfl ?_
    refine V_goto (pc := 87) (tgt := 106) hk dX2_orderClause_87 rfl ?_
    exact V_ireturn (pc := 106) hk hR rfl dX2_orderClause_106
theorem eX2_orderClause_p58 {y : Fx (Int32 × Wd)} (hk : OkF y RX2 cX2_orderClause 3 6 150) (hR : RetM y rvI (some (.int))) (w : Wd) (l0 : Option Nat) (l1 : Int32) (l2 : Int32) : V y w [(0, va_rf l0), (1, .int l1), (2, .int l2)] [] 58 (mX2_orderClause_p58 w l0 l1 l2) := by
  unfold mX2_orderClause_p58
  refine V_iload_n (pc := 58) hk dX2_orderClause_58 2 rfl ?_
  refine V_if_ne (pc := 59) (tgt := 82) hk dX2_orderClause_59 rfl ?_ ?_
  · exact eX2_orderClause_p82 hk hR w l0 l1 l2
  · refine V_aload_n (pc := 62) hk dX2_orderClause_62 0 rfl ?_
    refine V_bipush (pc := 63) (v := 109) hk dX2_orderClause_63 rfl ?_
    refine V_bipush (pc := 65) (v := 101) hk dX2_orderClause_65 rfl ?_
    refine V_bipush (pc := 67) (v := 110) hk dX2_orderClause_67 rfl ?_
    refine n_X2_119 (pc := 69) hk (fun r h => ctX2_w3 (fl y) (fK y) hk.2.2.2.2.2.2.2.1 109 101 110 w r h) ⟨Nat.le_of_ble_eq_true rfl, Nat.le_of_ble_eq_true rfl⟩ (by simp [rf_cat, cat_int, cat_long, cat_ref]) dX2_orderClause_69 (fun r1 => ?_)
    refine V_iload_n (pc := 72) hk dX2_orderClause_72 1 rfl ?_
    refine V_iconst (pc := 73) (v := 4) hk dX2_orderClause_73 rfl ?_
    refine V_iadd (pc := 74) hk dX2_orderClause_74 ?_
    refine V_iconst (pc := 75) (v := 0) hk dX2_orderClause_75 rfl ?_
    refine V_bipush (pc := 76) (v := 9) hk dX2_orderClause_76 rfl ?_
    refine n_X2_222 (pc := 78) hk (fun b r h => ctX2_worded (fl y) (fK y) hk.2.2.2.2.2.2.2.1 b r1.1 (l1 + 4) 0 9 r1.2 r h) ⟨Nat.le_of_ble_eq_true rfl, Nat.le_of_ble_eq_true rfl⟩ (Nat.le_of_ble_eq_true rfl) dX2_orderClause_78 (fun r2 => ?_)
    refine V_istore_n (pc := 81) (lc' := [(2, .int r2.1), (0, va_rf l0), (1, .int l1)]) (i := 2) hk dX2_orderClause_81 rfl (Nat.le_of_ble_eq_true rfl) rfl ?_
    refine V_pick (lc' := [(0, va_rf l0), (1, .int l1), (2, .int r2.1)]) [1, 2, 0] rfl ?_
    exact eX2_orderClause_p82 hk hR r2.2 l0 l1 r2.1
theorem eX2_orderClause_p33 {y : Fx (Int32 × Wd)} (hk : OkF y RX2 cX2_orderClause 3 6 150) (hR : RetM y rvI (some (.int))) (w : Wd) (l0 : Option Nat) (l1 : Int32) (l2 : Int32) : V y w [(0, va_rf l0), (1, .int l1), (2, .int l2)] [] 33 (mX2_orderClause_p33 w l0 l1 l2) := by
  unfold mX2_orderClause_p33
  refine V_iload_n (pc := 33) hk dX2_orderClause_33 2 rfl ?_
  refine V_if_ne (pc := 34) (tgt := 58) hk dX2_orderClause_34 rfl ?_ ?_
  · exact eX2_orderClause_p58 hk hR w l0 l1 l2
  · refine V_aload_n (pc := 37) hk dX2_orderClause_37 0 rfl ?_
    refine V_bipush (pc := 38) (v := 100) hk dX2_orderClause_38 rfl ?_
    refine V_bipush (pc := 40) (v := 117) hk dX2_orderClause_40 rfl ?_
    refine V_bipush (pc := 42) (v := 101) hk dX2_orderClause_42 rfl ?_
    refine n_X2_119 (pc := 44) hk (fun r h => ctX2_w3 (fl y) (fK y) hk.2.2.2.2.2.2.2.1 100 117 101 w r h) ⟨Nat.le_of_ble_eq_true rfl, Nat.le_of_ble_eq_true rfl⟩ (by simp [rf_cat, cat_int, cat_long, cat_ref]) dX2_orderClause_44 (fun r1 => ?_)
    refine V_iload_n (pc := 47) hk dX2_orderClause_47 1 rfl ?_
    refine V_iconst (pc := 48) (v := 3) hk dX2_orderClause_48 rfl ?_
    refine V_iadd (pc := 49) hk dX2_orderClause_49 ?_
    refine V_iconst (pc := 50) (v := 0) hk dX2_orderClause_50 rfl ?_
    refine V_sipush (pc := 51) (v := 999) hk dX2_orderClause_51 rfl ?_
    refine n_X2_222 (pc := 54) hk (fun b r h => ctX2_worded (fl y) (fK y) hk.2.2.2.2.2.2.2.1 b r1.1 (l1 + 3) 0 999 r1.2 r h) ⟨Nat.le_of_ble_eq_true rfl, Nat.le_of_ble_eq_true rfl⟩ (Nat.le_of_ble_eq_true rfl) dX2_orderClause_54 (fun r2 => ?_)
    refine V_istore_n (pc := 57) (lc' := [(2, .int r2.1), (0, va_rf l0), (1, .int l1)]) (i := 2) hk dX2_orderClause_57 rfl (Nat.le_of_ble_eq_true rfl) rfl ?_
    refine V_pick (lc' := [(0, va_rf l0), (1, .int l1), (2, .int r2.1)]) [1, 2, 0] rfl ?_
    exact eX2_orderClause_p58 hk hR r2.2 l0 l1 r2.1
theorem eX2_orderClause {y : Fx (Int32 × Wd)} (hk : OkF y RX2 cX2_orderClause 3 6 150) (hR : RetM y rvI (some (.int))) (this : Nat) (a0 : Int32) (w : Wd) : V y w [(0, va_rf (some this)), (1, .int a0)] [] 0 (mX2_orderClause this a0 w) := by
  unfold mX2_orderClause
  refine V_aload_n (pc := 0) hk dX2_orderClause_0 0 rfl ?_
  refine V_iload_n (pc := 1) hk dX2_orderClause_1 1 rfl ?_
  refine V_iconst (pc := 2) (v := 1) hk dX2_orderClause_2 rfl ?_
  refine V_iadd (pc := 3) hk dX2_orderClause_3 ?_
  refine V_iconst (pc := 4) (v := 1) hk dX2_orderClause_4 rfl ?_
  refine V_bipush (pc := 5) (v := 99) hk dX2_orderClause_5 rfl ?_
  refine n_X2_215 (pc := 7) hk (fun b r h => ctX2_figure (fl y) (fK y) hk.2.2.2.2.2.2.2.1 b (a0 + 1) 1 99 w r h) ⟨Nat.le_of_ble_eq_true rfl, Nat.le_of_ble_eq_true rfl⟩ (Nat.le_of_ble_eq_true rfl) dX2_orderClause_7 (fun r1 => ?_)
  refine V_istore_n (pc := 10) (lc' := [(2, .int r1.1), (0, va_rf ((some this))), (1, .int a0)]) (i := 2) hk dX2_orderClause_10 rfl (Nat.le_of_ble_eq_true rfl) rfl ?_
  refine V_iload_n (pc := 11) hk dX2_orderClause_11 0 rfl ?_
  refine V_if_ne (pc := 12) (tgt := 33) hk dX2_orderClause_12 rfl ?_ ?_
  · refine V_pick (lc' := [(0, va_rf ((some this))), (1, .int a0), (2, .int r1.1)]) [1, 2, 0] rfl ?_
    exact eX2_orderClause_p33 hk hR r1.2 ((some this)) a0 r1.1
  · refine V_aload_n (pc := 15) hk dX2_orderClause_15 1 rfl ?_
    refine V_bipush (pc := 16) (v := 97) hk dX2_orderClause_16 rfl ?_
    refine V_bipush (pc := 18) (v := 116) hk dX2_orderClause_18 rfl ?_
    refine n_X2_115 (pc := 20) hk (fun r h => ctX2_w2 (fl y) (fK y) hk.2.2.2.2.2.2.2.1 97 116 r1.2 r h) ⟨Nat.le_of_ble_eq_true rfl, Nat.le_of_ble_eq_true rfl⟩ (by simp [rf_cat, cat_int, cat_long, cat_ref]) dX2_orderClause_20 (fun r3 => ?_)
    refine V_iload_n (pc := 23) hk dX2_orderClause_23 2 rfl ?_
    refine V_iconst (pc := 24) (v := 2) hk dX2_orderClause_24 rfl ?_
    refine V_iadd (pc := 25) hk dX2_orderClause_25 ?_
    refine V_iconst (pc := 26) (v := 0) hk dX2_orderClause_26 rfl ?_
    refine V_bipush (pc := 27) (v := 60) hk dX2_orderClause_27 rfl ?_
    refine n_X2_222 (pc := 29) hk (fun b r h => ctX2_worded (fl y) (fK y) hk.2.2.2.2.2.2.2.1 b r3.1 (a0 + 2) 0 60 r3.2 r h) ⟨Nat.le_of_ble_eq_true rfl, Nat.le_of_ble_eq_true rfl⟩ (Nat.le_of_ble_eq_true rfl) dX2_orderClause_29 (fun r4 => ?_)
    refine V_istore_n (pc := 32) (lc' := [(2, .int r4.1), (0, va_rf ((some this))), (1, .int a0)]) (i := 2) hk dX2_orderClause_32 rfl (Nat.le_of_ble_eq_true rfl) rfl ?_
    refine V_pick (lc' := [(0, va_rf ((some this))), (1, .int a0), (2, .int r4.1)]) [1, 2, 0] rfl ?_
    exact eX2_orderClause_p33 hk hR r4.2 ((some this)) a0 r4.1
theorem ctX2_orderClause (l : Launch) (K : Kx) (hI : Ini K) (b : Nat) (a0 : Int32) (w : Wd) : ∀ r, mX2_orderClause b a0 w = some r → Ct l K 6 150 yX2_orderClause (ws_ yX2_orderClause cX2_orderClause 3 (some (.int))) [.ref b, .int a0] w (rvI r.1) r.2 := Ct_of rvI l K hI 6 150 [.ref b, .int a0] w (by decide) (lc0 := [(0, .ref b), (1, .int a0)]) rfl (Nat.le_of_ble_eq_true rfl) (fun y hk hR _ _ hin => eX2_orderClause hk hR b a0 w)
noncomputable def mX2_moveClause_p74 (w : Wd) (l0 : Option Nat) (t0 : Int32) (t1 : Int32) (t2 : Option Nat) : Option (Int32 × Wd) :=
(ias w t2 t1 t0).bind fun w1 =>
(recv w1 l0 2).bind fun b3 => (cal w1 (mX2_nextToken b3 w1)).bind fun r2 =>
some (0, r2.2)
noncomputable def mX2_moveClause_p50 (w : Wd) (l0 : Option Nat) (l1 : Int32) (l2 : Int32) (l3 : Int32) : Option (Int32 × Wd) :=
(gR w l0 2 2).bind fun v1 =>
if l2 = 0 then (
if l3 = 0 then (
mX2_moveClause_p74 w l0 0 (l1 + 1) v1)
else (
mX2_moveClause_p74 w l0 (-1) (l1 + 1) v1))
else (
mX2_moveClause_p74 w l0 1 (l1 + 1) v1)
noncomputable def mX2_moveClause (this : Nat) (a0 : Int32) (w : Wd) : Option (Int32 × Wd) :=
(cal w (mX2_w3 111 117 116 w)).bind fun r1 =>
(recv r1.2 ((some this)) 2).bind fun b3 => (cal r1.2 (mX2_isWord b3 r1.1 r1.2)).bind fun r2 =>
(cal r2.2 (mX2_w2 105 110 r2.2)).bind fun r4 =>
(recv r4.2 ((some this)) 2).bind fun b6 => (cal r4.2 (mX2_isWord b6 r4.1 r4.2)).bind fun r5 =>
if ¬ r2.1 = 0 then (
mX2_moveClause_p50 r5.2 ((some this)) a0 r2.1 r5.1)
else (
if ¬ r5.1 = 0 then (
mX2_moveClause_p50 r5.2 ((some this)) a0 r2.1 r5.1)
else (
(cal r5.2 (mX2_w2 111 110 r5.2)).bind fun r7 =>
(recv r7.2 ((some this)) 2).bind fun b9 => (cal r7.2 (mX2_isWord b9 r7.1 r7.2)).bind fun r8 =>
if ¬ r8.1 = 0 then (
mX2_moveClause_p50 r8.2 ((some this)) a0 r2.1 r5.1)
else (
some (1, r8.2))))
theorem eX2_moveClause_p74 {y : Fx (Int32 × Wd)} (hk : OkF y RX2 cX2_moveClause 4 4 103) (hR : RetM y rvI (some (.int))) (w : Wd) (l0 : Option Nat) (t0 : Int32) (t1 : Int32) (t2 : Option Nat) : V y w [(0, va_rf l0)] [.int t0, .int t1, va_rf t2] 74 (mX2_moveClause_p74 w l0 t0 t1 t2) := by
  unfold mX2_moveClause_p74
  refine V_iastore (pc := 74) hk dX2_moveClause_74 (fun w1 => ?_)
  refine V_aload_n (pc := 75) hk dX2_moveClause_75 0 rfl ?_
  refine n_X2_164 (pc := 76) hk (fun b r h => ctX2_nextToken (fl y) (fK y) hk.2.2.2.2.2.2.2.1 b w1 r h) ⟨Nat.le_of_ble_eq_true rfl, Nat.le_of_ble_eq_true rfl⟩ (Nat.le_of_ble_eq_true rfl) dX2_moveClause_76 (fun r2 => ?_)
  refine V_iconst (pc := 79) (v := 0) hk dX2_moveClause_79 rfl ?_
  exact V_ireturn (pc := 80) hk hR rfl dX2_moveClause_80
theorem eX2_moveClause_p50 {y : Fx (Int32 × Wd)} (hk : OkF y RX2 cX2_moveClause 4 4 103) (hR : RetM y rvI (some (.int))) (w : Wd) (l0 : Option Nat) (l1 : Int32) (l2 : Int32) (l3 : Int32) : V y w [(0, va_rf l0), (1, .int l1), (2, .int l2), (3, .int l3)] [] 50 (mX2_moveClause_p50 w l0 l1 l2 l3) := by
  unfold mX2_moveClause_p50
  refine V_aload_n (pc := 50) hk dX2_moveClause_50 0 rfl ?_
  refine g_X2_16 (pc := 51) hk dX2_moveClause_51 (fun v1 => ?_)
  refine V_iload_n (pc := 54) hk dX2_moveClause_54 1 rfl ?_
  refine V_iconst (pc := 55) (v := 1) hk dX2_moveClause_55 rfl ?_
  refine V_iadd (pc := 56) hk dX2_moveClause_56 ?_
  refine V_iload_n (pc := 57) hk dX2_moveClause_57 2 rfl ?_
  refine V_if_eq (pc := 58) (tgt := 65) hk dX2_moveClause_58 rfl ?_ ?_
  · refine V_iload_n (pc := 65) hk dX2_moveClause_65 3 rfl ?_
    refine V_if_eq (pc := 66) (tgt := 73) hk dX2_moveClause_66 rfl ?_ ?_
    · refine V_iconst (pc := 73) (v := 0) hk dX2_moveClause_73 rfl ?_
      refine V_pick (lc' := [(0, va_rf l0)]) [0] rfl ?_
      exact eX2_moveClause_p74 hk hR w l0 0 (l1 + 1) v1
    · refine V_iconst (pc := 69) (v := (-1)) hk dX2_moveClause_69 (by decide +kernel) ?_
      refine V_goto (pc := 70) (tgt := 74) hk dX2_moveClause_70 rfl ?_
      refine V_pick (lc' := [(0, va_rf l0)]) [0] rfl ?_
      exact eX2_moveClause_p74 hk hR w l0 (-1) (l1 + 1) v1
  · refine V_iconst (pc := 61) (v := 1) hk dX2_moveClause_61 rfl ?_
    refine V_goto (pc := 62) (tgt := 74) hk dX2_moveClause_62 rfl ?_
    refine V_pick (lc' := [(0, va_rf l0)]) [0] rfl ?_
    exact eX2_moveClause_p74 hk hR w l0 1 (l1 + 1) v1
theorem eX2_moveClause {y : Fx (Int32 × Wd)} (hk : OkF y RX2 cX2_moveClause 4 4 103) (hR : RetM y rvI (some (.int))) (this : Nat) (a0 : Int32) (w : Wd) : V y w [(0, va_rf (some this)), (1, .int a0)] [] 0 (mX2_moveClause this a0 w) := by
  unfold mX2_moveClause
  refine V_aload_n (pc := 0) hk dX2_moveClause_0 0 rfl ?_
  refine V_bipush (pc := 1) (v := 111) hk dX2_moveClause_1 rfl ?_
  refine V_bipush (pc := 3) (v := 117) hk dX2_moveClause_3 rfl ?_
  refine V_bipush (pc := 5) (v := 116) hk dX2_moveClause_5 rfl ?_
  refine n_X2_119 (pc := 7) hk (fun r h => ctX2_w3 (fl y) (fK y) hk.2.2.2.2.2.2.2.1 111 117 116 w r h) ⟨Nat.le_of_ble_eq_true rfl, Nat.le_of_ble_eq_true rfl⟩ (by simp [rf_cat, cat_int, cat_long, cat_ref]) dX2_moveClause_7 (fun r1 => ?_)
  refine n_X2_183 (pc := 10) hk (fun b r h => ctX2_isWord (fl y) (fK y) hk.2.2.2.2.2.2.2.1 b r1.1 r1.2 r h) ⟨Nat.le_of_ble_eq_true rfl, Nat.le_of_ble_eq_true rfl⟩ (Nat.le_of_ble_eq_true rfl) dX2_moveClause_10 (fun r2 => ?_)
  refine V_istore_n (pc := 13) (lc' := [(2, .int r2.1), (0, va_rf ((some this))), (1, .int a0)]) (i := 2) hk dX2_moveClause_13 rfl (Nat.le_of_ble_eq_true rfl) rfl ?_
  refine V_aload_n (pc := 14) hk dX2_moveClause_14 1 rfl ?_
  refine V_bipush (pc := 15) (v := 105) hk dX2_moveClause_15 rfl ?_
  refine V_bipush (pc := 17) (v := 110) hk dX2_moveClause_17 rfl ?_
  refine n_X2_115 (pc := 19) hk (fun r h => ctX2_w2 (fl y) (fK y) hk.2.2.2.2.2.2.2.1 105 110 r2.2 r h) ⟨Nat.le_of_ble_eq_true rfl, Nat.le_of_ble_eq_true rfl⟩ (by simp [rf_cat, cat_int, cat_long, cat_ref]) dX2_moveClause_19 (fun r4 => ?_)
  refine n_X2_183 (pc := 22) hk (fun b r h => ctX2_isWord (fl y) (fK y) hk.2.2.2.2.2.2.2.1 b r4.1 r4.2 r h) ⟨Nat.le_of_ble_eq_true rfl, Nat.le_of_ble_eq_true rfl⟩ (Nat.le_of_ble_eq_true rfl) dX2_moveClause_22 (fun r5 => ?_)
  refine V_istore_n (pc := 25) (lc' := [(3, .int r5.1), (2, .int r2.1), (0, va_rf ((some this))), (1, .int a0)]) (i := 3) hk dX2_moveClause_25 rfl (Nat.le_of_ble_eq_true rfl) rfl ?_
  refine V_iload_n (pc := 26) hk dX2_moveClause_26 1 rfl ?_
  refine V_if_ne (pc := 27) (tgt := 50) hk dX2_moveClause_27 rfl ?_ ?_
  · refine V_pick (lc' := [(0, va_rf ((some this))), (1, .int a0), (2, .int r2.1), (3, .int r5.1)]) [2, 3, 1, 0] rfl ?_
    exact eX2_moveClause_p50 hk hR r5.2 ((some this)) a0 r2.1 r5.1
  · refine V_iload_n (pc := 30) hk dX2_moveClause_30 0 rfl ?_
    refine V_if_ne (pc := 31) (tgt := 50) hk dX2_moveClause_31 rfl ?_ ?_
    · refine V_pick (lc' := [(0, va_rf ((some this))), (1, .int a0), (2, .int r2.1), (3, .int r5.1)]) [2, 3, 1, 0] rfl ?_
      exact eX2_moveClause_p50 hk hR r5.2 ((some this)) a0 r2.1 r5.1
    · refine V_aload_n (pc := 34) hk dX2_moveClause_34 2 rfl ?_
      refine V_bipush (pc := 35) (v := 111) hk dX2_moveClause_35 rfl ?_
      refine V_bipush (pc := 37) (v := 110) hk dX2_moveClause_37 rfl ?_
      refine n_X2_115 (pc := 39) hk (fun r h => ctX2_w2 (fl y) (fK y) hk.2.2.2.2.2.2.2.1 111 110 r5.2 r h) ⟨Nat.le_of_ble_eq_true rfl, Nat.le_of_ble_eq_true rfl⟩ (by simp [rf_cat, cat_int, cat_long, cat_ref]) dX2_moveClause_39 (fun r7 => ?_)
      refine n_X2_183 (pc := 42) hk (fun b r h => ctX2_isWord (fl y) (fK y) hk.2.2.2.2.2.2.2.1 b r7.1 r7.2 r h) ⟨Nat.le_of_ble_eq_true rfl, Nat.le_of_ble_eq_true rfl⟩ (Nat.le_of_ble_eq_true rfl) dX2_moveClause_42 (fun r8 => ?_)
      refine V_if_ne (pc := 45) (tgt := 50) hk dX2_moveClause_45 rfl ?_ ?_
      · refine V_pick (lc' := [(0, va_rf ((some this))), (1, .int a0), (2, .int r2.1), (3, .int r5.1)]) [2, 3, 1, 0] rfl ?_
        exact eX2_moveClause_p50 hk hR r8.2 ((some this)) a0 r2.1 r5.1
      · refine V_iconst (pc := 48) (v := 1) hk dX2_moveClause_48 rfl ?_
        exact V_ireturn (pc := 49) hk hR rfl dX2_moveClause_49
theorem ctX2_moveClause (l : Launch) (K : Kx) (hI : Ini K) (b : Nat) (a0 : Int32) (w : Wd) : ∀ r, mX2_moveClause b a0 w = some r → Ct l K 4 103 yX2_moveClause (ws_ yX2_moveClause cX2_moveClause 4 (some (.int))) [.ref b, .int a0] w (rvI r.1) r.2 := Ct_of rvI l K hI 4 103 [.ref b, .int a0] w (by decide) (lc0 := [(0, .ref b), (1, .int a0)]) rfl (Nat.le_of_ble_eq_true rfl) (fun y hk hR _ _ hin => eX2_moveClause hk hR b a0 w)
noncomputable def mX2_openAt_b7 (k7 : Wd → (Option Nat) → Int32 → Option (Int32 × Wd)) (w : Wd) (l0 : Option Nat) (l1 : Int32) : Option (Int32 × Wd) :=
if l1 < 0 then (
some (l1, w))
else (
(gR w l0 2 15).bind fun v1 =>
(ia w v1 l1).bind fun v2 =>
if 40 ≤ v2 then (
some (l1, w))
else (
k7 w l0 (l1 + (-1))))
noncomputable def mX2_openAt_l7 : Nat → Wd → (Option Nat) → Int32 → Option (Int32 × Wd)
  | 0, _, _, _ => none
  | n + 1, w, l0, l1 => mX2_openAt_b7 (mX2_openAt_l7 n) w l0 l1
noncomputable def mX2_openAt (this : Nat) (w : Wd) : Option (Int32 × Wd) :=
(gI w ((some this)) 2 16).bind fun v1 =>
mX2_openAt_l7 FU w ((some this)) (v1 - 1)
theorem eX2_openAt_b7 {y : Fx (Int32 × Wd)} (hk : OkF y RX2 cX2_openAt 2 2 60) (hR : RetM y rvI (some (.int))) {k7 : Wd → (Option Nat) → Int32 → Option (Int32 × Wd)} (h7 : ∀ (w : Wd) (l0 : Option Nat) (l1 : Int32), V y w [(0, va_rf l0), (1, .int l1)] [] 7 (k7 w l0 l1)) (w : Wd) (l0 : Option Nat) (l1 : Int32) : V y w [(0, va_rf l0), (1, .int l1)] [] 7 (mX2_openAt_b7 k7 w l0 l1) := by
  unfold mX2_openAt_b7
  refine V_iload_n (pc := 7) hk dX2_openAt_7 1 rfl ?_
  refine V_if_lt (pc := 8) (tgt := 28) hk dX2_openAt_8 rfl ?_ ?_
  · refine V_iload_n (pc := 28) hk dX2_openAt_28 1 rfl ?_
    exact V_ireturn (pc := 29) hk hR rfl dX2_openAt_29
  · refine V_aload_n (pc := 11) hk dX2_openAt_11 0 rfl ?_
    refine g_X2_29 (pc := 12) hk dX2_openAt_12 (fun v1 => ?_)
    refine V_iload_n (pc := 15) hk dX2_openAt_15 1 rfl ?_
    refine V_iaload (pc := 16) hk dX2_openAt_16 (fun v2 => ?_)
    refine V_bipush (pc := 17) (v := 40) hk dX2_openAt_17 rfl ?_
    refine V_icmp_ge (pc := 19) (tgt := 28) hk dX2_openAt_19 rfl ?_ ?_
    · refine V_iload_n (pc := 28) hk dX2_openAt_28 1 rfl ?_
      exact V_ireturn (pc := 29) hk hR rfl dX2_openAt_29
    · refine V_iinc (pc := 22) (v := (-1)) (lc' := [(1, .int (l1 + (-1))), (0, va_rf l0)]) hk dX2_openAt_22 1 rfl (by decide +kernel) (Nat.le_of_ble_eq_true rfl) (by simp [rf_cat, cat_int, cat_long, cat_ref]) ?_
      refine V_goto (pc := 25) (tgt := 7) hk dX2_openAt_25 rfl ?_
      refine V_pick (lc' := [(0, va_rf l0), (1, .int (l1 + (-1)))]) [1, 0] rfl ?_
      exact h7 w l0 (l1 + (-1))
theorem eX2_openAt_l7 {y : Fx (Int32 × Wd)} (hk : OkF y RX2 cX2_openAt 2 2 60) (hR : RetM y rvI (some (.int))) : ∀ (n : Nat) (w : Wd) (l0 : Option Nat) (l1 : Int32), V y w [(0, va_rf l0), (1, .int l1)] [] 7 (mX2_openAt_l7 n w l0 l1) := by
  intro n
  induction n with
  | zero => intro w l0 l1; exact V_none
  | succ n ih => intro w l0 l1; exact eX2_openAt_b7 hk hR ih w l0 l1
theorem eX2_openAt {y : Fx (Int32 × Wd)} (hk : OkF y RX2 cX2_openAt 2 2 60) (hR : RetM y rvI (some (.int))) (this : Nat) (w : Wd) : V y w [(0, va_rf (some this))] [] 0 (mX2_openAt this w) := by
  unfold mX2_openAt
  refine V_aload_n (pc := 0) hk dX2_openAt_0 0 rfl ?_
  refine g_X2_144 (pc := 1) hk dX2_openAt_1 (fun v1 => ?_)
  refine V_iconst (pc := 4) (v := 1) hk dX2_openAt_4 rfl ?_
  refine V_isub (pc := 5) hk dX2_openAt_5 ?_
  refine V_istore_n (pc := 6) (lc' := [(1, .int (v1 - 1)), (0, va_rf ((some this)))]) (i := 1) hk dX2_openAt_6 rfl (Nat.le_of_ble_eq_true rfl) (by simp [rf_cat, cat_int, cat_long, cat_ref]) ?_
  refine V_pick (lc' := [(0, va_rf ((some this))), (1, .int (v1 - 1))]) [1, 0] rfl ?_
  exact eX2_openAt_l7 hk hR FU w ((some this)) (v1 - 1)
theorem ctX2_openAt (l : Launch) (K : Kx) (hI : Ini K) (b : Nat) (w : Wd) : ∀ r, mX2_openAt b w = some r → Ct l K 2 60 yX2_openAt (ws_ yX2_openAt cX2_openAt 2 (some (.int))) [.ref b] w (rvI r.1) r.2 := Ct_of rvI l K hI 2 60 [.ref b] w (by decide) (lc0 := [(0, .ref b)]) rfl (Nat.le_of_ble_eq_true rfl) (fun y hk hR _ _ hin => eX2_openAt hk hR b w)
noncomputable def mX2_openNow (this : Nat) (w : Wd) : Option (Int32 × Wd) :=
(recv w ((some this)) 2).bind fun b2 => (cal w (mX2_openAt b2 w)).bind fun r1 =>
if 0 ≤ r1.1 then (
(gR r1.2 ((some this)) 2 15).bind fun v3 =>
(recv r1.2 ((some this)) 2).bind fun b5 => (cal r1.2 (mX2_openAt b5 r1.2)).bind fun r4 =>
(ia r4.2 v3 r4.1).bind fun v6 =>
some (v6, r4.2))
else (
some ((-1), r1.2))
theorem eX2_openNow {y : Fx (Int32 × Wd)} (hk : OkF y RX2 cX2_openNow 1 3 81) (hR : RetM y rvI (some (.int))) (this : Nat) (w : Wd) : V y w [(0, va_rf (some this))] [] 0 (mX2_openNow this w) := by
  unfold mX2_openNow
  refine V_aload_n (pc := 0) hk dX2_openNow_0 0 rfl ?_
  refine n_X2_157 (pc := 1) hk (fun b r h => ctX2_openAt (fl y) (fK y) hk.2.2.2.2.2.2.2.1 b w r h) ⟨Nat.le_of_ble_eq_true rfl, Nat.le_of_ble_eq_true rfl⟩ (Nat.le_of_ble_eq_true rfl) dX2_openNow_1 (fun r1 => ?_)
  refine V_if_ge (pc := 4) (tgt := 11) hk dX2_openNow_4 rfl ?_ ?_
  · refine V_aload_n (pc := 11) hk dX2_openNow_11 0 rfl ?_
    refine g_X2_29 (pc := 12) hk dX2_openNow_12 (fun v3 => ?_)
    refine V_aload_n (pc := 15) hk dX2_openNow_15 0 rfl ?_
    refine n_X2_157 (pc := 16) hk (fun b r h => ctX2_openAt (fl y) (fK y) hk.2.2.2.2.2.2.2.1 b r1.2 r h) ⟨Nat.le_of_ble_eq_true rfl, Nat.le_of_ble_eq_true rfl⟩ (by simp [rf_cat, cat_int, cat_long, cat_ref]) dX2_openNow_16 (fun r4 => ?_)
    refine V_iaload (pc := 19) hk dX2_openNow_19 (fun v6 => ?_)
    exact V_ireturn (pc := 20) hk hR rfl dX2_openNow_20
  · refine V_iconst (pc := 7) (v := (-1)) hk dX2_openNow_7 (by decide +kernel) ?_
    refine V_goto (pc := 8) (tgt := 20) hk dX2_openNow_8 rfl ?_
    exact V_ireturn (pc := 20) hk hR rfl dX2_openNow_20
theorem ctX2_openNow (l : Launch) (K : Kx) (hI : Ini K) (b : Nat) (w : Wd) : ∀ r, mX2_openNow b w = some r → Ct l K 3 81 yX2_openNow (ws_ yX2_openNow cX2_openNow 1 (some (.int))) [.ref b] w (rvI r.1) r.2 := Ct_of rvI l K hI 3 81 [.ref b] w (by decide) (lc0 := [(0, .ref b)]) rfl (Nat.le_of_ble_eq_true rfl) (fun y hk hR _ _ hin => eX2_openNow hk hR b w)
noncomputable def mX2_rank (a0 : Int32) (w : Wd) : Option (Int32 × Wd) :=
if a0 < 40 then (
if ¬ a0 = 22 then (
if ¬ a0 = 21 then (
if ¬ a0 = 20 then (
if a0 < 10 then (
if a0 = 4 then (
some (7, w))
else (
if ¬ a0 = 5 then (
if a0 < 8 then (
some (5, w))
else (
some (6, w)))
else (
some (7, w))))
else (
some (4, w)))
else (
some (3, w)))
else (
some (2, w)))
else (
some (1, w)))
else (
some (0, w))
theorem eX2_rank {y : Fx (Int32 × Wd)} (hk : OkF y RX2 cX2_rank 1 2 60) (hR : RetM y rvI (some (.int))) (a0 : Int32) (w : Wd) : V y w [(0, .int a0)] [] 0 (mX2_rank a0 w) := by
  unfold mX2_rank
  refine V_iload_n (pc := 0) hk dX2_rank_0 0 rfl ?_
  refine V_bipush (pc := 1) (v := 40) hk dX2_rank_1 rfl ?_
  refine V_icmp_lt (pc := 3) (tgt := 10) hk dX2_rank_3 rfl ?_ ?_
  · refine V_iload_n (pc := 10) hk dX2_rank_10 0 rfl ?_
    refine V_bipush (pc := 11) (v := 22) hk dX2_rank_11 rfl ?_
    refine V_icmp_ne (pc := 13) (tgt := 20) hk dX2_rank_13 rfl ?_ ?_
    · refine V_iload_n (pc := 20) hk dX2_rank_20 0 rfl ?_
      refine V_bipush (pc := 21) (v := 21) hk dX2_rank_21 rfl ?_
      refine V_icmp_ne (pc := 23) (tgt := 30) hk dX2_rank_23 rfl ?_ ?_
      · refine V_iload_n (pc := 30) hk dX2_rank_30 0 rfl ?_
        refine V_bipush (pc := 31) (v := 20) hk dX2_rank_31 rfl ?_
        refine V_icmp_ne (pc := 33) (tgt := 40) hk dX2_rank_33 rfl ?_ ?_
        · refine V_iload_n (pc := 40) hk dX2_rank_40 0 rfl ?_
          refine V_bipush (pc := 41) (v := 10) hk dX2_rank_41 rfl ?_
          refine V_icmp_lt (pc := 43) (tgt := 50) hk dX2_rank_43 rfl ?_ ?_
          · refine V_iload_n (pc := 50) hk dX2_rank_50 0 rfl ?_
            refine V_iconst (pc := 51) (v := 4) hk dX2_rank_51 rfl ?_
            refine V_icmp_eq (pc := 52) (tgt := 60) hk dX2_rank_52 rfl ?_ ?_
            · refine V_bipush (pc := 60) (v := 7) hk dX2_rank_60 rfl ?_
              refine V_goto (pc := 62) (tgt := 77) hk dX2_rank_62 rfl ?_
              exact V_ireturn (pc := 77) hk hR rfl dX2_rank_77
            · refine V_iload_n (pc := 55) hk dX2_rank_55 0 rfl ?_
              refine V_iconst (pc := 56) (v := 5) hk dX2_rank_56 rfl ?_
              refine V_icmp_ne (pc := 57) (tgt := 65) hk dX2_rank_57 rfl ?_ ?_
              · refine V_iload_n (pc := 65) hk dX2_rank_65 0 rfl ?_
                refine V_bipush (pc := 66) (v := 8) hk dX2_rank_66 rfl ?_
                refine V_icmp_lt (pc := 68) (tgt := 76) hk dX2_rank_68 rfl ?_ ?_
                · refine V_iconst (pc := 76) (v := 5) hk dX2_rank_76 rfl ?_
                  exact V_ireturn (pc := 77) hk hR rfl dX2_rank_77
                · refine V_bipush (pc := 71) (v := 6) hk dX2_rank_71 rfl ?_
                  refine V_goto (pc := 73) (tgt := 77) hk dX2_rank_73 rfl ?_
                  exact V_ireturn (pc := 77) hk hR rfl dX2_rank_77
              · refine V_bipush (pc := 60) (v := 7) hk dX2_rank_60 rfl ?_
                refine V_goto (pc := 62) (tgt := 77) hk dX2_rank_62 rfl ?_
                exact V_ireturn (pc := 77) hk hR rfl dX2_rank_77
          · refine V_iconst (pc := 46) (v := 4) hk dX2_rank_46 rfl ?_
            refine V_goto (pc := 47) (tgt := 77) hk dX2_rank_47 rfl ?_
            exact V_ireturn (pc := 77) hk hR rfl dX2_rank_77
        · refine V_iconst (pc := 36) (v := 3) hk dX2_rank_36 rfl ?_
          refine V_goto (pc := 37) (tgt := 77) hk dX2_rank_37 rfl ?_
          exact V_ireturn (pc := 77) hk hR rfl dX2_rank_77
      · refine V_iconst (pc := 26) (v := 2) hk dX2_rank_26 rfl ?_
        refine V_goto (pc := 27) (tgt := 77) hk dX2_rank_27 rfl ?_
        exact V_ireturn (pc := 77) hk hR rfl dX2_rank_77
    · refine V_iconst (pc := 16) (v := 1) hk dX2_rank_16 rfl ?_
      refine V_goto (pc := 17) (tgt := 77) hk dX2_rank_17 rfl ?_
      exact V_ireturn (pc := 77) hk hR rfl dX2_rank_77
  · refine V_iconst (pc := 6) (v := 0) hk dX2_rank_6 rfl ?_
    refine V_goto (pc := 7) (tgt := 77) hk dX2_rank_7 rfl ?_
    exact V_ireturn (pc := 77) hk hR rfl dX2_rank_77
theorem ctX2_rank (l : Launch) (K : Kx) (hI : Ini K) (a0 : Int32) (w : Wd) : ∀ r, mX2_rank a0 w = some r → Ct l K 2 60 yX2_rank (ws_ yX2_rank cX2_rank 1 (some (.int))) [.int a0] w (rvI r.1) r.2 := Ct_of rvI l K hI 2 60 [.int a0] w (by decide) (lc0 := [(0, .int a0)]) rfl (Nat.le_of_ble_eq_true rfl) (fun y hk hR _ _ hin => eX2_rank hk hR a0 w)
noncomputable def mX2_isCompared_p30 (w : Wd) (l0 : Option Nat) (l1 : Int32) : Option (Int32 × Wd) :=
if l1 < 0 then (
(nok (.boolean) 0).bind fun _ => some (0, w))
else (
(gR w l0 2 15).bind fun v1 =>
(ia w v1 l1).bind fun v2 =>
(cal w (mX2_rank v2 w)).bind fun r3 =>
if ¬ r3.1 = 4 then (
(nok (.boolean) 0).bind fun _ => some (0, r3.2))
else (
(nok (.boolean) 1).bind fun _ => some (1, r3.2)))
noncomputable def mX2_isCompared_b7 (k7 : Wd → (Option Nat) → Int32 → Option (Int32 × Wd)) (w : Wd) (l0 : Option Nat) (l1 : Int32) : Option (Int32 × Wd) :=
if l1 < 0 then (
mX2_isCompared_p30 w l0 l1)
else (
(gR w l0 2 15).bind fun v1 =>
(ia w v1 l1).bind fun v2 =>
(cal w (mX2_rank v2 w)).bind fun r3 =>
if r3.1 ≤ 4 then (
mX2_isCompared_p30 r3.2 l0 l1)
else (
k7 r3.2 l0 (l1 + (-1))))
noncomputable def mX2_isCompared_l7 : Nat → Wd → (Option Nat) → Int32 → Option (Int32 × Wd)
  | 0, _, _, _ => none
  | n + 1, w, l0, l1 => mX2_isCompared_b7 (mX2_isCompared_l7 n) w l0 l1
noncomputable def mX2_isCompared (this : Nat) (w : Wd) : Option (Int32 × Wd) :=
(gI w ((some this)) 2 16).bind fun v1 =>
mX2_isCompared_l7 FU w ((some this)) (v1 - 1)
theorem eX2_isCompared_p30 {y : Fx (Int32 × Wd)} (hk : OkF y RX2 cX2_isCompared 2 3 80) (hR : RetM y rvI (some (.boolean))) (w : Wd) (l0 : Option Nat) (l1 : Int32) : V y w [(0, va_rf l0), (1, .int l1)] [] 30 (mX2_isCompared_p30 w l0 l1) := by
  unfold mX2_isCompared_p30
  refine V_iload_n (pc := 30) hk dX2_isCompared_30 1 rfl ?_
  refine V_if_lt (pc := 31) (tgt := 51) hk dX2_isCompared_31 rfl ?_ ?_
  · refine V_iconst (pc := 51) (v := 0) hk dX2_isCompared_51 rfl ?_
    exact V_zreturn (pc := 52) hk hR rfl dX2_isCompared_52
  · refine V_aload_n (pc := 34) hk dX2_isCompared_34 0 rfl ?_
    refine g_X2_29 (pc := 35) hk dX2_isCompared_35 (fun v1 => ?_)
    refine V_iload_n (pc := 38) hk dX2_isCompared_38 1 rfl ?_
    refine V_iaload (pc := 39) hk dX2_isCompared_39 (fun v2 => ?_)
    refine n_X2_147 (pc := 40) hk (fun r h => ctX2_rank (fl y) (fK y) hk.2.2.2.2.2.2.2.1 v2 w r h) ⟨Nat.le_of_ble_eq_true rfl, Nat.le_of_ble_eq_true rfl⟩ (Nat.le_of_ble_eq_true rfl) dX2_isCompared_40 (fun r3 => ?_)
    refine V_iconst (pc := 43) (v := 4) hk dX2_isCompared_43 rfl ?_
    refine V_icmp_ne (pc := 44) (tgt := 51) hk dX2_isCompared_44 rfl ?_ ?_
    · refine V_iconst (pc := 51) (v := 0) hk dX2_isCompared_51 rfl ?_
      exact V_zreturn (pc := 52) hk hR rfl dX2_isCompared_52
    · refine V_iconst (pc := 47) (v := 1) hk dX2_isCompared_47 rfl ?_
      refine V_goto (pc := 48) (tgt := 52) hk dX2_isCompared_48 rfl ?_
      exact V_zreturn (pc := 52) hk hR rfl dX2_isCompared_52
theorem eX2_isCompared_b7 {y : Fx (Int32 × Wd)} (hk : OkF y RX2 cX2_isCompared 2 3 80) (hR : RetM y rvI (some (.boolean))) {k7 : Wd → (Option Nat) → Int32 → Option (Int32 × Wd)} (h7 : ∀ (w : Wd) (l0 : Option Nat) (l1 : Int32), V y w [(0, va_rf l0), (1, .int l1)] [] 7 (k7 w l0 l1)) (w : Wd) (l0 : Option Nat) (l1 : Int32) : V y w [(0, va_rf l0), (1, .int l1)] [] 7 (mX2_isCompared_b7 k7 w l0 l1) := by
  unfold mX2_isCompared_b7
  refine V_iload_n (pc := 7) hk dX2_isCompared_7 1 rfl ?_
  refine V_if_lt (pc := 8) (tgt := 30) hk dX2_isCompared_8 rfl ?_ ?_
  · exact eX2_isCompared_p30 hk hR w l0 l1
  · refine V_aload_n (pc := 11) hk dX2_isCompared_11 0 rfl ?_
    refine g_X2_29 (pc := 12) hk dX2_isCompared_12 (fun v1 => ?_)
    refine V_iload_n (pc := 15) hk dX2_isCompared_15 1 rfl ?_
    refine V_iaload (pc := 16) hk dX2_isCompared_16 (fun v2 => ?_)
    refine n_X2_147 (pc := 17) hk (fun r h => ctX2_rank (fl y) (fK y) hk.2.2.2.2.2.2.2.1 v2 w r h) ⟨Nat.le_of_ble_eq_true rfl, Nat.le_of_ble_eq_true rfl⟩ (Nat.le_of_ble_eq_true rfl) dX2_isCompared_17 (fun r3 => ?_)
    refine V_iconst (pc := 20) (v := 4) hk dX2_isCompared_20 rfl ?_
    refine V_icmp_le (pc := 21) (tgt := 30) hk dX2_isCompared_21 rfl ?_ ?_
    · exact eX2_isCompared_p30 hk hR r3.2 l0 l1
    · refine V_iinc (pc := 24) (v := (-1)) (lc' := [(1, .int (l1 + (-1))), (0, va_rf l0)]) hk dX2_isCompared_24 1 rfl (by decide +kernel) (Nat.le_of_ble_eq_true rfl) (by simp [rf_cat, cat_int, cat_long, cat_ref]) ?_
      refine V_goto (pc := 27) (tgt := 7) hk dX2_isCompared_27 rfl ?_
      refine V_pick (lc' := [(0, va_rf l0), (1, .int (l1 + (-1)))]) [1, 0] rfl ?_
      exact h7 r3.2 l0 (l1 + (-1))
theorem eX2_isCompared_l7 {y : Fx (Int32 × Wd)} (hk : OkF y RX2 cX2_isCompared 2 3 80) (hR : RetM y rvI (some (.boolean))) : ∀ (n : Nat) (w : Wd) (l0 : Option Nat) (l1 : Int32), V y w [(0, va_rf l0), (1, .int l1)] [] 7 (mX2_isCompared_l7 n w l0 l1) := by
  intro n
  induction n with
  | zero => intro w l0 l1; exact V_none
  | succ n ih => intro w l0 l1; exact eX2_isCompared_b7 hk hR ih w l0 l1
theorem eX2_isCompared {y : Fx (Int32 × Wd)} (hk : OkF y RX2 cX2_isCompared 2 3 80) (hR : RetM y rvI (some (.boolean))) (this : Nat) (w : Wd) : V y w [(0, va_rf (some this))] [] 0 (mX2_isCompared this w) := by
  unfold mX2_isCompared
  refine V_aload_n (pc := 0) hk dX2_isCompared_0 0 rfl ?_
  refine g_X2_144 (pc := 1) hk dX2_isCompared_1 (fun v1 => ?_)
  refine V_iconst (pc := 4) (v := 1) hk dX2_isCompared_4 rfl ?_
  refine V_isub (pc := 5) hk dX2_isCompared_5 ?_
  refine V_istore_n (pc := 6) (lc' := [(1, .int (v1 - 1)), (0, va_rf ((some this)))]) (i := 1) hk dX2_isCompared_6 rfl (Nat.le_of_ble_eq_true rfl) (by simp [rf_cat, cat_int, cat_long, cat_ref]) ?_
  refine V_pick (lc' := [(0, va_rf ((some this))), (1, .int (v1 - 1))]) [1, 0] rfl ?_
  exact eX2_isCompared_l7 hk hR FU w ((some this)) (v1 - 1)
theorem ctX2_isCompared (l : Launch) (K : Kx) (hI : Ini K) (b : Nat) (w : Wd) : ∀ r, mX2_isCompared b w = some r → Ct l K 3 80 yX2_isCompared (ws_ yX2_isCompared cX2_isCompared 2 (some (.boolean))) [.ref b] w (rvI r.1) r.2 := Ct_of rvI l K hI 3 80 [.ref b] w (by decide) (lc0 := [(0, .ref b)]) rfl (Nat.le_of_ble_eq_true rfl) (fun y hk hR _ _ hin => eX2_isCompared hk hR b w)
noncomputable def mX2_compareOf (this : Nat) (w : Wd) : Option (Int32 × Wd) :=
(gI w ((some this)) 2 9).bind fun v1 =>
if ¬ v1 = 60 then (
(gI w ((some this)) 2 9).bind fun v2 =>
if ¬ v2 = 4 then (
(gI w ((some this)) 2 9).bind fun v3 =>
if ¬ v3 = 62 then (
(gI w ((some this)) 2 9).bind fun v4 =>
if ¬ v4 = 5 then (
(gI w ((some this)) 2 9).bind fun v5 =>
if ¬ v5 = 61 then (
(gI w ((some this)) 2 9).bind fun v6 =>
if ¬ v6 = 35 then (
some ((-1), w))
else (
some (15, w)))
else (
some (14, w)))
else (
some (13, w)))
else (
some (12, w)))
else (
some (11, w)))
else (
some (10, w))
theorem eX2_compareOf {y : Fx (Int32 × Wd)} (hk : OkF y RX2 cX2_compareOf 1 2 60) (hR : RetM y rvI (some (.int))) (this : Nat) (w : Wd) : V y w [(0, va_rf (some this))] [] 0 (mX2_compareOf this w) := by
  unfold mX2_compareOf
  refine V_aload_n (pc := 0) hk dX2_compareOf_0 0 rfl ?_
  refine g_X2_92 (pc := 1) hk dX2_compareOf_1 (fun v1 => ?_)
  refine V_bipush (pc := 4) (v := 60) hk dX2_compareOf_4 rfl ?_
  refine V_icmp_ne (pc := 6) (tgt := 14) hk dX2_compareOf_6 rfl ?_ ?_
  · refine V_aload_n (pc := 14) hk dX2_compareOf_14 0 rfl ?_
    refine g_X2_92 (pc := 15) hk dX2_compareOf_15 (fun v2 => ?_)
    refine V_iconst (pc := 18) (v := 4) hk dX2_compareOf_18 rfl ?_
    refine V_icmp_ne (pc := 19) (tgt := 27) hk dX2_compareOf_19 rfl ?_ ?_
    · refine V_aload_n (pc := 27) hk dX2_compareOf_27 0 rfl ?_
      refine g_X2_92 (pc := 28) hk dX2_compareOf_28 (fun v3 => ?_)
      refine V_bipush (pc := 31) (v := 62) hk dX2_compareOf_31 rfl ?_
      refine V_icmp_ne (pc := 33) (tgt := 41) hk dX2_compareOf_33 rfl ?_ ?_
      · refine V_aload_n (pc := 41) hk dX2_compareOf_41 0 rfl ?_
        refine g_X2_92 (pc := 42) hk dX2_compareOf_42 (fun v4 => ?_)
        refine V_iconst (pc := 45) (v := 5) hk dX2_compareOf_45 rfl ?_
        refine V_icmp_ne (pc := 46) (tgt := 54) hk dX2_compareOf_46 rfl ?_ ?_
        · refine V_aload_n (pc := 54) hk dX2_compareOf_54 0 rfl ?_
          refine g_X2_92 (pc := 55) hk dX2_compareOf_55 (fun v5 => ?_)
          refine V_bipush (pc := 58) (v := 61) hk dX2_compareOf_58 rfl ?_
          refine V_icmp_ne (pc := 60) (tgt := 68) hk dX2_compareOf_60 rfl ?_ ?_
          · refine V_aload_n (pc := 68) hk dX2_compareOf_68 0 rfl ?_
            refine g_X2_92 (pc := 69) hk dX2_compareOf_69 (fun v6 => ?_)
            refine V_bipush (pc := 72) (v := 35) hk dX2_compareOf_72 rfl ?_
            refine V_icmp_ne (pc := 74) (tgt := 82) hk dX2_compareOf_74 rfl ?_ ?_
            · refine V_iconst (pc := 82) (v := (-1)) hk dX2_compareOf_82 (by decide +kernel) ?_
              exact V_ireturn (pc := 83) hk hR rfl dX2_compareOf_83
            · refine V_bipush (pc := 77) (v := 15) hk dX2_compareOf_77 rfl ?_
              refine V_goto (pc := 79) (tgt := 83) hk dX2_compareOf_79 rfl ?_
              exact V_ireturn (pc := 83) hk hR rfl dX2_compareOf_83
          · refine V_bipush (pc := 63) (v := 14) hk dX2_compareOf_63 rfl ?_
            refine V_goto (pc := 65) (tgt := 83) hk dX2_compareOf_65 rfl ?_
            exact V_ireturn (pc := 83) hk hR rfl dX2_compareOf_83
        · refine V_bipush (pc := 49) (v := 13) hk dX2_compareOf_49 rfl ?_
          refine V_goto (pc := 51) (tgt := 83) hk dX2_compareOf_51 rfl ?_
          exact V_ireturn (pc := 83) hk hR rfl dX2_compareOf_83
      · refine V_bipush (pc := 36) (v := 12) hk dX2_compareOf_36 rfl ?_
        refine V_goto (pc := 38) (tgt := 83) hk dX2_compareOf_38 rfl ?_
        exact V_ireturn (pc := 83) hk hR rfl dX2_compareOf_83
    · refine V_bipush (pc := 22) (v := 11) hk dX2_compareOf_22 rfl ?_
      refine V_goto (pc := 24) (tgt := 83) hk dX2_compareOf_24 rfl ?_
      exact V_ireturn (pc := 83) hk hR rfl dX2_compareOf_83
  · refine V_bipush (pc := 9) (v := 10) hk dX2_compareOf_9 rfl ?_
    refine V_goto (pc := 11) (tgt := 83) hk dX2_compareOf_11 rfl ?_
    exact V_ireturn (pc := 83) hk hR rfl dX2_compareOf_83
theorem ctX2_compareOf (l : Launch) (K : Kx) (hI : Ini K) (b : Nat) (w : Wd) : ∀ r, mX2_compareOf b w = some r → Ct l K 2 60 yX2_compareOf (ws_ yX2_compareOf cX2_compareOf 1 (some (.int))) [.ref b] w (rvI r.1) r.2 := Ct_of rvI l K hI 2 60 [.ref b] w (by decide) (lc0 := [(0, .ref b)]) rfl (Nat.le_of_ble_eq_true rfl) (fun y hk hR _ _ hin => eX2_compareOf hk hR b w)
noncomputable def mX2_betweenOf (this : Nat) (w : Wd) : Option (Int32 × Wd) :=
(gI w ((some this)) 2 9).bind fun v1 =>
if ¬ v1 = 43 then (
(gI w ((some this)) 2 9).bind fun v2 =>
if ¬ v2 = 45 then (
(gI w ((some this)) 2 9).bind fun v3 =>
if ¬ v3 = 42 then (
(gI w ((some this)) 2 9).bind fun v4 =>
if ¬ v4 = 47 then (
(recv w ((some this)) 2).bind fun b6 => (cal w (mX2_openNow b6 w)).bind fun r5 =>
if r5.1 = 41 then (
(recv r5.2 ((some this)) 2).bind fun b8 => (cal r5.2 (mX2_isCompared b8 r5.2)).bind fun r7 =>
if ¬ r7.1 = 0 then (
(cal r7.2 (mX2_w3 97 110 100 r7.2)).bind fun r9 =>
(recv r9.2 ((some this)) 2).bind fun b11 => (cal r9.2 (mX2_isWord b11 r9.1 r9.2)).bind fun r10 =>
if r10.1 = 0 then (
(cal r10.2 (mX2_w2 111 114 r10.2)).bind fun r12 =>
(recv r12.2 ((some this)) 2).bind fun b14 => (cal r12.2 (mX2_isWord b14 r12.1 r12.2)).bind fun r13 =>
if r13.1 = 0 then (
some ((-1), r13.2))
else (
some (22, r13.2)))
else (
some (21, r10.2)))
else (
(recv r7.2 ((some this)) 2).bind fun b16 => (cal r7.2 (mX2_compareOf b16 r7.2)).bind fun r15 =>
some (r15.1, r15.2)))
else (
some ((-1), r5.2)))
else (
some (9, w)))
else (
some (8, w)))
else (
some (7, w)))
else (
some (6, w))
theorem eX2_betweenOf {y : Fx (Int32 × Wd)} (hk : OkF y RX2 cX2_betweenOf 1 4 103) (hR : RetM y rvI (some (.int))) (this : Nat) (w : Wd) : V y w [(0, va_rf (some this))] [] 0 (mX2_betweenOf this w) := by
  unfold mX2_betweenOf
  refine V_aload_n (pc := 0) hk dX2_betweenOf_0 0 rfl ?_
  refine g_X2_92 (pc := 1) hk dX2_betweenOf_1 (fun v1 => ?_)
  refine V_bipush (pc := 4) (v := 43) hk dX2_betweenOf_4 rfl ?_
  refine V_icmp_ne (pc := 6) (tgt := 12) hk dX2_betweenOf_6 rfl ?_ ?_
  · refine V_aload_n (pc := 12) hk dX2_betweenOf_12 0 rfl ?_
    refine g_X2_92 (pc := 13) hk dX2_betweenOf_13 (fun v2 => ?_)
    refine V_bipush (pc := 16) (v := 45) hk dX2_betweenOf_16 rfl ?_
    refine V_icmp_ne (pc := 18) (tgt := 24) hk dX2_betweenOf_18 rfl ?_ ?_
    · refine V_aload_n (pc := 24) hk dX2_betweenOf_24 0 rfl ?_
      refine g_X2_92 (pc := 25) hk dX2_betweenOf_25 (fun v3 => ?_)
      refine V_bipush (pc := 28) (v := 42) hk dX2_betweenOf_28 rfl ?_
      refine V_icmp_ne (pc := 30) (tgt := 36) hk dX2_betweenOf_30 rfl ?_ ?_
      · refine V_aload_n (pc := 36) hk dX2_betweenOf_36 0 rfl ?_
        refine g_X2_92 (pc := 37) hk dX2_betweenOf_37 (fun v4 => ?_)
        refine V_bipush (pc := 40) (v := 47) hk dX2_betweenOf_40 rfl ?_
        refine V_icmp_ne (pc := 42) (tgt := 48) hk dX2_betweenOf_42 rfl ?_ ?_
        · refine V_aload_n (pc := 48) hk dX2_betweenOf_48 0 rfl ?_
          refine n_X2_161 (pc := 49) hk (fun b r h => ctX2_openNow (fl y) (fK y) hk.2.2.2.2.2.2.2.1 b w r h) ⟨Nat.le_of_ble_eq_true rfl, Nat.le_of_ble_eq_true rfl⟩ (Nat.le_of_ble_eq_true rfl) dX2_betweenOf_49 (fun r5 => ?_)
          refine V_bipush (pc := 52) (v := 41) hk dX2_betweenOf_52 rfl ?_
          refine V_icmp_eq (pc := 54) (tgt := 59) hk dX2_betweenOf_54 rfl ?_ ?_
          · refine V_aload_n (pc := 59) hk dX2_betweenOf_59 0 rfl ?_
            refine n_X2_197 (pc := 60) hk (fun b r h => ctX2_isCompared (fl y) (fK y) hk.2.2.2.2.2.2.2.1 b r5.2 r h) ⟨Nat.le_of_ble_eq_true rfl, Nat.le_of_ble_eq_true rfl⟩ (Nat.le_of_ble_eq_true rfl) dX2_betweenOf_60 (fun r7 => ?_)
            refine V_if_ne (pc := 63) (tgt := 71) hk dX2_betweenOf_63 rfl ?_ ?_
            · refine V_aload_n (pc := 71) hk dX2_betweenOf_71 0 rfl ?_
              refine V_bipush (pc := 72) (v := 97) hk dX2_betweenOf_72 rfl ?_
              refine V_bipush (pc := 74) (v := 110) hk dX2_betweenOf_74 rfl ?_
              refine V_bipush (pc := 76) (v := 100) hk dX2_betweenOf_76 rfl ?_
              refine n_X2_119 (pc := 78) hk (fun r h => ctX2_w3 (fl y) (fK y) hk.2.2.2.2.2.2.2.1 97 110 100 r7.2 r h) ⟨Nat.le_of_ble_eq_true rfl, Nat.le_of_ble_eq_true rfl⟩ (by simp [rf_cat, cat_int, cat_long, cat_ref]) dX2_betweenOf_78 (fun r9 => ?_)
              refine n_X2_183 (pc := 81) hk (fun b r h => ctX2_isWord (fl y) (fK y) hk.2.2.2.2.2.2.2.1 b r9.1 r9.2 r h) ⟨Nat.le_of_ble_eq_true rfl, Nat.le_of_ble_eq_true rfl⟩ (Nat.le_of_ble_eq_true rfl) dX2_betweenOf_81 (fun r10 => ?_)
              refine V_if_eq (pc := 84) (tgt := 92) hk dX2_betweenOf_84 rfl ?_ ?_
              · refine V_aload_n (pc := 92) hk dX2_betweenOf_92 0 rfl ?_
                refine V_bipush (pc := 93) (v := 111) hk dX2_betweenOf_93 rfl ?_
                refine V_bipush (pc := 95) (v := 114) hk dX2_betweenOf_95 rfl ?_
                refine n_X2_115 (pc := 97) hk (fun r h => ctX2_w2 (fl y) (fK y) hk.2.2.2.2.2.2.2.1 111 114 r10.2 r h) ⟨Nat.le_of_ble_eq_true rfl, Nat.le_of_ble_eq_true rfl⟩ (by simp [rf_cat, cat_int, cat_long, cat_ref]) dX2_betweenOf_97 (fun r12 => ?_)
                refine n_X2_183 (pc := 100) hk (fun b r h => ctX2_isWord (fl y) (fK y) hk.2.2.2.2.2.2.2.1 b r12.1 r12.2 r h) ⟨Nat.le_of_ble_eq_true rfl, Nat.le_of_ble_eq_true rfl⟩ (Nat.le_of_ble_eq_true rfl) dX2_betweenOf_100 (fun r13 => ?_)
                refine V_if_eq (pc := 103) (tgt := 111) hk dX2_betweenOf_103 rfl ?_ ?_
                · refine V_iconst (pc := 111) (v := (-1)) hk dX2_betweenOf_111 (by decide +kernel) ?_
                  exact V_ireturn (pc := 112) hk hR rfl dX2_betweenOf_112
                · refine V_bipush (pc := 106) (v := 22) hk dX2_betweenOf_106 rfl ?_
                  refine V_goto (pc := 108) (tgt := 112) hk dX2_betweenOf_108 rfl ?_
                  exact V_ireturn (pc := 112) hk hR rfl dX2_betweenOf_112
              · refine V_bipush (pc := 87) (v := 21) hk dX2_betweenOf_87 rfl ?_
                refine V_goto (pc := 89) (tgt := 112) hk dX2_betweenOf_89 rfl ?_
                exact V_ireturn (pc := 112) hk hR rfl dX2_betweenOf_112
            · refine V_aload_n (pc := 66) hk dX2_betweenOf_66 0 rfl ?_
              refine n_X2_200 (pc := 67) hk (fun b r h => ctX2_compareOf (fl y) (fK y) hk.2.2.2.2.2.2.2.1 b r7.2 r h) ⟨Nat.le_of_ble_eq_true rfl, Nat.le_of_ble_eq_true rfl⟩ (Nat.le_of_ble_eq_true rfl) dX2_betweenOf_67 (fun r15 => ?_)
              exact V_ireturn (pc := 70) hk hR rfl dX2_betweenOf_70
          · refine V_iconst (pc := 57) (v := (-1)) hk dX2_betweenOf_57 (by decide +kernel) ?_
            exact V_ireturn (pc := 58) hk hR rfl dX2_betweenOf_58
        · refine V_bipush (pc := 45) (v := 9) hk dX2_betweenOf_45 rfl ?_
          exact V_ireturn (pc := 47) hk hR rfl dX2_betweenOf_47
      · refine V_bipush (pc := 33) (v := 8) hk dX2_betweenOf_33 rfl ?_
        exact V_ireturn (pc := 35) hk hR rfl dX2_betweenOf_35
    · refine V_bipush (pc := 21) (v := 7) hk dX2_betweenOf_21 rfl ?_
      exact V_ireturn (pc := 23) hk hR rfl dX2_betweenOf_23
  · refine V_bipush (pc := 9) (v := 6) hk dX2_betweenOf_9 rfl ?_
    exact V_ireturn (pc := 11) hk hR rfl dX2_betweenOf_11
theorem ctX2_betweenOf (l : Launch) (K : Kx) (hI : Ini K) (b : Nat) (w : Wd) : ∀ r, mX2_betweenOf b w = some r → Ct l K 4 103 yX2_betweenOf (ws_ yX2_betweenOf cX2_betweenOf 1 (some (.int))) [.ref b] w (rvI r.1) r.2 := Ct_of rvI l K hI 4 103 [.ref b] w (by decide) (lc0 := [(0, .ref b)]) rfl (Nat.le_of_ble_eq_true rfl) (fun y hk hR _ _ hin => eX2_betweenOf hk hR b w)
noncomputable def mX2_emit (this : Nat) (a0 : Int32) (a1 : Int32) (w : Wd) : Option (Unit × Wd) :=
(gR w ((some this)) 2 2).bind fun v1 =>
(gI w ((some this)) 2 12).bind fun v2 =>
(gI w ((some this)) 2 13).bind fun v3 =>
(ias w v1 ((v2 + 145) + (2 * v3)) a0).bind fun w4 =>
(gR w4 ((some this)) 2 2).bind fun v5 =>
(gI w4 ((some this)) 2 12).bind fun v6 =>
(gI w4 ((some this)) 2 13).bind fun v7 =>
(ias w4 v5 (((v6 + 145) + (2 * v7)) + 1) a1).bind fun w8 =>
(gI w8 ((some this)) 2 13).bind fun v9 =>
(pf w8 ((some this)) 2 13 (.int (v9 + 1))).bind fun w10 =>
some ((), w10)
theorem eX2_emit {y : Fx (Unit × Wd)} (hk : OkF y RX2 cX2_emit 3 2 60) (hR : RetM y rvV none) (this : Nat) (a0 : Int32) (a1 : Int32) (w : Wd) : V y w [(0, va_rf (some this)), (1, .int a0), (2, .int a1)] [] 0 (mX2_emit this a0 a1 w) := by
  unfold mX2_emit
  refine V_aload_n (pc := 0) hk dX2_emit_0 0 rfl ?_
  refine g_X2_16 (pc := 1) hk dX2_emit_1 (fun v1 => ?_)
  refine V_aload_n (pc := 4) hk dX2_emit_4 0 rfl ?_
  refine g_X2_131 (pc := 5) hk dX2_emit_5 (fun v2 => ?_)
  refine V_sipush (pc := 8) (v := 145) hk dX2_emit_8 rfl ?_
  refine V_iadd (pc := 11) hk dX2_emit_11 ?_
  refine V_iconst (pc := 12) (v := 2) hk dX2_emit_12 rfl ?_
  refine V_aload_n (pc := 13) hk dX2_emit_13 0 rfl ?_
  refine g_X2_134 (pc := 14) hk dX2_emit_14 (fun v3 => ?_)
  refine V_imul (pc := 17) hk dX2_emit_17 ?_
  refine V_iadd (pc := 18) hk dX2_emit_18 ?_
  refine V_iload_n (pc := 19) hk dX2_emit_19 1 rfl ?_
  refine V_iastore (pc := 20) hk dX2_emit_20 (fun w4 => ?_)
  refine V_aload_n (pc := 21) hk dX2_emit_21 0 rfl ?_
  refine g_X2_16 (pc := 22) hk dX2_emit_22 (fun v5 => ?_)
  refine V_aload_n (pc := 25) hk dX2_emit_25 0 rfl ?_
  refine g_X2_131 (pc := 26) hk dX2_emit_26 (fun v6 => ?_)
  refine V_sipush (pc := 29) (v := 145) hk dX2_emit_29 rfl ?_
  refine V_iadd (pc := 32) hk dX2_emit_32 ?_
  refine V_iconst (pc := 33) (v := 2) hk dX2_emit_33 rfl ?_
  refine V_aload_n (pc := 34) hk dX2_emit_34 0 rfl ?_
  refine g_X2_134 (pc := 35) hk dX2_emit_35 (fun v7 => ?_)
  refine V_imul (pc := 38) hk dX2_emit_38 ?_
  refine V_iadd (pc := 39) hk dX2_emit_39 ?_
  refine V_iconst (pc := 40) (v := 1) hk dX2_emit_40 rfl ?_
  refine V_iadd (pc := 41) hk dX2_emit_41 ?_
  refine V_iload_n (pc := 42) hk dX2_emit_42 2 rfl ?_
  refine V_iastore (pc := 43) hk dX2_emit_43 (fun w8 => ?_)
  refine V_aload_n (pc := 44) hk dX2_emit_44 0 rfl ?_
  refine V_dup (pc := 45) hk dX2_emit_45 (rf_cat _) ?_
  refine g_X2_134 (pc := 46) hk dX2_emit_46 (fun v9 => ?_)
  refine V_iconst (pc := 49) (v := 1) hk dX2_emit_49 rfl ?_
  refine V_iadd (pc := 50) hk dX2_emit_50 ?_
  refine p_X2_134 (pc := 51) hk dX2_emit_51 (fun w10 => ?_)
  exact V_return (pc := 54) hk hR rfl dX2_emit_54
theorem ctX2_emit (l : Launch) (K : Kx) (hI : Ini K) (b : Nat) (a0 : Int32) (a1 : Int32) (w : Wd) : ∀ r, mX2_emit b a0 a1 w = some r → Ct l K 2 60 yX2_emit (ws_ yX2_emit cX2_emit 3 none) [.ref b, .int a0, .int a1] w (rvV r.1) r.2 := Ct_of rvV l K hI 2 60 [.ref b, .int a0, .int a1] w (by decide) (lc0 := [(0, .ref b), (1, .int a0), (2, .int a1)]) rfl (Nat.le_of_ble_eq_true rfl) (fun y hk hR _ _ hin => eX2_emit hk hR b a0 a1 w)
noncomputable def mX2_settle_b0 (k0 : Wd → (Option Nat) → Int32 → Option (Unit × Wd)) (w : Wd) (l0 : Option Nat) (l1 : Int32) : Option (Unit × Wd) :=
(gI w l0 2 16).bind fun v1 =>
if v1 ≤ 0 then (
some ((), w))
else (
(gR w l0 2 15).bind fun v2 =>
(gI w l0 2 16).bind fun v3 =>
(ia w v2 (v3 - 1)).bind fun v4 =>
(cal w (mX2_rank v4 w)).bind fun r5 =>
if r5.1 < l1 then (
some ((), r5.2))
else (
(gI r5.2 l0 2 16).bind fun v6 =>
(pf r5.2 l0 2 16 (.int (v6 - 1))).bind fun w7 =>
(gR w7 l0 2 15).bind fun v8 =>
(gI w7 l0 2 16).bind fun v9 =>
(ia w7 v8 v9).bind fun v10 =>
(recv w7 l0 2).bind fun b12 => (cal w7 (mX2_emit b12 v10 0 w7)).bind fun r11 =>
(gR r11.2 l0 2 15).bind fun v13 =>
(gI r11.2 l0 2 16).bind fun v14 =>
(ia r11.2 v13 v14).bind fun v15 =>
(cal r11.2 (mX2_rank v15 r11.2)).bind fun r16 =>
if r16.1 = 7 then (
(gI r16.2 l0 2 17).bind fun v17 =>
(pf r16.2 l0 2 17 (.int (v17 - 1))).bind fun w18 =>
k0 w18 l0 l1)
else (
(gR r16.2 l0 2 15).bind fun v19 =>
(gI r16.2 l0 2 16).bind fun v20 =>
(ia r16.2 v19 v20).bind fun v21 =>
if ¬ v21 = 20 then (
k0 r16.2 l0 l1)
else (
(gI r16.2 l0 2 17).bind fun v22 =>
(pf r16.2 l0 2 17 (.int (v22 - 1))).bind fun w23 =>
k0 w23 l0 l1))))
noncomputable def mX2_settle_l0 : Nat → Wd → (Option Nat) → Int32 → Option (Unit × Wd)
  | 0, _, _, _ => none
  | n + 1, w, l0, l1 => mX2_settle_b0 (mX2_settle_l0 n) w l0 l1
noncomputable def mX2_settle (this : Nat) (a0 : Int32) (w : Wd) : Option (Unit × Wd) := mX2_settle_l0 FU w (some this) a0
theorem eX2_settle_b0 {y : Fx (Unit × Wd)} (hk : OkF y RX2 cX2_settle 2 3 82) (hR : RetM y rvV none) {k0 : Wd → (Option Nat) → Int32 → Option (Unit × Wd)} (h0 : ∀ (w : Wd) (l0 : Option Nat) (l1 : Int32), V y w [(0, va_rf l0), (1, .int l1)] [] 0 (k0 w l0 l1)) (w : Wd) (l0 : Option Nat) (l1 : Int32) : V y w [(0, va_rf l0), (1, .int l1)] [] 0 (mX2_settle_b0 k0 w l0 l1) := by
  unfold mX2_settle_b0
  refine V_aload_n (pc := 0) hk dX2_settle_0 0 rfl ?_
  refine g_X2_144 (pc := 1) hk dX2_settle_1 (fun v1 => ?_)
  refine V_if_le (pc := 4) (tgt := 93) hk dX2_settle_4 rfl ?_ ?_
  · exact V_return (pc := 93) hk hR rfl dX2_settle_93
  · refine V_aload_n (pc := 7) hk dX2_settle_7 0 rfl ?_
    refine g_X2_29 (pc := 8) hk dX2_settle_8 (fun v2 => ?_)
    refine V_aload_n (pc := 11) hk dX2_settle_11 0 rfl ?_
    refine g_X2_144 (pc := 12) hk dX2_settle_12 (fun v3 => ?_)
    refine V_iconst (pc := 15) (v := 1) hk dX2_settle_15 rfl ?_
    refine V_isub (pc := 16) hk dX2_settle_16 ?_
    refine V_iaload (pc := 17) hk dX2_settle_17 (fun v4 => ?_)
    refine n_X2_147 (pc := 18) hk (fun r h => ctX2_rank (fl y) (fK y) hk.2.2.2.2.2.2.2.1 v4 w r h) ⟨Nat.le_of_ble_eq_true rfl, Nat.le_of_ble_eq_true rfl⟩ (Nat.le_of_ble_eq_true rfl) dX2_settle_18 (fun r5 => ?_)
    refine V_iload_n (pc := 21) hk dX2_settle_21 1 rfl ?_
    refine V_icmp_lt (pc := 22) (tgt := 93) hk dX2_settle_22 rfl ?_ ?_
    · exact V_return (pc := 93) hk hR rfl dX2_settle_93
    · refine V_aload_n (pc := 25) hk dX2_settle_25 0 rfl ?_
      refine V_dup (pc := 26) hk dX2_settle_26 (rf_cat _) ?_
      refine g_X2_144 (pc := 27) hk dX2_settle_27 (fun v6 => ?_)
      refine V_iconst (pc := 30) (v := 1) hk dX2_settle_30 rfl ?_
      refine V_isub (pc := 31) hk dX2_settle_31 ?_
      refine p_X2_144 (pc := 32) hk dX2_settle_32 (fun w7 => ?_)
      refine V_aload_n (pc := 35) hk dX2_settle_35 0 rfl ?_
      refine V_aload_n (pc := 36) hk dX2_settle_36 0 rfl ?_
      refine g_X2_29 (pc := 37) hk dX2_settle_37 (fun v8 => ?_)
      refine V_aload_n (pc := 40) hk dX2_settle_40 0 rfl ?_
      refine g_X2_144 (pc := 41) hk dX2_settle_41 (fun v9 => ?_)
      refine V_iaload (pc := 44) hk dX2_settle_44 (fun v10 => ?_)
      refine V_iconst (pc := 45) (v := 0) hk dX2_settle_45 rfl ?_
      refine n_X2_150 (pc := 46) hk (fun b r h => ctX2_emit (fl y) (fK y) hk.2.2.2.2.2.2.2.1 b v10 0 w7 r h) ⟨Nat.le_of_ble_eq_true rfl, Nat.le_of_ble_eq_true rfl⟩ (Nat.le_of_ble_eq_true rfl) dX2_settle_46 (fun r11 => ?_)
      refine V_aload_n (pc := 49) hk dX2_settle_49 0 rfl ?_
      refine g_X2_29 (pc := 50) hk dX2_settle_50 (fun v13 => ?_)
      refine V_aload_n (pc := 53) hk dX2_settle_53 0 rfl ?_
      refine g_X2_144 (pc := 54) hk dX2_settle_54 (fun v14 => ?_)
      refine V_iaload (pc := 57) hk dX2_settle_57 (fun v15 => ?_)
      refine n_X2_147 (pc := 58) hk (fun r h => ctX2_rank (fl y) (fK y) hk.2.2.2.2.2.2.2.1 v15 r11.2 r h) ⟨Nat.le_of_ble_eq_true rfl, Nat.le_of_ble_eq_true rfl⟩ (Nat.le_of_ble_eq_true rfl) dX2_settle_58 (fun r16 => ?_)
      refine V_bipush (pc := 61) (v := 7) hk dX2_settle_61 rfl ?_
      refine V_icmp_eq (pc := 63) (tgt := 80) hk dX2_settle_63 rfl ?_ ?_
      · refine V_aload_n (pc := 80) hk dX2_settle_80 0 rfl ?_
        refine V_dup (pc := 81) hk dX2_settle_81 (rf_cat _) ?_
        refine g_X2_154 (pc := 82) hk dX2_settle_82 (fun v17 => ?_)
        refine V_iconst (pc := 85) (v := 1) hk dX2_settle_85 rfl ?_
        refine V_isub (pc := 86) hk dX2_settle_86 ?_
        refine p_X2_154 (pc := 87) hk dX2_settle_87 (fun w18 => ?_)
        refine V_goto (pc := 90) (tgt := 0) hk dX2_settle_90 rfl ?_
        exact h0 w18 l0 l1
      · refine V_aload_n (pc := 66) hk dX2_settle_66 0 rfl ?_
        refine g_X2_29 (pc := 67) hk dX2_settle_67 (fun v19 => ?_)
        refine V_aload_n (pc := 70) hk dX2_settle_70 0 rfl ?_
        refine g_X2_144 (pc := 71) hk dX2_settle_71 (fun v20 => ?_)
        refine V_iaload (pc := 74) hk dX2_settle_74 (fun v21 => ?_)
        refine V_bipush (pc := 75) (v := 20) hk dX2_settle_75 rfl ?_
        refine V_icmp_ne (pc := 77) (tgt := 0) hk dX2_settle_77 rfl ?_ ?_
        · exact h0 r16.2 l0 l1
        · refine V_aload_n (pc := 80) hk dX2_settle_80 0 rfl ?_
          refine V_dup (pc := 81) hk dX2_settle_81 (rf_cat _) ?_
          refine g_X2_154 (pc := 82) hk dX2_settle_82 (fun v22 => ?_)
          refine V_iconst (pc := 85) (v := 1) hk dX2_settle_85 rfl ?_
          refine V_isub (pc := 86) hk dX2_settle_86 ?_
          refine p_X2_154 (pc := 87) hk dX2_settle_87 (fun w23 => ?_)
          refine V_goto (pc := 90) (tgt := 0) hk dX2_settle_90 rfl ?_
          exact h0 w23 l0 l1
theorem eX2_settle_l0 {y : Fx (Unit × Wd)} (hk : OkF y RX2 cX2_settle 2 3 82) (hR : RetM y rvV none) : ∀ (n : Nat) (w : Wd) (l0 : Option Nat) (l1 : Int32), V y w [(0, va_rf l0), (1, .int l1)] [] 0 (mX2_settle_l0 n w l0 l1) := by
  intro n
  induction n with
  | zero => intro w l0 l1; exact V_none
  | succ n ih => intro w l0 l1; exact eX2_settle_b0 hk hR ih w l0 l1
theorem eX2_settle {y : Fx (Unit × Wd)} (hk : OkF y RX2 cX2_settle 2 3 82) (hR : RetM y rvV none) (this : Nat) (a0 : Int32) (w : Wd) : V y w [(0, va_rf (some this)), (1, .int a0)] [] 0 (mX2_settle this a0 w) := by
  unfold mX2_settle
  refine V_pick (lc' := [(0, va_rf ((some this))), (1, .int a0)]) [0, 1] rfl ?_
  exact eX2_settle_l0 hk hR FU w (some this) a0
theorem ctX2_settle (l : Launch) (K : Kx) (hI : Ini K) (b : Nat) (a0 : Int32) (w : Wd) : ∀ r, mX2_settle b a0 w = some r → Ct l K 3 82 yX2_settle (ws_ yX2_settle cX2_settle 2 none) [.ref b, .int a0] w (rvV r.1) r.2 := Ct_of rvV l K hI 3 82 [.ref b, .int a0] w (by decide) (lc0 := [(0, .ref b), (1, .int a0)]) rfl (Nat.le_of_ble_eq_true rfl) (fun y hk hR _ _ hin => eX2_settle hk hR b a0 w)
noncomputable def mX2_partOf (this : Nat) (a0 : Int32) (w : Wd) : Option (Int32 × Wd) :=
if a0 = 40 then (
(gI w ((some this)) 2 9).bind fun v1 =>
if ¬ v1 = 41 then (
some ((-1), w))
else (
some (0, w)))
else (
if a0 = 41 then (
(cal w (mX2_w4 116 104 101 110 w)).bind fun r2 =>
(recv r2.2 ((some this)) 2).bind fun b4 => (cal r2.2 (mX2_isWord b4 r2.1 r2.2)).bind fun r3 =>
if r3.1 = 0 then (
some ((-1), r3.2))
else (
(recv r3.2 ((some this)) 2).bind fun b6 => (cal r3.2 (mX2_isCompared b6 r3.2)).bind fun r5 =>
if r5.1 = 0 then (
some ((-1), r5.2))
else (
some (42, r5.2))))
else (
if a0 = 42 then (
(cal w (mX2_w4 101 108 115 101 w)).bind fun r7 =>
(recv r7.2 ((some this)) 2).bind fun b9 => (cal r7.2 (mX2_isWord b9 r7.1 r7.2)).bind fun r8 =>
if r8.1 = 0 then (
some ((-1), r8.2))
else (
some (43, r8.2)))
else (
if a0 = 43 then (
(cal w (mX2_w3 101 110 100 w)).bind fun r10 =>
(recv r10.2 ((some this)) 2).bind fun b12 => (cal r10.2 (mX2_isWord b12 r10.1 r10.2)).bind fun r11 =>
if r11.1 = 0 then (
some ((-1), r11.2))
else (
some (0, r11.2)))
else (
some ((-1), w)))))
theorem eX2_partOf {y : Fx (Int32 × Wd)} (hk : OkF y RX2 cX2_partOf 2 5 126) (hR : RetM y rvI (some (.int))) (this : Nat) (a0 : Int32) (w : Wd) : V y w [(0, va_rf (some this)), (1, .int a0)] [] 0 (mX2_partOf this a0 w) := by
  unfold mX2_partOf
  refine V_iload_n (pc := 0) hk dX2_partOf_0 1 rfl ?_
  refine V_if (fun hx => ?_) (fun hn40 => ?_)
  · refine V_tblIn (pc := 1) (tgt := 32) (off := 31) hk 40 hx dX2_partOf_1 (by decide) (by decide) (by decide +kernel) rfl ?_
    refine V_aload_n (pc := 32) hk dX2_partOf_32 0 rfl ?_
    refine g_X2_92 (pc := 33) hk dX2_partOf_33 (fun v1 => ?_)
    refine V_bipush (pc := 36) (v := 41) hk dX2_partOf_36 rfl ?_
    refine V_icmp_ne (pc := 38) (tgt := 45) hk dX2_partOf_38 rfl ?_ ?_
    · refine V_iconst (pc := 45) (v := (-1)) hk dX2_partOf_45 (by decide +kernel) ?_
      exact V_ireturn (pc := 46) hk hR rfl dX2_partOf_46
    · refine V_iconst (pc := 41) (v := 0) hk dX2_partOf_41 rfl ?_
      refine V_goto (pc := 42) (tgt := 46) hk dX2_partOf_42 rfl ?_
      exact V_ireturn (pc := 46) hk hR rfl dX2_partOf_46
  refine V_if (fun hx => ?_) (fun hn41 => ?_)
  · refine V_tblIn (pc := 1) (tgt := 47) (off := 46) hk 41 hx dX2_partOf_1 (by decide) (by decide) (by decide +kernel) rfl ?_
    refine V_aload_n (pc := 47) hk dX2_partOf_47 0 rfl ?_
    refine V_bipush (pc := 48) (v := 116) hk dX2_partOf_48 rfl ?_
    refine V_bipush (pc := 50) (v := 104) hk dX2_partOf_50 rfl ?_
    refine V_bipush (pc := 52) (v := 101) hk dX2_partOf_52 rfl ?_
    refine V_bipush (pc := 54) (v := 110) hk dX2_partOf_54 rfl ?_
    refine n_X2_123 (pc := 56) hk (fun r h => ctX2_w4 (fl y) (fK y) hk.2.2.2.2.2.2.2.1 116 104 101 110 w r h) ⟨Nat.le_of_ble_eq_true rfl, Nat.le_of_ble_eq_true rfl⟩ (by simp [rf_cat, cat_int, cat_long, cat_ref]) dX2_partOf_56 (fun r2 => ?_)
    refine n_X2_183 (pc := 59) hk (fun b r h => ctX2_isWord (fl y) (fK y) hk.2.2.2.2.2.2.2.1 b r2.1 r2.2 r h) ⟨Nat.le_of_ble_eq_true rfl, Nat.le_of_ble_eq_true rfl⟩ (Nat.le_of_ble_eq_true rfl) dX2_partOf_59 (fun r3 => ?_)
    refine V_if_eq (pc := 62) (tgt := 77) hk dX2_partOf_62 rfl ?_ ?_
    · refine V_iconst (pc := 77) (v := (-1)) hk dX2_partOf_77 (by decide +kernel) ?_
      exact V_ireturn (pc := 78) hk hR rfl dX2_partOf_78
    · refine V_aload_n (pc := 65) hk dX2_partOf_65 0 rfl ?_
      refine n_X2_197 (pc := 66) hk (fun b r h => ctX2_isCompared (fl y) (fK y) hk.2.2.2.2.2.2.2.1 b r3.2 r h) ⟨Nat.le_of_ble_eq_true rfl, Nat.le_of_ble_eq_true rfl⟩ (Nat.le_of_ble_eq_true rfl) dX2_partOf_66 (fun r5 => ?_)
      refine V_if_eq (pc := 69) (tgt := 77) hk dX2_partOf_69 rfl ?_ ?_
      · refine V_iconst (pc := 77) (v := (-1)) hk dX2_partOf_77 (by decide +kernel) ?_
        exact V_ireturn (pc := 78) hk hR rfl dX2_partOf_78
      · refine V_bipush (pc := 72) (v := 42) hk dX2_partOf_72 rfl ?_
        refine V_goto (pc := 74) (tgt := 78) hk dX2_partOf_74 rfl ?_
        exact V_ireturn (pc := 78) hk hR rfl dX2_partOf_78
  refine V_if (fun hx => ?_) (fun hn42 => ?_)
  · refine V_tblIn (pc := 1) (tgt := 79) (off := 78) hk 42 hx dX2_partOf_1 (by decide) (by decide) (by decide +kernel) rfl ?_
    refine V_aload_n (pc := 79) hk dX2_partOf_79 0 rfl ?_
    refine V_bipush (pc := 80) (v := 101) hk dX2_partOf_80 rfl ?_
    refine V_bipush (pc := 82) (v := 108) hk dX2_partOf_82 rfl ?_
    refine V_bipush (pc := 84) (v := 115) hk dX2_partOf_84 rfl ?_
    refine V_bipush (pc := 86) (v := 101) hk dX2_partOf_86 rfl ?_
    refine n_X2_123 (pc := 88) hk (fun r h => ctX2_w4 (fl y) (fK y) hk.2.2.2.2.2.2.2.1 101 108 115 101 w r h) ⟨Nat.le_of_ble_eq_true rfl, Nat.le_of_ble_eq_true rfl⟩ (by simp [rf_cat, cat_int, cat_long, cat_ref]) dX2_partOf_88 (fun r7 => ?_)
    refine n_X2_183 (pc := 91) hk (fun b r h => ctX2_isWord (fl y) (fK y) hk.2.2.2.2.2.2.2.1 b r7.1 r7.2 r h) ⟨Nat.le_of_ble_eq_true rfl, Nat.le_of_ble_eq_true rfl⟩ (Nat.le_of_ble_eq_true rfl) dX2_partOf_91 (fun r8 => ?_)
    refine V_if_eq (pc := 94) (tgt := 102) hk dX2_partOf_94 rfl ?_ ?_
    · refine V_iconst (pc := 102) (v := (-1)) hk dX2_partOf_102 (by decide +kernel) ?_
      exact V_ireturn (pc := 103) hk hR rfl dX2_partOf_103
    · refine V_bipush (pc := 97) (v := 43) hk dX2_partOf_97 rfl ?_
      refine V_goto (pc := 99) (tgt := 103) hk dX2_partOf_99 rfl ?_
      exact V_ireturn (pc := 103) hk hR rfl dX2_partOf_103
  refine V_if (fun hx => ?_) (fun hn43 => ?_)
  · refine V_tblIn (pc := 1) (tgt := 104) (off := 103) hk 43 hx dX2_partOf_1 (by decide) (by decide) (by decide +kernel) rfl ?_
    refine V_aload_n (pc := 104) hk dX2_partOf_104 0 rfl ?_
    refine V_bipush (pc := 105) (v := 101) hk dX2_partOf_105 rfl ?_
    refine V_bipush (pc := 107) (v := 110) hk dX2_partOf_107 rfl ?_
    refine V_bipush (pc := 109) (v := 100) hk dX2_partOf_109 rfl ?_
    refine n_X2_119 (pc := 111) hk (fun r h => ctX2_w3 (fl y) (fK y) hk.2.2.2.2.2.2.2.1 101 110 100 w r h) ⟨Nat.le_of_ble_eq_true rfl, Nat.le_of_ble_eq_true rfl⟩ (by simp [rf_cat, cat_int, cat_long, cat_ref]) dX2_partOf_111 (fun r10 => ?_)
    refine n_X2_183 (pc := 114) hk (fun b r h => ctX2_isWord (fl y) (fK y) hk.2.2.2.2.2.2.2.1 b r10.1 r10.2 r h) ⟨Nat.le_of_ble_eq_true rfl, Nat.le_of_ble_eq_true rfl⟩ (Nat.le_of_ble_eq_true rfl) dX2_partOf_114 (fun r11 => ?_)
    refine V_if_eq (pc := 117) (tgt := 124) hk dX2_partOf_117 rfl ?_ ?_
    · refine V_iconst (pc := 124) (v := (-1)) hk dX2_partOf_124 (by decide +kernel) ?_
      exact V_ireturn (pc := 125) hk hR rfl dX2_partOf_125
    · refine V_iconst (pc := 120) (v := 0) hk dX2_partOf_120 rfl ?_
      refine V_goto (pc := 121) (tgt := 125) hk dX2_partOf_121 rfl ?_
      exact V_ireturn (pc := 125) hk hR rfl dX2_partOf_125
  refine V_tblOut (pc := 1) (tgt := 126) hk dX2_partOf_1 (tbl_out 40 43 (by intro k h1 h2; obtain rfl | rfl | rfl | rfl : k = 40 ∨ k = 41 ∨ k = 42 ∨ k = 43 := (by omega); exact hn40; exact hn41; exact hn42; exact hn43)) rfl ?_
  refine V_iconst (pc := 126) (v := (-1)) hk dX2_partOf_126 (by decide +kernel) ?_
  exact V_ireturn (pc := 127) hk hR rfl dX2_partOf_127
theorem ctX2_partOf (l : Launch) (K : Kx) (hI : Ini K) (b : Nat) (a0 : Int32) (w : Wd) : ∀ r, mX2_partOf b a0 w = some r → Ct l K 5 126 yX2_partOf (ws_ yX2_partOf cX2_partOf 2 (some (.int))) [.ref b, .int a0] w (rvI r.1) r.2 := Ct_of rvI l K hI 5 126 [.ref b, .int a0] w (by decide) (lc0 := [(0, .ref b), (1, .int a0)]) rfl (Nat.le_of_ble_eq_true rfl) (fun y hk hR _ _ hin => eX2_partOf hk hR b a0 w)
noncomputable def mX2_behindOne_p128 (w : Wd) (l0 : Option Nat) : Option (Int32 × Wd) :=
(recv w l0 2).bind fun b2 => (cal w (mX2_nextToken b2 w)).bind fun r1 =>
(recv r1.2 l0 2).bind fun b4 => (cal r1.2 (mX2_settle b4 7 r1.2)).bind fun r3 =>
(nok (.boolean) 1).bind fun _ => some (1, r3.2)
noncomputable def mX2_behindOne (this : Nat) (w : Wd) : Option (Int32 × Wd) :=
(recv w ((some this)) 2).bind fun b2 => (cal w (mX2_betweenOf b2 w)).bind fun r1 =>
if r1.1 < 0 then (
(recv r1.2 ((some this)) 2).bind fun b4 => (cal r1.2 (mX2_openNow b4 r1.2)).bind fun r3 =>
(recv r3.2 ((some this)) 2).bind fun b6 => (cal r3.2 (mX2_partOf b6 r3.1 r3.2)).bind fun r5 =>
if 0 ≤ r5.1 then (
(recv r5.2 ((some this)) 2).bind fun b8 => (cal r5.2 (mX2_settle b8 1 r5.2)).bind fun r7 =>
if r5.1 ≤ 0 then (
(gI r7.2 ((some this)) 2 16).bind fun v9 =>
(pf r7.2 ((some this)) 2 16 (.int (v9 - 1))).bind fun w10 =>
(gI w10 ((some this)) 2 17).bind fun v11 =>
(pf w10 ((some this)) 2 17 (.int (v11 - 1))).bind fun w12 =>
if ¬ r3.1 = 43 then (
mX2_behindOne_p128 w12 ((some this)))
else (
(recv w12 ((some this)) 2).bind fun b14 => (cal w12 (mX2_emit b14 3 0 w12)).bind fun r13 =>
mX2_behindOne_p128 r13.2 ((some this))))
else (
(gR r7.2 ((some this)) 2 15).bind fun v15 =>
(recv r7.2 ((some this)) 2).bind fun b17 => (cal r7.2 (mX2_openAt b17 r7.2)).bind fun r16 =>
(ias r16.2 v15 r16.1 r5.1).bind fun w18 =>
(zok 0).bind fun _ => (pf w18 ((some this)) 2 18 (.int 0)).bind fun w19 =>
(recv w19 ((some this)) 2).bind fun b21 => (cal w19 (mX2_nextToken b21 w19)).bind fun r20 =>
(nok (.boolean) 1).bind fun _ => some (1, r20.2)))
else (
(nok (.boolean) 0).bind fun _ => some (0, r5.2)))
else (
(cal r1.2 (mX2_rank r1.1 r1.2)).bind fun r22 =>
(recv r22.2 ((some this)) 2).bind fun b24 => (cal r22.2 (mX2_settle b24 r22.1 r22.2)).bind fun r23 =>
(gR r23.2 ((some this)) 2 15).bind fun v25 =>
(gI r23.2 ((some this)) 2 16).bind fun v26 =>
(ias r23.2 v25 v26 r1.1).bind fun w27 =>
(gI w27 ((some this)) 2 16).bind fun v28 =>
(pf w27 ((some this)) 2 16 (.int (v28 + 1))).bind fun w29 =>
(zok 0).bind fun _ => (pf w29 ((some this)) 2 18 (.int 0)).bind fun w30 =>
(recv w30 ((some this)) 2).bind fun b32 => (cal w30 (mX2_nextToken b32 w30)).bind fun r31 =>
(nok (.boolean) 1).bind fun _ => some (1, r31.2))
theorem eX2_behindOne_p128 {y : Fx (Int32 × Wd)} (hk : OkF y RX2 cX2_behindOne 4 6 147) (hR : RetM y rvI (some (.boolean))) (w : Wd) (l0 : Option Nat) : V y w [(0, va_rf l0)] [] 128 (mX2_behindOne_p128 w l0) := by
  unfold mX2_behindOne_p128
  refine V_aload_n (pc := 128) hk dX2_behindOne_128 0 rfl ?_
  refine n_X2_164 (pc := 129) hk (fun b r h => ctX2_nextToken (fl y) (fK y) hk.2.2.2.2.2.2.2.1 b w r h) ⟨Nat.le_of_ble_eq_true rfl, Nat.le_of_ble_eq_true rfl⟩ (Nat.le_of_ble_eq_true rfl) dX2_behindOne_129 (fun r1 => ?_)
  refine V_aload_n (pc := 132) hk dX2_behindOne_132 0 rfl ?_
  refine V_bipush (pc := 133) (v := 7) hk dX2_behindOne_133 rfl ?_
  refine n_X2_171 (pc := 135) hk (fun b r h => ctX2_settle (fl y) (fK y) hk.2.2.2.2.2.2.2.1 b 7 r1.2 r h) ⟨Nat.le_of_ble_eq_true rfl, Nat.le_of_ble_eq_true rfl⟩ (Nat.le_of_ble_eq_true rfl) dX2_behindOne_135 (fun r3 => ?_)
  refine V_iconst (pc := 138) (v := 1) hk dX2_behindOne_138 rfl ?_
  exact V_zreturn (pc := 139) hk hR rfl dX2_behindOne_139
theorem eX2_behindOne {y : Fx (Int32 × Wd)} (hk : OkF y RX2 cX2_behindOne 4 6 147) (hR : RetM y rvI (some (.boolean))) (this : Nat) (w : Wd) : V y w [(0, va_rf (some this))] [] 0 (mX2_behindOne this w) := by
  unfold mX2_behindOne
  refine V_aload_n (pc := 0) hk dX2_behindOne_0 0 rfl ?_
  refine n_X2_203 (pc := 1) hk (fun b r h => ctX2_betweenOf (fl y) (fK y) hk.2.2.2.2.2.2.2.1 b w r h) ⟨Nat.le_of_ble_eq_true rfl, Nat.le_of_ble_eq_true rfl⟩ (Nat.le_of_ble_eq_true rfl) dX2_behindOne_1 (fun r1 => ?_)
  refine V_istore_n (pc := 4) (lc' := [(1, .int r1.1), (0, va_rf ((some this)))]) (i := 1) hk dX2_behindOne_4 rfl (Nat.le_of_ble_eq_true rfl) (by simp [rf_cat, cat_int, cat_long, cat_ref]) ?_
  refine V_iload_n (pc := 5) hk dX2_behindOne_5 0 rfl ?_
  refine V_if_lt (pc := 6) (tgt := 48) hk dX2_behindOne_6 rfl ?_ ?_
  · refine V_aload_n (pc := 48) hk dX2_behindOne_48 1 rfl ?_
    refine n_X2_161 (pc := 49) hk (fun b r h => ctX2_openNow (fl y) (fK y) hk.2.2.2.2.2.2.2.1 b r1.2 r h) ⟨Nat.le_of_ble_eq_true rfl, Nat.le_of_ble_eq_true rfl⟩ (Nat.le_of_ble_eq_true rfl) dX2_behindOne_49 (fun r3 => ?_)
    refine V_istore_n (pc := 52) (lc' := [(2, .int r3.1), (1, .int r1.1), (0, va_rf ((some this)))]) (i := 2) hk dX2_behindOne_52 rfl (Nat.le_of_ble_eq_true rfl) rfl ?_
    refine V_aload_n (pc := 53) hk dX2_behindOne_53 2 rfl ?_
    refine V_iload_n (pc := 54) hk dX2_behindOne_54 0 rfl ?_
    refine n_X2_206 (pc := 55) hk (fun b r h => ctX2_partOf (fl y) (fK y) hk.2.2.2.2.2.2.2.1 b r3.1 r3.2 r h) ⟨Nat.le_of_ble_eq_true rfl, Nat.le_of_ble_eq_true rfl⟩ (Nat.le_of_ble_eq_true rfl) dX2_behindOne_55 (fun r5 => ?_)
    refine V_istore_n (pc := 58) (lc' := [(3, .int r5.1), (2, .int r3.1), (1, .int r1.1), (0, va_rf ((some this)))]) (i := 3) hk dX2_behindOne_58 rfl (Nat.le_of_ble_eq_true rfl) rfl ?_
    refine V_iload_n (pc := 59) hk dX2_behindOne_59 0 rfl ?_
    refine V_if_ge (pc := 60) (tgt := 65) hk dX2_behindOne_60 rfl ?_ ?_
    · refine V_aload_n (pc := 65) hk dX2_behindOne_65 3 rfl ?_
      refine V_iconst (pc := 66) (v := 1) hk dX2_behindOne_66 rfl ?_
      refine n_X2_171 (pc := 67) hk (fun b r h => ctX2_settle (fl y) (fK y) hk.2.2.2.2.2.2.2.1 b 1 r5.2 r h) ⟨Nat.le_of_ble_eq_true rfl, Nat.le_of_ble_eq_true rfl⟩ (Nat.le_of_ble_eq_true rfl) dX2_behindOne_67 (fun r7 => ?_)
      refine V_iload_n (pc := 70) hk dX2_behindOne_70 0 rfl ?_
      refine V_if_le (pc := 71) (tgt := 96) hk dX2_behindOne_71 rfl ?_ ?_
      · refine V_aload_n (pc := 96) hk dX2_behindOne_96 3 rfl ?_
        refine V_dup (pc := 97) hk dX2_behindOne_97 (rf_cat _) ?_
        refine g_X2_144 (pc := 98) hk dX2_behindOne_98 (fun v9 => ?_)
        refine V_iconst (pc := 101) (v := 1) hk dX2_behindOne_101 rfl ?_
        refine V_isub (pc := 102) hk dX2_behindOne_102 ?_
        refine p_X2_144 (pc := 103) hk dX2_behindOne_103 (fun w10 => ?_)
        refine V_aload_n (pc := 106) hk dX2_behindOne_106 3 rfl ?_
        refine V_dup (pc := 107) hk dX2_behindOne_107 (rf_cat _) ?_
        refine g_X2_154 (pc := 108) hk dX2_behindOne_108 (fun v11 => ?_)
        refine V_iconst (pc := 111) (v := 1) hk dX2_behindOne_111 rfl ?_
        refine V_isub (pc := 112) hk dX2_behindOne_112 ?_
        refine p_X2_154 (pc := 113) hk dX2_behindOne_113 (fun w12 => ?_)
        refine V_iload_n (pc := 116) hk dX2_behindOne_116 1 rfl ?_
        refine V_bipush (pc := 117) (v := 43) hk dX2_behindOne_117 rfl ?_
        refine V_icmp_ne (pc := 119) (tgt := 128) hk dX2_behindOne_119 rfl ?_ ?_
        · refine V_pick (lc' := [(0, va_rf ((some this)))]) [3] rfl ?_
          exact eX2_behindOne_p128 hk hR w12 ((some this))
        · refine V_aload_n (pc := 122) hk dX2_behindOne_122 3 rfl ?_
          refine V_iconst (pc := 123) (v := 3) hk dX2_behindOne_123 rfl ?_
          refine V_iconst (pc := 124) (v := 0) hk dX2_behindOne_124 rfl ?_
          refine n_X2_150 (pc := 125) hk (fun b r h => ctX2_emit (fl y) (fK y) hk.2.2.2.2.2.2.2.1 b 3 0 w12 r h) ⟨Nat.le_of_ble_eq_true rfl, Nat.le_of_ble_eq_true rfl⟩ (Nat.le_of_ble_eq_true rfl) dX2_behindOne_125 (fun r13 => ?_)
          refine V_pick (lc' := [(0, va_rf ((some this)))]) [3] rfl ?_
          exact eX2_behindOne_p128 hk hR r13.2 ((some this))
      · refine V_aload_n (pc := 74) hk dX2_behindOne_74 3 rfl ?_
        refine g_X2_29 (pc := 75) hk dX2_behindOne_75 (fun v15 => ?_)
        refine V_aload_n (pc := 78) hk dX2_behindOne_78 3 rfl ?_
        refine n_X2_157 (pc := 79) hk (fun b r h => ctX2_openAt (fl y) (fK y) hk.2.2.2.2.2.2.2.1 b r7.2 r h) ⟨Nat.le_of_ble_eq_true rfl, Nat.le_of_ble_eq_true rfl⟩ (by simp [rf_cat, cat_int, cat_long, cat_ref]) dX2_behindOne_79 (fun r16 => ?_)
        refine V_iload_n (pc := 82) hk dX2_behindOne_82 0 rfl ?_
        refine V_iastore (pc := 83) hk dX2_behindOne_83 (fun w18 => ?_)
        refine V_aload_n (pc := 84) hk dX2_behindOne_84 3 rfl ?_
        refine V_iconst (pc := 85) (v := 0) hk dX2_behindOne_85 rfl ?_
        refine p_X2_167 (pc := 86) hk dX2_behindOne_86 (fun w19 => ?_)
        refine V_aload_n (pc := 89) hk dX2_behindOne_89 3 rfl ?_
        refine n_X2_164 (pc := 90) hk (fun b r h => ctX2_nextToken (fl y) (fK y) hk.2.2.2.2.2.2.2.1 b w19 r h) ⟨Nat.le_of_ble_eq_true rfl, Nat.le_of_ble_eq_true rfl⟩ (Nat.le_of_ble_eq_true rfl) dX2_behindOne_90 (fun r20 => ?_)
        refine V_goto (pc := 93) (tgt := 138) hk dX2_behindOne_93 rfl ?_
        refine V_iconst (pc := 138) (v := 1) hk dX2_behindOne_138 rfl ?_
        exact V_zreturn (pc := 139) hk hR rfl dX2_behindOne_139
    · refine V_iconst (pc := 63) (v := 0) hk dX2_behindOne_63 rfl ?_
      exact V_zreturn (pc := 64) hk hR rfl dX2_behindOne_64
  · refine V_aload_n (pc := 9) hk dX2_behindOne_9 1 rfl ?_
    refine V_iload_n (pc := 10) hk dX2_behindOne_10 0 rfl ?_
    refine n_X2_147 (pc := 11) hk (fun r h => ctX2_rank (fl y) (fK y) hk.2.2.2.2.2.2.2.1 r1.1 r1.2 r h) ⟨Nat.le_of_ble_eq_true rfl, Nat.le_of_ble_eq_true rfl⟩ (by simp [rf_cat, cat_int, cat_long, cat_ref]) dX2_behindOne_11 (fun r22 => ?_)
    refine n_X2_171 (pc := 14) hk (fun b r h => ctX2_settle (fl y) (fK y) hk.2.2.2.2.2.2.2.1 b r22.1 r22.2 r h) ⟨Nat.le_of_ble_eq_true rfl, Nat.le_of_ble_eq_true rfl⟩ (Nat.le_of_ble_eq_true rfl) dX2_behindOne_14 (fun r23 => ?_)
    refine V_aload_n (pc := 17) hk dX2_behindOne_17 1 rfl ?_
    refine g_X2_29 (pc := 18) hk dX2_behindOne_18 (fun v25 => ?_)
    refine V_aload_n (pc := 21) hk dX2_behindOne_21 1 rfl ?_
    refine g_X2_144 (pc := 22) hk dX2_behindOne_22 (fun v26 => ?_)
    refine V_iload_n (pc := 25) hk dX2_behindOne_25 0 rfl ?_
    refine V_iastore (pc := 26) hk dX2_behindOne_26 (fun w27 => ?_)
    refine V_aload_n (pc := 27) hk dX2_behindOne_27 1 rfl ?_
    refine V_dup (pc := 28) hk dX2_behindOne_28 (rf_cat _) ?_
    refine g_X2_144 (pc := 29) hk dX2_behindOne_29 (fun v28 => ?_)
    refine V_iconst (pc := 32) (v := 1) hk dX2_behindOne_32 rfl ?_
    refine V_iadd (pc := 33) hk dX2_behindOne_33 ?_
    refine p_X2_144 (pc := 34) hk dX2_behindOne_34 (fun w29 => ?_)
    refine V_aload_n (pc := 37) hk dX2_behindOne_37 1 rfl ?_
    refine V_iconst (pc := 38) (v := 0) hk dX2_behindOne_38 rfl ?_
    refine p_X2_167 (pc := 39) hk dX2_behindOne_39 (fun w30 => ?_)
    refine V_aload_n (pc := 42) hk dX2_behindOne_42 1 rfl ?_
    refine n_X2_164 (pc := 43) hk (fun b r h => ctX2_nextToken (fl y) (fK y) hk.2.2.2.2.2.2.2.1 b w30 r h) ⟨Nat.le_of_ble_eq_true rfl, Nat.le_of_ble_eq_true rfl⟩ (Nat.le_of_ble_eq_true rfl) dX2_behindOne_43 (fun r31 => ?_)
    refine V_iconst (pc := 46) (v := 1) hk dX2_behindOne_46 rfl ?_
    exact V_zreturn (pc := 47) hk hR rfl dX2_behindOne_47
theorem ctX2_behindOne (l : Launch) (K : Kx) (hI : Ini K) (b : Nat) (w : Wd) : ∀ r, mX2_behindOne b w = some r → Ct l K 6 147 yX2_behindOne (ws_ yX2_behindOne cX2_behindOne 4 (some (.boolean))) [.ref b] w (rvI r.1) r.2 := Ct_of rvI l K hI 6 147 [.ref b] w (by decide) (lc0 := [(0, .ref b)]) rfl (Nat.le_of_ble_eq_true rfl) (fun y hk hR _ _ hin => eX2_behindOne hk hR b w)
noncomputable def mX2_nameOf (this : Nat) (w : Wd) : Option (Int32 × Wd) :=
(gI w ((some this)) 2 9).bind fun v1 =>
if v1 = 2 then (
(gJ w ((some this)) 2 11).bind fun v2 =>
(cal w (mX2_w4 97 119 97 121 w)).bind fun r3 =>
if ¬ (lg_cmp v2 r3.1) = 0 then (
(gJ r3.2 ((some this)) 2 11).bind fun v4 =>
(cal r3.2 (mX2_w5 115 112 101 101 100 r3.2)).bind fun r5 =>
if ¬ (lg_cmp v4 r5.1) = 0 then (
(gJ r5.2 ((some this)) 2 11).bind fun v6 =>
(cal r5.2 (mX2_w4 112 97 99 101 r5.2)).bind fun r7 =>
if ¬ (lg_cmp v6 r7.1) = 0 then (
(gJ r7.2 ((some this)) 2 11).bind fun v8 =>
(cal r7.2 (mX2_w4 119 105 110 100 r7.2)).bind fun r9 =>
if ¬ (lg_cmp v8 r9.1) = 0 then (
(gJ r9.2 ((some this)) 2 11).bind fun v10 =>
(cal r9.2 (mX2_w4 103 111 97 108 r9.2)).bind fun r11 =>
if ¬ (lg_cmp v10 r11.1) = 0 then (
(gJ r11.2 ((some this)) 2 11).bind fun v12 =>
(cal r11.2 (mX2_w4 114 111 112 101 r11.2)).bind fun r13 =>
if ¬ (lg_cmp v12 r13.1) = 0 then (
(gJ r13.2 ((some this)) 2 11).bind fun v14 =>
(cal r13.2 (mX2_w6 119 101 105 103 104 116 r13.2)).bind fun r15 =>
if ¬ (lg_cmp v14 r15.1) = 0 then (
(gJ r15.2 ((some this)) 2 11).bind fun v16 =>
(cal r15.2 (mX2_w4 121 97 114 100 r15.2)).bind fun r17 =>
if ¬ (lg_cmp v16 r17.1) = 0 then (
some ((-1), r17.2))
else (
some (7, r17.2)))
else (
some (6, r15.2)))
else (
some (5, r13.2)))
else (
some (4, r11.2)))
else (
some (3, r9.2)))
else (
some (2, r7.2)))
else (
some (1, r5.2)))
else (
some (0, r3.2)))
else (
some ((-1), w))
theorem eX2_nameOf {y : Fx (Int32 × Wd)} (hk : OkF y RX2 cX2_nameOf 1 7 175) (hR : RetM y rvI (some (.int))) (this : Nat) (w : Wd) : V y w [(0, va_rf (some this))] [] 0 (mX2_nameOf this w) := by
  unfold mX2_nameOf
  refine V_aload_n (pc := 0) hk dX2_nameOf_0 0 rfl ?_
  refine g_X2_92 (pc := 1) hk dX2_nameOf_1 (fun v1 => ?_)
  refine V_iconst (pc := 4) (v := 2) hk dX2_nameOf_4 rfl ?_
  refine V_icmp_eq (pc := 5) (tgt := 10) hk dX2_nameOf_5 rfl ?_ ?_
  · refine V_aload_n (pc := 10) hk dX2_nameOf_10 0 rfl ?_
    refine g_X2_106 (pc := 11) hk dX2_nameOf_11 (fun v2 => ?_)
    refine V_bipush (pc := 14) (v := 97) hk dX2_nameOf_14 rfl ?_
    refine V_bipush (pc := 16) (v := 119) hk dX2_nameOf_16 rfl ?_
    refine V_bipush (pc := 18) (v := 97) hk dX2_nameOf_18 rfl ?_
    refine V_bipush (pc := 20) (v := 121) hk dX2_nameOf_20 rfl ?_
    refine n_X2_123 (pc := 22) hk (fun r h => ctX2_w4 (fl y) (fK y) hk.2.2.2.2.2.2.2.1 97 119 97 121 w r h) ⟨Nat.le_of_ble_eq_true rfl, Nat.le_of_ble_eq_true rfl⟩ (Nat.le_of_ble_eq_true rfl) dX2_nameOf_22 (fun r3 => ?_)
    refine V_lcmp (pc := 25) hk dX2_nameOf_25 ?_
    refine V_if_ne (pc := 26) (tgt := 31) hk dX2_nameOf_26 rfl ?_ ?_
    · refine V_aload_n (pc := 31) hk dX2_nameOf_31 0 rfl ?_
      refine g_X2_106 (pc := 32) hk dX2_nameOf_32 (fun v4 => ?_)
      refine V_bipush (pc := 35) (v := 115) hk dX2_nameOf_35 rfl ?_
      refine V_bipush (pc := 37) (v := 112) hk dX2_nameOf_37 rfl ?_
      refine V_bipush (pc := 39) (v := 101) hk dX2_nameOf_39 rfl ?_
      refine V_bipush (pc := 41) (v := 101) hk dX2_nameOf_41 rfl ?_
      refine V_bipush (pc := 43) (v := 100) hk dX2_nameOf_43 rfl ?_
      refine n_X2_127 (pc := 45) hk (fun r h => ctX2_w5 (fl y) (fK y) hk.2.2.2.2.2.2.2.1 115 112 101 101 100 r3.2 r h) ⟨Nat.le_of_ble_eq_true rfl, Nat.le_of_ble_eq_true rfl⟩ (Nat.le_of_ble_eq_true rfl) dX2_nameOf_45 (fun r5 => ?_)
      refine V_lcmp (pc := 48) hk dX2_nameOf_48 ?_
      refine V_if_ne (pc := 49) (tgt := 54) hk dX2_nameOf_49 rfl ?_ ?_
      · refine V_aload_n (pc := 54) hk dX2_nameOf_54 0 rfl ?_
        refine g_X2_106 (pc := 55) hk dX2_nameOf_55 (fun v6 => ?_)
        refine V_bipush (pc := 58) (v := 112) hk dX2_nameOf_58 rfl ?_
        refine V_bipush (pc := 60) (v := 97) hk dX2_nameOf_60 rfl ?_
        refine V_bipush (pc := 62) (v := 99) hk dX2_nameOf_62 rfl ?_
        refine V_bipush (pc := 64) (v := 101) hk dX2_nameOf_64 rfl ?_
        refine n_X2_123 (pc := 66) hk (fun r h => ctX2_w4 (fl y) (fK y) hk.2.2.2.2.2.2.2.1 112 97 99 101 r5.2 r h) ⟨Nat.le_of_ble_eq_true rfl, Nat.le_of_ble_eq_true rfl⟩ (Nat.le_of_ble_eq_true rfl) dX2_nameOf_66 (fun r7 => ?_)
        refine V_lcmp (pc := 69) hk dX2_nameOf_69 ?_
        refine V_if_ne (pc := 70) (tgt := 75) hk dX2_nameOf_70 rfl ?_ ?_
        · refine V_aload_n (pc := 75) hk dX2_nameOf_75 0 rfl ?_
          refine g_X2_106 (pc := 76) hk dX2_nameOf_76 (fun v8 => ?_)
          refine V_bipush (pc := 79) (v := 119) hk dX2_nameOf_79 rfl ?_
          refine V_bipush (pc := 81) (v := 105) hk dX2_nameOf_81 rfl ?_
          refine V_bipush (pc := 83) (v := 110) hk dX2_nameOf_83 rfl ?_
          refine V_bipush (pc := 85) (v := 100) hk dX2_nameOf_85 rfl ?_
          refine n_X2_123 (pc := 87) hk (fun r h => ctX2_w4 (fl y) (fK y) hk.2.2.2.2.2.2.2.1 119 105 110 100 r7.2 r h) ⟨Nat.le_of_ble_eq_true rfl, Nat.le_of_ble_eq_true rfl⟩ (Nat.le_of_ble_eq_true rfl) dX2_nameOf_87 (fun r9 => ?_)
          refine V_lcmp (pc := 90) hk dX2_nameOf_90 ?_
          refine V_if_ne (pc := 91) (tgt := 96) hk dX2_nameOf_91 rfl ?_ ?_
          · refine V_aload_n (pc := 96) hk dX2_nameOf_96 0 rfl ?_
            refine g_X2_106 (pc := 97) hk dX2_nameOf_97 (fun v10 => ?_)
            refine V_bipush (pc := 100) (v := 103) hk dX2_nameOf_100 rfl ?_
            refine V_bipush (pc := 102) (v := 111) hk dX2_nameOf_102 rfl ?_
            refine V_bipush (pc := 104) (v := 97) hk dX2_nameOf_104 rfl ?_
            refine V_bipush (pc := 106) (v := 108) hk dX2_nameOf_106 rfl ?_
            refine n_X2_123 (pc := 108) hk (fun r h => ctX2_w4 (fl y) (fK y) hk.2.2.2.2.2.2.2.1 103 111 97 108 r9.2 r h) ⟨Nat.le_of_ble_eq_true rfl, Nat.le_of_ble_eq_true rfl⟩ (Nat.le_of_ble_eq_true rfl) dX2_nameOf_108 (fun r11 => ?_)
            refine V_lcmp (pc := 111) hk dX2_nameOf_111 ?_
            refine V_if_ne (pc := 112) (tgt := 117) hk dX2_nameOf_112 rfl ?_ ?_
            · refine V_aload_n (pc := 117) hk dX2_nameOf_117 0 rfl ?_
              refine g_X2_106 (pc := 118) hk dX2_nameOf_118 (fun v12 => ?_)
              refine V_bipush (pc := 121) (v := 114) hk dX2_nameOf_121 rfl ?_
              refine V_bipush (pc := 123) (v := 111) hk dX2_nameOf_123 rfl ?_
              refine V_bipush (pc := 125) (v := 112) hk dX2_nameOf_125 rfl ?_
              refine V_bipush (pc := 127) (v := 101) hk dX2_nameOf_127 rfl ?_
              refine n_X2_123 (pc := 129) hk (fun r h => ctX2_w4 (fl y) (fK y) hk.2.2.2.2.2.2.2.1 114 111 112 101 r11.2 r h) ⟨Nat.le_of_ble_eq_true rfl, Nat.le_of_ble_eq_true rfl⟩ (Nat.le_of_ble_eq_true rfl) dX2_nameOf_129 (fun r13 => ?_)
              refine V_lcmp (pc := 132) hk dX2_nameOf_132 ?_
              refine V_if_ne (pc := 133) (tgt := 138) hk dX2_nameOf_133 rfl ?_ ?_
              · refine V_aload_n (pc := 138) hk dX2_nameOf_138 0 rfl ?_
                refine g_X2_106 (pc := 139) hk dX2_nameOf_139 (fun v14 => ?_)
                refine V_bipush (pc := 142) (v := 119) hk dX2_nameOf_142 rfl ?_
                refine V_bipush (pc := 144) (v := 101) hk dX2_nameOf_144 rfl ?_
                refine V_bipush (pc := 146) (v := 105) hk dX2_nameOf_146 rfl ?_
                refine V_bipush (pc := 148) (v := 103) hk dX2_nameOf_148 rfl ?_
                refine V_bipush (pc := 150) (v := 104) hk dX2_nameOf_150 rfl ?_
                refine V_bipush (pc := 152) (v := 116) hk dX2_nameOf_152 rfl ?_
                refine n_X2_137 (pc := 154) hk (fun r h => ctX2_w6 (fl y) (fK y) hk.2.2.2.2.2.2.2.1 119 101 105 103 104 116 r13.2 r h) ⟨Nat.le_of_ble_eq_true rfl, Nat.le_of_ble_eq_true rfl⟩ (Nat.le_of_ble_eq_true rfl) dX2_nameOf_154 (fun r15 => ?_)
                refine V_lcmp (pc := 157) hk dX2_nameOf_157 ?_
                refine V_if_ne (pc := 158) (tgt := 166) hk dX2_nameOf_158 rfl ?_ ?_
                · refine V_aload_n (pc := 166) hk dX2_nameOf_166 0 rfl ?_
                  refine g_X2_106 (pc := 167) hk dX2_nameOf_167 (fun v16 => ?_)
                  refine V_bipush (pc := 170) (v := 121) hk dX2_nameOf_170 rfl ?_
                  refine V_bipush (pc := 172) (v := 97) hk dX2_nameOf_172 rfl ?_
                  refine V_bipush (pc := 174) (v := 114) hk dX2_nameOf_174 rfl ?_
                  refine V_bipush (pc := 176) (v := 100) hk dX2_nameOf_176 rfl ?_
                  refine n_X2_123 (pc := 178) hk (fun r h => ctX2_w4 (fl y) (fK y) hk.2.2.2.2.2.2.2.1 121 97 114 100 r15.2 r h) ⟨Nat.le_of_ble_eq_true rfl, Nat.le_of_ble_eq_true rfl⟩ (Nat.le_of_ble_eq_true rfl) dX2_nameOf_178 (fun r17 => ?_)
                  refine V_lcmp (pc := 181) hk dX2_nameOf_181 ?_
                  refine V_if_ne (pc := 182) (tgt := 190) hk dX2_nameOf_182 rfl ?_ ?_
                  · refine V_iconst (pc := 190) (v := (-1)) hk dX2_nameOf_190 (by decide +kernel) ?_
                    exact V_ireturn (pc := 191) hk hR rfl dX2_nameOf_191
                  · refine V_bipush (pc := 185) (v := 7) hk dX2_nameOf_185 rfl ?_
                    refine V_goto (pc := 187) (tgt := 191) hk dX2_nameOf_187 rfl ?_
                    exact V_ireturn (pc := 191) hk hR rfl dX2_nameOf_191
                · refine V_bipush (pc := 161) (v := 6) hk dX2_nameOf_161 rfl ?_
                  refine V_goto (pc := 163) (tgt := 191) hk dX2_nameOf_163 rfl ?_
                  exact V_ireturn (pc := 191) hk hR rfl dX2_nameOf_191
              · refine V_iconst (pc := 136) (v := 5) hk dX2_nameOf_136 rfl ?_
                exact V_ireturn (pc := 137) hk hR rfl dX2_nameOf_137
            · refine V_iconst (pc := 115) (v := 4) hk dX2_nameOf_115 rfl ?_
              exact V_ireturn (pc := 116) hk hR rfl dX2_nameOf_116
          · refine V_iconst (pc := 94) (v := 3) hk dX2_nameOf_94 rfl ?_
            exact V_ireturn (pc := 95) hk hR rfl dX2_nameOf_95
        · refine V_iconst (pc := 73) (v := 2) hk dX2_nameOf_73 rfl ?_
          exact V_ireturn (pc := 74) hk hR rfl dX2_nameOf_74
      · refine V_iconst (pc := 52) (v := 1) hk dX2_nameOf_52 rfl ?_
        exact V_ireturn (pc := 53) hk hR rfl dX2_nameOf_53
    · refine V_iconst (pc := 29) (v := 0) hk dX2_nameOf_29 rfl ?_
      exact V_ireturn (pc := 30) hk hR rfl dX2_nameOf_30
  · refine V_iconst (pc := 8) (v := (-1)) hk dX2_nameOf_8 (by decide +kernel) ?_
    exact V_ireturn (pc := 9) hk hR rfl dX2_nameOf_9
theorem ctX2_nameOf (l : Launch) (K : Kx) (hI : Ini K) (b : Nat) (w : Wd) : ∀ r, mX2_nameOf b w = some r → Ct l K 7 175 yX2_nameOf (ws_ yX2_nameOf cX2_nameOf 1 (some (.int))) [.ref b] w (rvI r.1) r.2 := Ct_of rvI l K hI 7 175 [.ref b] w (by decide) (lc0 := [(0, .ref b)]) rfl (Nat.le_of_ble_eq_true rfl) (fun y hk hR _ _ hin => eX2_nameOf hk hR b w)
noncomputable def mX2_isOf (this : Nat) (a0 : Int32) (w : Wd) : Option (Int32 × Wd) :=
if 5 ≤ a0 then (
if 7 ≤ a0 then (
(gI w ((some this)) 2 14).bind fun v1 =>
if v1 < 3 then (
(nok (.boolean) 0).bind fun _ => some (0, w))
else (
(nok (.boolean) 1).bind fun _ => some (1, w)))
else (
(gI w ((some this)) 2 14).bind fun v2 =>
if v2 = 3 then (
(nok (.boolean) 0).bind fun _ => some (0, w))
else (
(nok (.boolean) 1).bind fun _ => some (1, w))))
else (
(gI w ((some this)) 2 14).bind fun v3 =>
if 2 < v3 then (
(nok (.boolean) 0).bind fun _ => some (0, w))
else (
(nok (.boolean) 1).bind fun _ => some (1, w)))
theorem eX2_isOf {y : Fx (Int32 × Wd)} (hk : OkF y RX2 cX2_isOf 2 2 60) (hR : RetM y rvI (some (.boolean))) (this : Nat) (a0 : Int32) (w : Wd) : V y w [(0, va_rf (some this)), (1, .int a0)] [] 0 (mX2_isOf this a0 w) := by
  unfold mX2_isOf
  refine V_iload_n (pc := 0) hk dX2_isOf_0 1 rfl ?_
  refine V_iconst (pc := 1) (v := 5) hk dX2_isOf_1 rfl ?_
  refine V_icmp_ge (pc := 2) (tgt := 21) hk dX2_isOf_2 rfl ?_ ?_
  · refine V_iload_n (pc := 21) hk dX2_isOf_21 1 rfl ?_
    refine V_bipush (pc := 22) (v := 7) hk dX2_isOf_22 rfl ?_
    refine V_icmp_ge (pc := 24) (tgt := 43) hk dX2_isOf_24 rfl ?_ ?_
    · refine V_aload_n (pc := 43) hk dX2_isOf_43 0 rfl ?_
      refine g_X2_141 (pc := 44) hk dX2_isOf_44 (fun v1 => ?_)
      refine V_iconst (pc := 47) (v := 3) hk dX2_isOf_47 rfl ?_
      refine V_icmp_lt (pc := 48) (tgt := 55) hk dX2_isOf_48 rfl ?_ ?_
      · refine V_iconst (pc := 55) (v := 0) hk dX2_isOf_55 rfl ?_
        exact V_zreturn (pc := 56) hk hR rfl dX2_isOf_56
      · refine V_iconst (pc := 51) (v := 1) hk dX2_isOf_51 rfl ?_
        refine V_goto (pc := 52) (tgt := 56) hk dX2_isOf_52 rfl ?_
        exact V_zreturn (pc := 56) hk hR rfl dX2_isOf_56
    · refine V_aload_n (pc := 27) hk dX2_isOf_27 0 rfl ?_
      refine g_X2_141 (pc := 28) hk dX2_isOf_28 (fun v2 => ?_)
      refine V_iconst (pc := 31) (v := 3) hk dX2_isOf_31 rfl ?_
      refine V_icmp_eq (pc := 32) (tgt := 39) hk dX2_isOf_32 rfl ?_ ?_
      · refine V_iconst (pc := 39) (v := 0) hk dX2_isOf_39 rfl ?_
        refine V_goto (pc := 40) (tgt := 56) hk dX2_isOf_40 rfl ?_
        exact V_zreturn (pc := 56) hk hR rfl dX2_isOf_56
      · refine V_iconst (pc := 35) (v := 1) hk dX2_isOf_35 rfl ?_
        refine V_goto (pc := 36) (tgt := 56) hk dX2_isOf_36 rfl ?_
        exact V_zreturn (pc := 56) hk hR rfl dX2_isOf_56
  · refine V_aload_n (pc := 5) hk dX2_isOf_5 0 rfl ?_
    refine g_X2_141 (pc := 6) hk dX2_isOf_6 (fun v3 => ?_)
    refine V_iconst (pc := 9) (v := 2) hk dX2_isOf_9 rfl ?_
    refine V_icmp_gt (pc := 10) (tgt := 17) hk dX2_isOf_10 rfl ?_ ?_
    · refine V_iconst (pc := 17) (v := 0) hk dX2_isOf_17 rfl ?_
      refine V_goto (pc := 18) (tgt := 56) hk dX2_isOf_18 rfl ?_
      exact V_zreturn (pc := 56) hk hR rfl dX2_isOf_56
    · refine V_iconst (pc := 13) (v := 1) hk dX2_isOf_13 rfl ?_
      refine V_goto (pc := 14) (tgt := 56) hk dX2_isOf_14 rfl ?_
      exact V_zreturn (pc := 56) hk hR rfl dX2_isOf_56
theorem ctX2_isOf (l : Launch) (K : Kx) (hI : Ini K) (b : Nat) (a0 : Int32) (w : Wd) : ∀ r, mX2_isOf b a0 w = some r → Ct l K 2 60 yX2_isOf (ws_ yX2_isOf cX2_isOf 2 (some (.boolean))) [.ref b, .int a0] w (rvI r.1) r.2 := Ct_of rvI l K hI 2 60 [.ref b, .int a0] w (by decide) (lc0 := [(0, .ref b), (1, .int a0)]) rfl (Nat.le_of_ble_eq_true rfl) (fun y hk hR _ _ hin => eX2_isOf hk hR b a0 w)
noncomputable def mX2_one (this : Nat) (a0 : Int32) (a1 : Int32) (w : Wd) : Option (Unit × Wd) :=
(recv w ((some this)) 2).bind fun b2 => (cal w (mX2_emit b2 a0 a1 w)).bind fun r1 =>
(recv r1.2 ((some this)) 2).bind fun b4 => (cal r1.2 (mX2_nextToken b4 r1.2)).bind fun r3 =>
(zok 1).bind fun _ => (pf r3.2 ((some this)) 2 18 (.int 1)).bind fun w5 =>
(recv w5 ((some this)) 2).bind fun b7 => (cal w5 (mX2_settle b7 7 w5)).bind fun r6 =>
some ((), r6.2)
theorem eX2_one {y : Fx (Unit × Wd)} (hk : OkF y RX2 cX2_one 3 4 103) (hR : RetM y rvV none) (this : Nat) (a0 : Int32) (a1 : Int32) (w : Wd) : V y w [(0, va_rf (some this)), (1, .int a0), (2, .int a1)] [] 0 (mX2_one this a0 a1 w) := by
  unfold mX2_one
  refine V_aload_n (pc := 0) hk dX2_one_0 0 rfl ?_
  refine V_iload_n (pc := 1) hk dX2_one_1 1 rfl ?_
  refine V_iload_n (pc := 2) hk dX2_one_2 2 rfl ?_
  refine n_X2_150 (pc := 3) hk (fun b r h => ctX2_emit (fl y) (fK y) hk.2.2.2.2.2.2.2.1 b a0 a1 w r h) ⟨Nat.le_of_ble_eq_true rfl, Nat.le_of_ble_eq_true rfl⟩ (Nat.le_of_ble_eq_true rfl) dX2_one_3 (fun r1 => ?_)
  refine V_aload_n (pc := 6) hk dX2_one_6 0 rfl ?_
  refine n_X2_164 (pc := 7) hk (fun b r h => ctX2_nextToken (fl y) (fK y) hk.2.2.2.2.2.2.2.1 b r1.2 r h) ⟨Nat.le_of_ble_eq_true rfl, Nat.le_of_ble_eq_true rfl⟩ (Nat.le_of_ble_eq_true rfl) dX2_one_7 (fun r3 => ?_)
  refine V_aload_n (pc := 10) hk dX2_one_10 0 rfl ?_
  refine V_iconst (pc := 11) (v := 1) hk dX2_one_11 rfl ?_
  refine p_X2_167 (pc := 12) hk dX2_one_12 (fun w5 => ?_)
  refine V_aload_n (pc := 15) hk dX2_one_15 0 rfl ?_
  refine V_bipush (pc := 16) (v := 7) hk dX2_one_16 rfl ?_
  refine n_X2_171 (pc := 18) hk (fun b r h => ctX2_settle (fl y) (fK y) hk.2.2.2.2.2.2.2.1 b 7 w5 r h) ⟨Nat.le_of_ble_eq_true rfl, Nat.le_of_ble_eq_true rfl⟩ (Nat.le_of_ble_eq_true rfl) dX2_one_18 (fun r6 => ?_)
  exact V_return (pc := 21) hk hR rfl dX2_one_21
theorem ctX2_one (l : Launch) (K : Kx) (hI : Ini K) (b : Nat) (a0 : Int32) (a1 : Int32) (w : Wd) : ∀ r, mX2_one b a0 a1 w = some r → Ct l K 4 103 yX2_one (ws_ yX2_one cX2_one 3 none) [.ref b, .int a0, .int a1] w (rvV r.1) r.2 := Ct_of rvV l K hI 4 103 [.ref b, .int a0, .int a1] w (by decide) (lc0 := [(0, .ref b), (1, .int a0), (2, .int a1)]) rfl (Nat.le_of_ble_eq_true rfl) (fun y hk hR _ _ hin => eX2_one hk hR b a0 a1 w)
noncomputable def mX2_agoOne (this : Nat) (w : Wd) : Option (Int32 × Wd) :=
(recv w ((some this)) 2).bind fun b2 => (cal w (mX2_nextToken b2 w)).bind fun r1 =>
(gI r1.2 ((some this)) 2 9).bind fun v3 =>
if v3 = 1 then (
(gI r1.2 ((some this)) 2 10).bind fun v4 =>
(cal r1.2 (mX2_isIn v4 1 9 r1.2)).bind fun r5 =>
if ¬ r5.1 = 0 then (
(gI r5.2 ((some this)) 2 10).bind fun v6 =>
(recv r5.2 ((some this)) 2).bind fun b8 => (cal r5.2 (mX2_nextToken b8 r5.2)).bind fun r7 =>
(recv r7.2 ((some this)) 2).bind fun b10 => (cal r7.2 (mX2_nameOf b10 r7.2)).bind fun r9 =>
if 0 ≤ r9.1 then (
if 4 < r9.1 then (
some (5, r9.2))
else (
(recv r9.2 ((some this)) 2).bind fun b12 => (cal r9.2 (mX2_isOf b12 r9.1 r9.2)).bind fun r11 =>
if ¬ r11.1 = 0 then (
(recv r11.2 ((some this)) 2).bind fun b14 => (cal r11.2 (mX2_one b14 2 ((10 * v6) + r9.1) r11.2)).bind fun r13 =>
some (0, r13.2))
else (
some (5, r11.2))))
else (
some (1, r9.2)))
else (
some (2, r5.2)))
else (
some (1, r1.2))
theorem eX2_agoOne {y : Fx (Int32 × Wd)} (hk : OkF y RX2 cX2_agoOne 3 8 195) (hR : RetM y rvI (some (.int))) (this : Nat) (w : Wd) : V y w [(0, va_rf (some this))] [] 0 (mX2_agoOne this w) := by
  unfold mX2_agoOne
  refine V_aload_n (pc := 0) hk dX2_agoOne_0 0 rfl ?_
  refine n_X2_164 (pc := 1) hk (fun b r h => ctX2_nextToken (fl y) (fK y) hk.2.2.2.2.2.2.2.1 b w r h) ⟨Nat.le_of_ble_eq_true rfl, Nat.le_of_ble_eq_true rfl⟩ (Nat.le_of_ble_eq_true rfl) dX2_agoOne_1 (fun r1 => ?_)
  refine V_aload_n (pc := 4) hk dX2_agoOne_4 0 rfl ?_
  refine g_X2_92 (pc := 5) hk dX2_agoOne_5 (fun v3 => ?_)
  refine V_iconst (pc := 8) (v := 1) hk dX2_agoOne_8 rfl ?_
  refine V_icmp_eq (pc := 9) (tgt := 14) hk dX2_agoOne_9 rfl ?_ ?_
  · refine V_aload_n (pc := 14) hk dX2_agoOne_14 0 rfl ?_
    refine g_X2_99 (pc := 15) hk dX2_agoOne_15 (fun v4 => ?_)
    refine V_iconst (pc := 18) (v := 1) hk dX2_agoOne_18 rfl ?_
    refine V_bipush (pc := 19) (v := 9) hk dX2_agoOne_19 rfl ?_
    refine n_X2_71 (pc := 21) hk (fun r h => ctX2_isIn (fl y) (fK y) hk.2.2.2.2.2.2.2.1 v4 1 9 r1.2 r h) ⟨Nat.le_of_ble_eq_true rfl, Nat.le_of_ble_eq_true rfl⟩ (Nat.le_of_ble_eq_true rfl) dX2_agoOne_21 (fun r5 => ?_)
    refine V_if_ne (pc := 24) (tgt := 29) hk dX2_agoOne_24 rfl ?_ ?_
    · refine V_aload_n (pc := 29) hk dX2_agoOne_29 0 rfl ?_
      refine g_X2_99 (pc := 30) hk dX2_agoOne_30 (fun v6 => ?_)
      refine V_istore_n (pc := 33) (lc' := [(1, .int v6), (0, va_rf ((some this)))]) (i := 1) hk dX2_agoOne_33 rfl (Nat.le_of_ble_eq_true rfl) (by simp [rf_cat, cat_int, cat_long, cat_ref]) ?_
      refine V_aload_n (pc := 34) hk dX2_agoOne_34 1 rfl ?_
      refine n_X2_164 (pc := 35) hk (fun b r h => ctX2_nextToken (fl y) (fK y) hk.2.2.2.2.2.2.2.1 b r5.2 r h) ⟨Nat.le_of_ble_eq_true rfl, Nat.le_of_ble_eq_true rfl⟩ (Nat.le_of_ble_eq_true rfl) dX2_agoOne_35 (fun r7 => ?_)
      refine V_aload_n (pc := 38) hk dX2_agoOne_38 1 rfl ?_
      refine n_X2_174 (pc := 39) hk (fun b r h => ctX2_nameOf (fl y) (fK y) hk.2.2.2.2.2.2.2.1 b r7.2 r h) ⟨Nat.le_of_ble_eq_true rfl, Nat.le_of_ble_eq_true rfl⟩ (Nat.le_of_ble_eq_true rfl) dX2_agoOne_39 (fun r9 => ?_)
      refine V_istore_n (pc := 42) (lc' := [(2, .int r9.1), (1, .int v6), (0, va_rf ((some this)))]) (i := 2) hk dX2_agoOne_42 rfl (Nat.le_of_ble_eq_true rfl) rfl ?_
      refine V_iload_n (pc := 43) hk dX2_agoOne_43 0 rfl ?_
      refine V_if_ge (pc := 44) (tgt := 49) hk dX2_agoOne_44 rfl ?_ ?_
      · refine V_iload_n (pc := 49) hk dX2_agoOne_49 0 rfl ?_
        refine V_iconst (pc := 50) (v := 4) hk dX2_agoOne_50 rfl ?_
        refine V_icmp_gt (pc := 51) (tgt := 62) hk dX2_agoOne_51 rfl ?_ ?_
        · refine V_iconst (pc := 62) (v := 5) hk dX2_agoOne_62 rfl ?_
          exact V_ireturn (pc := 63) hk hR rfl dX2_agoOne_63
        · refine V_aload_n (pc := 54) hk dX2_agoOne_54 2 rfl ?_
          refine V_iload_n (pc := 55) hk dX2_agoOne_55 0 rfl ?_
          refine n_X2_177 (pc := 56) hk (fun b r h => ctX2_isOf (fl y) (fK y) hk.2.2.2.2.2.2.2.1 b r9.1 r9.2 r h) ⟨Nat.le_of_ble_eq_true rfl, Nat.le_of_ble_eq_true rfl⟩ (Nat.le_of_ble_eq_true rfl) dX2_agoOne_56 (fun r11 => ?_)
          refine V_if_ne (pc := 59) (tgt := 64) hk dX2_agoOne_59 rfl ?_ ?_
          · refine V_aload_n (pc := 64) hk dX2_agoOne_64 2 rfl ?_
            refine V_iconst (pc := 65) (v := 2) hk dX2_agoOne_65 rfl ?_
            refine V_bipush (pc := 66) (v := 10) hk dX2_agoOne_66 rfl ?_
            refine V_iload_n (pc := 68) hk dX2_agoOne_68 1 rfl ?_
            refine V_imul (pc := 69) hk dX2_agoOne_69 ?_
            refine V_iload_n (pc := 70) hk dX2_agoOne_70 0 rfl ?_
            refine V_iadd (pc := 71) hk dX2_agoOne_71 ?_
            refine n_X2_180 (pc := 72) hk (fun b r h => ctX2_one (fl y) (fK y) hk.2.2.2.2.2.2.2.1 b 2 ((10 * v6) + r9.1) r11.2 r h) ⟨Nat.le_of_ble_eq_true rfl, Nat.le_of_ble_eq_true rfl⟩ (Nat.le_of_ble_eq_true rfl) dX2_agoOne_72 (fun r13 => ?_)
            refine V_iconst (pc := 75) (v := 0) hk dX2_agoOne_75 rfl ?_
            exact V_ireturn (pc := 76) hk hR rfl dX2_agoOne_76
          · refine V_iconst (pc := 62) (v := 5) hk dX2_agoOne_62 rfl ?_
            exact V_ireturn (pc := 63) hk hR rfl dX2_agoOne_63
      · refine V_iconst (pc := 47) (v := 1) hk dX2_agoOne_47 rfl ?_
        exact V_ireturn (pc := 48) hk hR rfl dX2_agoOne_48
    · refine V_iconst (pc := 27) (v := 2) hk dX2_agoOne_27 rfl ?_
      exact V_ireturn (pc := 28) hk hR rfl dX2_agoOne_28
  · refine V_iconst (pc := 12) (v := 1) hk dX2_agoOne_12 rfl ?_
    exact V_ireturn (pc := 13) hk hR rfl dX2_agoOne_13
theorem ctX2_agoOne (l : Launch) (K : Kx) (hI : Ini K) (b : Nat) (w : Wd) : ∀ r, mX2_agoOne b w = some r → Ct l K 8 195 yX2_agoOne (ws_ yX2_agoOne cX2_agoOne 3 (some (.int))) [.ref b] w (rvI r.1) r.2 := Ct_of rvI l K hI 8 195 [.ref b] w (by decide) (lc0 := [(0, .ref b)]) rfl (Nat.le_of_ble_eq_true rfl) (fun y hk hR _ _ hin => eX2_agoOne hk hR b w)
noncomputable def mX2_opened (this : Nat) (a0 : Int32) (w : Wd) : Option (Int32 × Wd) :=
(gI w ((some this)) 2 17).bind fun v1 =>
if ¬ v1 = 8 then (
(gI w ((some this)) 2 17).bind fun v2 =>
(pf w ((some this)) 2 17 (.int (v2 + 1))).bind fun w3 =>
(gR w3 ((some this)) 2 15).bind fun v4 =>
(gI w3 ((some this)) 2 16).bind fun v5 =>
(ias w3 v4 v5 a0).bind fun w6 =>
(gI w6 ((some this)) 2 16).bind fun v7 =>
(pf w6 ((some this)) 2 16 (.int (v7 + 1))).bind fun w8 =>
(recv w8 ((some this)) 2).bind fun b10 => (cal w8 (mX2_nextToken b10 w8)).bind fun r9 =>
some (0, r9.2))
else (
some (3, w))
theorem eX2_opened {y : Fx (Int32 × Wd)} (hk : OkF y RX2 cX2_opened 2 4 102) (hR : RetM y rvI (some (.int))) (this : Nat) (a0 : Int32) (w : Wd) : V y w [(0, va_rf (some this)), (1, .int a0)] [] 0 (mX2_opened this a0 w) := by
  unfold mX2_opened
  refine V_aload_n (pc := 0) hk dX2_opened_0 0 rfl ?_
  refine g_X2_154 (pc := 1) hk dX2_opened_1 (fun v1 => ?_)
  refine V_bipush (pc := 4) (v := 8) hk dX2_opened_4 rfl ?_
  refine V_icmp_ne (pc := 6) (tgt := 11) hk dX2_opened_6 rfl ?_ ?_
  · refine V_aload_n (pc := 11) hk dX2_opened_11 0 rfl ?_
    refine V_dup (pc := 12) hk dX2_opened_12 (rf_cat _) ?_
    refine g_X2_154 (pc := 13) hk dX2_opened_13 (fun v2 => ?_)
    refine V_iconst (pc := 16) (v := 1) hk dX2_opened_16 rfl ?_
    refine V_iadd (pc := 17) hk dX2_opened_17 ?_
    refine p_X2_154 (pc := 18) hk dX2_opened_18 (fun w3 => ?_)
    refine V_aload_n (pc := 21) hk dX2_opened_21 0 rfl ?_
    refine g_X2_29 (pc := 22) hk dX2_opened_22 (fun v4 => ?_)
    refine V_aload_n (pc := 25) hk dX2_opened_25 0 rfl ?_
    refine g_X2_144 (pc := 26) hk dX2_opened_26 (fun v5 => ?_)
    refine V_iload_n (pc := 29) hk dX2_opened_29 1 rfl ?_
    refine V_iastore (pc := 30) hk dX2_opened_30 (fun w6 => ?_)
    refine V_aload_n (pc := 31) hk dX2_opened_31 0 rfl ?_
    refine V_dup (pc := 32) hk dX2_opened_32 (rf_cat _) ?_
    refine g_X2_144 (pc := 33) hk dX2_opened_33 (fun v7 => ?_)
    refine V_iconst (pc := 36) (v := 1) hk dX2_opened_36 rfl ?_
    refine V_iadd (pc := 37) hk dX2_opened_37 ?_
    refine p_X2_144 (pc := 38) hk dX2_opened_38 (fun w8 => ?_)
    refine V_aload_n (pc := 41) hk dX2_opened_41 0 rfl ?_
    refine n_X2_164 (pc := 42) hk (fun b r h => ctX2_nextToken (fl y) (fK y) hk.2.2.2.2.2.2.2.1 b w8 r h) ⟨Nat.le_of_ble_eq_true rfl, Nat.le_of_ble_eq_true rfl⟩ (Nat.le_of_ble_eq_true rfl) dX2_opened_42 (fun r9 => ?_)
    refine V_iconst (pc := 45) (v := 0) hk dX2_opened_45 rfl ?_
    exact V_ireturn (pc := 46) hk hR rfl dX2_opened_46
  · refine V_iconst (pc := 9) (v := 3) hk dX2_opened_9 rfl ?_
    exact V_ireturn (pc := 10) hk hR rfl dX2_opened_10
theorem ctX2_opened (l : Launch) (K : Kx) (hI : Ini K) (b : Nat) (a0 : Int32) (w : Wd) : ∀ r, mX2_opened b a0 w = some r → Ct l K 4 102 yX2_opened (ws_ yX2_opened cX2_opened 2 (some (.int))) [.ref b, .int a0] w (rvI r.1) r.2 := Ct_of rvI l K hI 4 102 [.ref b, .int a0] w (by decide) (lc0 := [(0, .ref b), (1, .int a0)]) rfl (Nat.le_of_ble_eq_true rfl) (fun y hk hR _ _ hin => eX2_opened hk hR b a0 w)
noncomputable def mX2_isAskAhead (this : Nat) (w : Wd) : Option (Int32 × Wd) :=
(recv w ((some this)) 2).bind fun b2 => (cal w (mX2_openNow b2 w)).bind fun r1 =>
if ¬ r1.1 = 41 then (
(nok (.boolean) 0).bind fun _ => some (0, r1.2))
else (
(gR r1.2 ((some this)) 2 15).bind fun v3 =>
(gI r1.2 ((some this)) 2 16).bind fun v4 =>
(ia r1.2 v3 (v4 - 1)).bind fun v5 =>
if v5 = 41 then (
(nok (.boolean) 1).bind fun _ => some (1, r1.2))
else (
(gR r1.2 ((some this)) 2 15).bind fun v6 =>
(gI r1.2 ((some this)) 2 16).bind fun v7 =>
(ia r1.2 v6 (v7 - 1)).bind fun v8 =>
(cal r1.2 (mX2_rank v8 r1.2)).bind fun r9 =>
(cal r9.2 (mX2_isIn r9.1 1 3 r9.2)).bind fun r10 =>
if r10.1 = 0 then (
(nok (.boolean) 0).bind fun _ => some (0, r10.2))
else (
(nok (.boolean) 1).bind fun _ => some (1, r10.2))))
theorem eX2_isAskAhead {y : Fx (Int32 × Wd)} (hk : OkF y RX2 cX2_isAskAhead 1 4 101) (hR : RetM y rvI (some (.boolean))) (this : Nat) (w : Wd) : V y w [(0, va_rf (some this))] [] 0 (mX2_isAskAhead this w) := by
  unfold mX2_isAskAhead
  refine V_aload_n (pc := 0) hk dX2_isAskAhead_0 0 rfl ?_
  refine n_X2_161 (pc := 1) hk (fun b r h => ctX2_openNow (fl y) (fK y) hk.2.2.2.2.2.2.2.1 b w r h) ⟨Nat.le_of_ble_eq_true rfl, Nat.le_of_ble_eq_true rfl⟩ (Nat.le_of_ble_eq_true rfl) dX2_isAskAhead_1 (fun r1 => ?_)
  refine V_bipush (pc := 4) (v := 41) hk dX2_isAskAhead_4 rfl ?_
  refine V_icmp_ne (pc := 6) (tgt := 51) hk dX2_isAskAhead_6 rfl ?_ ?_
  · refine V_iconst (pc := 51) (v := 0) hk dX2_isAskAhead_51 rfl ?_
    exact V_zreturn (pc := 52) hk hR rfl dX2_isAskAhead_52
  · refine V_aload_n (pc := 9) hk dX2_isAskAhead_9 0 rfl ?_
    refine g_X2_29 (pc := 10) hk dX2_isAskAhead_10 (fun v3 => ?_)
    refine V_aload_n (pc := 13) hk dX2_isAskAhead_13 0 rfl ?_
    refine g_X2_144 (pc := 14) hk dX2_isAskAhead_14 (fun v4 => ?_)
    refine V_iconst (pc := 17) (v := 1) hk dX2_isAskAhead_17 rfl ?_
    refine V_isub (pc := 18) hk dX2_isAskAhead_18 ?_
    refine V_iaload (pc := 19) hk dX2_isAskAhead_19 (fun v5 => ?_)
    refine V_bipush (pc := 20) (v := 41) hk dX2_isAskAhead_20 rfl ?_
    refine V_icmp_eq (pc := 22) (tgt := 47) hk dX2_isAskAhead_22 rfl ?_ ?_
    · refine V_iconst (pc := 47) (v := 1) hk dX2_isAskAhead_47 rfl ?_
      refine V_goto (pc := 48) (tgt := 52) hk dX2_isAskAhead_48 rfl ?_
      exact V_zreturn (pc := 52) hk hR rfl dX2_isAskAhead_52
    · refine V_aload_n (pc := 25) hk dX2_isAskAhead_25 0 rfl ?_
      refine g_X2_29 (pc := 26) hk dX2_isAskAhead_26 (fun v6 => ?_)
      refine V_aload_n (pc := 29) hk dX2_isAskAhead_29 0 rfl ?_
      refine g_X2_144 (pc := 30) hk dX2_isAskAhead_30 (fun v7 => ?_)
      refine V_iconst (pc := 33) (v := 1) hk dX2_isAskAhead_33 rfl ?_
      refine V_isub (pc := 34) hk dX2_isAskAhead_34 ?_
      refine V_iaload (pc := 35) hk dX2_isAskAhead_35 (fun v8 => ?_)
      refine n_X2_147 (pc := 36) hk (fun r h => ctX2_rank (fl y) (fK y) hk.2.2.2.2.2.2.2.1 v8 r1.2 r h) ⟨Nat.le_of_ble_eq_true rfl, Nat.le_of_ble_eq_true rfl⟩ (Nat.le_of_ble_eq_true rfl) dX2_isAskAhead_36 (fun r9 => ?_)
      refine V_iconst (pc := 39) (v := 1) hk dX2_isAskAhead_39 rfl ?_
      refine V_iconst (pc := 40) (v := 3) hk dX2_isAskAhead_40 rfl ?_
      refine n_X2_71 (pc := 41) hk (fun r h => ctX2_isIn (fl y) (fK y) hk.2.2.2.2.2.2.2.1 r9.1 1 3 r9.2 r h) ⟨Nat.le_of_ble_eq_true rfl, Nat.le_of_ble_eq_true rfl⟩ (Nat.le_of_ble_eq_true rfl) dX2_isAskAhead_41 (fun r10 => ?_)
      refine V_if_eq (pc := 44) (tgt := 51) hk dX2_isAskAhead_44 rfl ?_ ?_
      · refine V_iconst (pc := 51) (v := 0) hk dX2_isAskAhead_51 rfl ?_
        exact V_zreturn (pc := 52) hk hR rfl dX2_isAskAhead_52
      · refine V_iconst (pc := 47) (v := 1) hk dX2_isAskAhead_47 rfl ?_
        refine V_goto (pc := 48) (tgt := 52) hk dX2_isAskAhead_48 rfl ?_
        exact V_zreturn (pc := 52) hk hR rfl dX2_isAskAhead_52
theorem ctX2_isAskAhead (l : Launch) (K : Kx) (hI : Ini K) (b : Nat) (w : Wd) : ∀ r, mX2_isAskAhead b w = some r → Ct l K 4 101 yX2_isAskAhead (ws_ yX2_isAskAhead cX2_isAskAhead 1 (some (.boolean))) [.ref b] w (rvI r.1) r.2 := Ct_of rvI l K hI 4 101 [.ref b] w (by decide) (lc0 := [(0, .ref b)]) rfl (Nat.le_of_ble_eq_true rfl) (fun y hk hR _ _ hin => eX2_isAskAhead hk hR b w)
noncomputable def mX2_beginOne_p81 (w : Wd) (t0 : Int32) (t1 : Int32) (t2 : Option Nat) : Option (Int32 × Wd) :=
(recv w t2 2).bind fun b2 => (cal w (mX2_one b2 t1 t0 w)).bind fun r1 =>
some (0, r1.2)
noncomputable def mX2_beginOne_p65 (w : Wd) (l0 : Option Nat) (l1 : Int32) (t0 : Int32) (t1 : Option Nat) : Option (Int32 × Wd) :=
(gI w l0 2 9).bind fun v1 =>
if ¬ v1 = 1 then (
mX2_beginOne_p81 w l1 t0 t1)
else (
(gI w l0 2 10).bind fun v2 =>
mX2_beginOne_p81 w v2 t0 t1)
noncomputable def mX2_beginOne_p51 (w : Wd) (l0 : Option Nat) (l1 : Int32) : Option (Int32 × Wd) :=
(gI w l0 2 9).bind fun v1 =>
if ¬ v1 = 1 then (
mX2_beginOne_p65 w l0 l1 1 l0)
else (
mX2_beginOne_p65 w l0 l1 0 l0)
noncomputable def mX2_beginOne_p39 (w : Wd) (l0 : Option Nat) (l1 : Int32) : Option (Int32 × Wd) :=
(gI w l0 2 9).bind fun v1 =>
if v1 = 1 then (
mX2_beginOne_p51 w l0 l1)
else (
if l1 < 0 then (
(cal w (mX2_w3 97 103 111 w)).bind fun r2 =>
(recv r2.2 l0 2).bind fun b4 => (cal r2.2 (mX2_isWord b4 r2.1 r2.2)).bind fun r3 =>
if r3.1 = 0 then (
(gI r3.2 l0 2 9).bind fun v5 =>
if ¬ v5 = 40 then (
(gI r3.2 l0 2 9).bind fun v6 =>
if ¬ v6 = 45 then (
(cal r3.2 (mX2_w4 115 105 122 101 r3.2)).bind fun r7 =>
(recv r7.2 l0 2).bind fun b9 => (cal r7.2 (mX2_isWord b9 r7.1 r7.2)).bind fun r8 =>
if r8.1 = 0 then (
(cal r8.2 (mX2_w2 105 102 r8.2)).bind fun r10 =>
(recv r10.2 l0 2).bind fun b12 => (cal r10.2 (mX2_isWord b12 r10.1 r10.2)).bind fun r11 =>
if r11.1 = 0 then (
(cal r11.2 (mX2_w3 110 111 116 r11.2)).bind fun r13 =>
(recv r13.2 l0 2).bind fun b15 => (cal r13.2 (mX2_isWord b15 r13.1 r13.2)).bind fun r14 =>
if r14.1 = 0 then (
some (1, r14.2))
else (
(recv r14.2 l0 2).bind fun b17 => (cal r14.2 (mX2_isAskAhead b17 r14.2)).bind fun r16 =>
if r16.1 = 0 then (
some (1, r16.2))
else (
(recv r16.2 l0 2).bind fun b19 => (cal r16.2 (mX2_opened b19 20 r16.2)).bind fun r18 =>
some (r18.1, r18.2))))
else (
(recv r11.2 l0 2).bind fun b21 => (cal r11.2 (mX2_opened b21 41 r11.2)).bind fun r20 =>
some (r20.1, r20.2)))
else (
(recv r8.2 l0 2).bind fun b23 => (cal r8.2 (mX2_opened b23 5 r8.2)).bind fun r22 =>
some (r22.1, r22.2)))
else (
(recv r3.2 l0 2).bind fun b25 => (cal r3.2 (mX2_opened b25 4 r3.2)).bind fun r24 =>
some (r24.1, r24.2)))
else (
(recv r3.2 l0 2).bind fun b27 => (cal r3.2 (mX2_opened b27 40 r3.2)).bind fun r26 =>
some (r26.1, r26.2)))
else (
(recv r3.2 l0 2).bind fun b29 => (cal r3.2 (mX2_agoOne b29 r3.2)).bind fun r28 =>
some (r28.1, r28.2)))
else (
mX2_beginOne_p51 w l0 l1))
noncomputable def mX2_beginOne_p20 (w : Wd) (l0 : Option Nat) : Option (Int32 × Wd) :=
(recv w l0 2).bind fun b2 => (cal w (mX2_nameOf b2 w)).bind fun r1 =>
if r1.1 < 0 then (
mX2_beginOne_p39 r1.2 l0 r1.1)
else (
(recv r1.2 l0 2).bind fun b4 => (cal r1.2 (mX2_isOf b4 r1.1 r1.2)).bind fun r3 =>
if ¬ r3.1 = 0 then (
mX2_beginOne_p39 r3.2 l0 r1.1)
else (
some (5, r3.2)))
noncomputable def mX2_beginOne (this : Nat) (w : Wd) : Option (Int32 × Wd) :=
(gI w ((some this)) 2 9).bind fun v1 =>
if ¬ v1 = 1 then (
mX2_beginOne_p20 w ((some this)))
else (
(gI w ((some this)) 2 10).bind fun v2 =>
if v2 ≤ 9999 then (
mX2_beginOne_p20 w ((some this)))
else (
some (2, w)))
theorem eX2_beginOne_p81 {y : Fx (Int32 × Wd)} (hk : OkF y RX2 cX2_beginOne 2 9 217) (hR : RetM y rvI (some (.int))) (w : Wd) (t0 : Int32) (t1 : Int32) (t2 : Option Nat) : V y w [] [.int t0, .int t1, va_rf t2] 81 (mX2_beginOne_p81 w t0 t1 t2) := by
  unfold mX2_beginOne_p81
  refine n_X2_180 (pc := 81) hk (fun b r h => ctX2_one (fl y) (fK y) hk.2.2.2.2.2.2.2.1 b t1 t0 w r h) ⟨Nat.le_of_ble_eq_true rfl, Nat.le_of_ble_eq_true rfl⟩ (Nat.le_of_ble_eq_true rfl) dX2_beginOne_81 (fun r1 => ?_)
  refine V_iconst (pc := 84) (v := 0) hk dX2_beginOne_84 rfl ?_
  exact V_ireturn (pc := 85) hk hR rfl dX2_beginOne_85
theorem eX2_beginOne_p65 {y : Fx (Int32 × Wd)} (hk : OkF y RX2 cX2_beginOne 2 9 217) (hR : RetM y rvI (some (.int))) (w : Wd) (l0 : Option Nat) (l1 : Int32) (t0 : Int32) (t1 : Option Nat) : V y w [(0, va_rf l0), (1, .int l1)] [.int t0, va_rf t1] 65 (mX2_beginOne_p65 w l0 l1 t0 t1) := by
  unfold mX2_beginOne_p65
  refine V_aload_n (pc := 65) hk dX2_beginOne_65 0 rfl ?_
  refine g_X2_92 (pc := 66) hk dX2_beginOne_66 (fun v1 => ?_)
  refine V_iconst (pc := 69) (v := 1) hk dX2_beginOne_69 rfl ?_
  refine V_icmp_ne (pc := 70) (tgt := 80) hk dX2_beginOne_70 rfl ?_ ?_
  · refine V_iload_n (pc := 80) hk dX2_beginOne_80 1 rfl ?_
    refine V_pick (lc' := []) [] rfl ?_
    exact eX2_beginOne_p81 hk hR w l1 t0 t1
  · refine V_aload_n (pc := 73) hk dX2_beginOne_73 0 rfl ?_
    refine g_X2_99 (pc := 74) hk dX2_beginOne_74 (fun v2 => ?_)
    refine V_goto (pc := 77) (tgt := 81) hk dX2_beginOne_77 rfl ?_
    refine V_pick (lc' := []) [] rfl ?_
    exact eX2_beginOne_p81 hk hR w v2 t0 t1
theorem eX2_beginOne_p51 {y : Fx (Int32 × Wd)} (hk : OkF y RX2 cX2_beginOne 2 9 217) (hR : RetM y rvI (some (.int))) (w : Wd) (l0 : Option Nat) (l1 : Int32) : V y w [(0, va_rf l0), (1, .int l1)] [] 51 (mX2_beginOne_p51 w l0 l1) := by
  unfold mX2_beginOne_p51
  refine V_aload_n (pc := 51) hk dX2_beginOne_51 0 rfl ?_
  refine V_aload_n (pc := 52) hk dX2_beginOne_52 0 rfl ?_
  refine g_X2_92 (pc := 53) hk dX2_beginOne_53 (fun v1 => ?_)
  refine V_iconst (pc := 56) (v := 1) hk dX2_beginOne_56 rfl ?_
  refine V_icmp_ne (pc := 57) (tgt := 64) hk dX2_beginOne_57 rfl ?_ ?_
  · refine V_iconst (pc := 64) (v := 1) hk dX2_beginOne_64 rfl ?_
    exact eX2_beginOne_p65 hk hR w l0 l1 1 l0
  · refine V_iconst (pc := 60) (v := 0) hk dX2_beginOne_60 rfl ?_
    refine V_goto (pc := 61) (tgt := 65) hk dX2_beginOne_61 rfl ?_
    exact eX2_beginOne_p65 hk hR w l0 l1 0 l0
theorem eX2_beginOne_p39 {y : Fx (Int32 × Wd)} (hk : OkF y RX2 cX2_beginOne 2 9 217) (hR : RetM y rvI (some (.int))) (w : Wd) (l0 : Option Nat) (l1 : Int32) : V y w [(0, va_rf l0), (1, .int l1)] [] 39 (mX2_beginOne_p39 w l0 l1) := by
  unfold mX2_beginOne_p39
  refine V_aload_n (pc := 39) hk dX2_beginOne_39 0 rfl ?_
  refine g_X2_92 (pc := 40) hk dX2_beginOne_40 (fun v1 => ?_)
  refine V_iconst (pc := 43) (v := 1) hk dX2_beginOne_43 rfl ?_
  refine V_icmp_eq (pc := 44) (tgt := 51) hk dX2_beginOne_44 rfl ?_ ?_
  · exact eX2_beginOne_p51 hk hR w l0 l1
  · refine V_iload_n (pc := 47) hk dX2_beginOne_47 1 rfl ?_
    refine V_if_lt (pc := 48) (tgt := 86) hk dX2_beginOne_48 rfl ?_ ?_
    · refine V_aload_n (pc := 86) hk dX2_beginOne_86 0 rfl ?_
      refine V_bipush (pc := 87) (v := 97) hk dX2_beginOne_87 rfl ?_
      refine V_bipush (pc := 89) (v := 103) hk dX2_beginOne_89 rfl ?_
      refine V_bipush (pc := 91) (v := 111) hk dX2_beginOne_91 rfl ?_
      refine n_X2_119 (pc := 93) hk (fun r h => ctX2_w3 (fl y) (fK y) hk.2.2.2.2.2.2.2.1 97 103 111 w r h) ⟨Nat.le_of_ble_eq_true rfl, Nat.le_of_ble_eq_true rfl⟩ (by simp [rf_cat, cat_int, cat_long, cat_ref]) dX2_beginOne_93 (fun r2 => ?_)
      refine n_X2_183 (pc := 96) hk (fun b r h => ctX2_isWord (fl y) (fK y) hk.2.2.2.2.2.2.2.1 b r2.1 r2.2 r h) ⟨Nat.le_of_ble_eq_true rfl, Nat.le_of_ble_eq_true rfl⟩ (Nat.le_of_ble_eq_true rfl) dX2_beginOne_96 (fun r3 => ?_)
      refine V_if_eq (pc := 99) (tgt := 107) hk dX2_beginOne_99 rfl ?_ ?_
      · refine V_aload_n (pc := 107) hk dX2_beginOne_107 0 rfl ?_
        refine g_X2_92 (pc := 108) hk dX2_beginOne_108 (fun v5 => ?_)
        refine V_bipush (pc := 111) (v := 40) hk dX2_beginOne_111 rfl ?_
        refine V_icmp_ne (pc := 113) (tgt := 123) hk dX2_beginOne_113 rfl ?_ ?_
        · refine V_aload_n (pc := 123) hk dX2_beginOne_123 0 rfl ?_
          refine g_X2_92 (pc := 124) hk dX2_beginOne_124 (fun v6 => ?_)
          refine V_bipush (pc := 127) (v := 45) hk dX2_beginOne_127 rfl ?_
          refine V_icmp_ne (pc := 129) (tgt := 138) hk dX2_beginOne_129 rfl ?_ ?_
          · refine V_aload_n (pc := 138) hk dX2_beginOne_138 0 rfl ?_
            refine V_bipush (pc := 139) (v := 115) hk dX2_beginOne_139 rfl ?_
            refine V_bipush (pc := 141) (v := 105) hk dX2_beginOne_141 rfl ?_
            refine V_bipush (pc := 143) (v := 122) hk dX2_beginOne_143 rfl ?_
            refine V_bipush (pc := 145) (v := 101) hk dX2_beginOne_145 rfl ?_
            refine n_X2_123 (pc := 147) hk (fun r h => ctX2_w4 (fl y) (fK y) hk.2.2.2.2.2.2.2.1 115 105 122 101 r3.2 r h) ⟨Nat.le_of_ble_eq_true rfl, Nat.le_of_ble_eq_true rfl⟩ (by simp [rf_cat, cat_int, cat_long, cat_ref]) dX2_beginOne_147 (fun r7 => ?_)
            refine n_X2_183 (pc := 150) hk (fun b r h => ctX2_isWord (fl y) (fK y) hk.2.2.2.2.2.2.2.1 b r7.1 r7.2 r h) ⟨Nat.le_of_ble_eq_true rfl, Nat.le_of_ble_eq_true rfl⟩ (Nat.le_of_ble_eq_true rfl) dX2_beginOne_150 (fun r8 => ?_)
            refine V_if_eq (pc := 153) (tgt := 162) hk dX2_beginOne_153 rfl ?_ ?_
            · refine V_aload_n (pc := 162) hk dX2_beginOne_162 0 rfl ?_
              refine V_bipush (pc := 163) (v := 105) hk dX2_beginOne_163 rfl ?_
              refine V_bipush (pc := 165) (v := 102) hk dX2_beginOne_165 rfl ?_
              refine n_X2_115 (pc := 167) hk (fun r h => ctX2_w2 (fl y) (fK y) hk.2.2.2.2.2.2.2.1 105 102 r8.2 r h) ⟨Nat.le_of_ble_eq_true rfl, Nat.le_of_ble_eq_true rfl⟩ (by simp [rf_cat, cat_int, cat_long, cat_ref]) dX2_beginOne_167 (fun r10 => ?_)
              refine n_X2_183 (pc := 170) hk (fun b r h => ctX2_isWord (fl y) (fK y) hk.2.2.2.2.2.2.2.1 b r10.1 r10.2 r h) ⟨Nat.le_of_ble_eq_true rfl, Nat.le_of_ble_eq_true rfl⟩ (Nat.le_of_ble_eq_true rfl) dX2_beginOne_170 (fun r11 => ?_)
              refine V_if_eq (pc := 173) (tgt := 183) hk dX2_beginOne_173 rfl ?_ ?_
              · refine V_aload_n (pc := 183) hk dX2_beginOne_183 0 rfl ?_
                refine V_bipush (pc := 184) (v := 110) hk dX2_beginOne_184 rfl ?_
                refine V_bipush (pc := 186) (v := 111) hk dX2_beginOne_186 rfl ?_
                refine V_bipush (pc := 188) (v := 116) hk dX2_beginOne_188 rfl ?_
                refine n_X2_119 (pc := 190) hk (fun r h => ctX2_w3 (fl y) (fK y) hk.2.2.2.2.2.2.2.1 110 111 116 r11.2 r h) ⟨Nat.le_of_ble_eq_true rfl, Nat.le_of_ble_eq_true rfl⟩ (by simp [rf_cat, cat_int, cat_long, cat_ref]) dX2_beginOne_190 (fun r13 => ?_)
                refine n_X2_183 (pc := 193) hk (fun b r h => ctX2_isWord (fl y) (fK y) hk.2.2.2.2.2.2.2.1 b r13.1 r13.2 r h) ⟨Nat.le_of_ble_eq_true rfl, Nat.le_of_ble_eq_true rfl⟩ (Nat.le_of_ble_eq_true rfl) dX2_beginOne_193 (fun r14 => ?_)
                refine V_if_eq (pc := 196) (tgt := 215) hk dX2_beginOne_196 rfl ?_ ?_
                · refine V_iconst (pc := 215) (v := 1) hk dX2_beginOne_215 rfl ?_
                  exact V_ireturn (pc := 216) hk hR rfl dX2_beginOne_216
                · refine V_aload_n (pc := 199) hk dX2_beginOne_199 0 rfl ?_
                  refine n_X2_193 (pc := 200) hk (fun b r h => ctX2_isAskAhead (fl y) (fK y) hk.2.2.2.2.2.2.2.1 b r14.2 r h) ⟨Nat.le_of_ble_eq_true rfl, Nat.le_of_ble_eq_true rfl⟩ (Nat.le_of_ble_eq_true rfl) dX2_beginOne_200 (fun r16 => ?_)
                  refine V_if_eq (pc := 203) (tgt := 215) hk dX2_beginOne_203 rfl ?_ ?_
                  · refine V_iconst (pc := 215) (v := 1) hk dX2_beginOne_215 rfl ?_
                    exact V_ireturn (pc := 216) hk hR rfl dX2_beginOne_216
                  · refine V_aload_n (pc := 206) hk dX2_beginOne_206 0 rfl ?_
                    refine V_bipush (pc := 207) (v := 20) hk dX2_beginOne_207 rfl ?_
                    refine n_X2_190 (pc := 209) hk (fun b r h => ctX2_opened (fl y) (fK y) hk.2.2.2.2.2.2.2.1 b 20 r16.2 r h) ⟨Nat.le_of_ble_eq_true rfl, Nat.le_of_ble_eq_true rfl⟩ (Nat.le_of_ble_eq_true rfl) dX2_beginOne_209 (fun r18 => ?_)
                    refine V_goto (pc := 212) (tgt := 216) hk dX2_beginOne_212 rfl ?_
                    exact V_ireturn (pc := 216) hk hR rfl dX2_beginOne_216
              · refine V_aload_n (pc := 176) hk dX2_beginOne_176 0 rfl ?_
                refine V_bipush (pc := 177) (v := 41) hk dX2_beginOne_177 rfl ?_
                refine n_X2_190 (pc := 179) hk (fun b r h => ctX2_opened (fl y) (fK y) hk.2.2.2.2.2.2.2.1 b 41 r11.2 r h) ⟨Nat.le_of_ble_eq_true rfl, Nat.le_of_ble_eq_true rfl⟩ (Nat.le_of_ble_eq_true rfl) dX2_beginOne_179 (fun r20 => ?_)
                exact V_ireturn (pc := 182) hk hR rfl dX2_beginOne_182
            · refine V_aload_n (pc := 156) hk dX2_beginOne_156 0 rfl ?_
              refine V_iconst (pc := 157) (v := 5) hk dX2_beginOne_157 rfl ?_
              refine n_X2_190 (pc := 158) hk (fun b r h => ctX2_opened (fl y) (fK y) hk.2.2.2.2.2.2.2.1 b 5 r8.2 r h) ⟨Nat.le_of_ble_eq_true rfl, Nat.le_of_ble_eq_true rfl⟩ (Nat.le_of_ble_eq_true rfl) dX2_beginOne_158 (fun r22 => ?_)
              exact V_ireturn (pc := 161) hk hR rfl dX2_beginOne_161
          · refine V_aload_n (pc := 132) hk dX2_beginOne_132 0 rfl ?_
            refine V_iconst (pc := 133) (v := 4) hk dX2_beginOne_133 rfl ?_
            refine n_X2_190 (pc := 134) hk (fun b r h => ctX2_opened (fl y) (fK y) hk.2.2.2.2.2.2.2.1 b 4 r3.2 r h) ⟨Nat.le_of_ble_eq_true rfl, Nat.le_of_ble_eq_true rfl⟩ (Nat.le_of_ble_eq_true rfl) dX2_beginOne_134 (fun r24 => ?_)
            exact V_ireturn (pc := 137) hk hR rfl dX2_beginOne_137
        · refine V_aload_n (pc := 116) hk dX2_beginOne_116 0 rfl ?_
          refine V_bipush (pc := 117) (v := 40) hk dX2_beginOne_117 rfl ?_
          refine n_X2_190 (pc := 119) hk (fun b r h => ctX2_opened (fl y) (fK y) hk.2.2.2.2.2.2.2.1 b 40 r3.2 r h) ⟨Nat.le_of_ble_eq_true rfl, Nat.le_of_ble_eq_true rfl⟩ (Nat.le_of_ble_eq_true rfl) dX2_beginOne_119 (fun r26 => ?_)
          exact V_ireturn (pc := 122) hk hR rfl dX2_beginOne_122
      · refine V_aload_n (pc := 102) hk dX2_beginOne_102 0 rfl ?_
        refine n_X2_187 (pc := 103) hk (fun b r h => ctX2_agoOne (fl y) (fK y) hk.2.2.2.2.2.2.2.1 b r3.2 r h) ⟨Nat.le_of_ble_eq_true rfl, Nat.le_of_ble_eq_true rfl⟩ (Nat.le_of_ble_eq_true rfl) dX2_beginOne_103 (fun r28 => ?_)
        exact V_ireturn (pc := 106) hk hR rfl dX2_beginOne_106
    · exact eX2_beginOne_p51 hk hR w l0 l1
theorem eX2_beginOne_p20 {y : Fx (Int32 × Wd)} (hk : OkF y RX2 cX2_beginOne 2 9 217) (hR : RetM y rvI (some (.int))) (w : Wd) (l0 : Option Nat) : V y w [(0, va_rf l0)] [] 20 (mX2_beginOne_p20 w l0) := by
  unfold mX2_beginOne_p20
  refine V_aload_n (pc := 20) hk dX2_beginOne_20 0 rfl ?_
  refine n_X2_174 (pc := 21) hk (fun b r h => ctX2_nameOf (fl y) (fK y) hk.2.2.2.2.2.2.2.1 b w r h) ⟨Nat.le_of_ble_eq_true rfl, Nat.le_of_ble_eq_true rfl⟩ (Nat.le_of_ble_eq_true rfl) dX2_beginOne_21 (fun r1 => ?_)
  refine V_istore_n (pc := 24) (lc' := [(1, .int r1.1), (0, va_rf l0)]) (i := 1) hk dX2_beginOne_24 rfl (Nat.le_of_ble_eq_true rfl) (by simp [rf_cat, cat_int, cat_long, cat_ref]) ?_
  refine V_iload_n (pc := 25) hk dX2_beginOne_25 0 rfl ?_
  refine V_if_lt (pc := 26) (tgt := 39) hk dX2_beginOne_26 rfl ?_ ?_
  · refine V_pick (lc' := [(0, va_rf l0), (1, .int r1.1)]) [1, 0] rfl ?_
    exact eX2_beginOne_p39 hk hR r1.2 l0 r1.1
  · refine V_aload_n (pc := 29) hk dX2_beginOne_29 1 rfl ?_
    refine V_iload_n (pc := 30) hk dX2_beginOne_30 0 rfl ?_
    refine n_X2_177 (pc := 31) hk (fun b r h => ctX2_isOf (fl y) (fK y) hk.2.2.2.2.2.2.2.1 b r1.1 r1.2 r h) ⟨Nat.le_of_ble_eq_true rfl, Nat.le_of_ble_eq_true rfl⟩ (Nat.le_of_ble_eq_true rfl) dX2_beginOne_31 (fun r3 => ?_)
    refine V_if_ne (pc := 34) (tgt := 39) hk dX2_beginOne_34 rfl ?_ ?_
    · refine V_pick (lc' := [(0, va_rf l0), (1, .int r1.1)]) [1, 0] rfl ?_
      exact eX2_beginOne_p39 hk hR r3.2 l0 r1.1
    · refine V_iconst (pc := 37) (v := 5) hk dX2_beginOne_37 rfl ?_
      exact V_ireturn (pc := 38) hk hR rfl dX2_beginOne_38
theorem eX2_beginOne {y : Fx (Int32 × Wd)} (hk : OkF y RX2 cX2_beginOne 2 9 217) (hR : RetM y rvI (some (.int))) (this : Nat) (w : Wd) : V y w [(0, va_rf (some this))] [] 0 (mX2_beginOne this w) := by
  unfold mX2_beginOne
  refine V_aload_n (pc := 0) hk dX2_beginOne_0 0 rfl ?_
  refine g_X2_92 (pc := 1) hk dX2_beginOne_1 (fun v1 => ?_)
  refine V_iconst (pc := 4) (v := 1) hk dX2_beginOne_4 rfl ?_
  refine V_icmp_ne (pc := 5) (tgt := 20) hk dX2_beginOne_5 rfl ?_ ?_
  · exact eX2_beginOne_p20 hk hR w ((some this))
  · refine V_aload_n (pc := 8) hk dX2_beginOne_8 0 rfl ?_
    refine g_X2_99 (pc := 9) hk dX2_beginOne_9 (fun v2 => ?_)
    refine V_sipush (pc := 12) (v := 9999) hk dX2_beginOne_12 rfl ?_
    refine V_icmp_le (pc := 15) (tgt := 20) hk dX2_beginOne_15 rfl ?_ ?_
    · exact eX2_beginOne_p20 hk hR w ((some this))
    · refine V_iconst (pc := 18) (v := 2) hk dX2_beginOne_18 rfl ?_
      exact V_ireturn (pc := 19) hk hR rfl dX2_beginOne_19
theorem ctX2_beginOne (l : Launch) (K : Kx) (hI : Ini K) (b : Nat) (w : Wd) : ∀ r, mX2_beginOne b w = some r → Ct l K 9 217 yX2_beginOne (ws_ yX2_beginOne cX2_beginOne 2 (some (.int))) [.ref b] w (rvI r.1) r.2 := Ct_of rvI l K hI 9 217 [.ref b] w (by decide) (lc0 := [(0, .ref b)]) rfl (Nat.le_of_ble_eq_true rfl) (fun y hk hR _ _ hin => eX2_beginOne hk hR b w)
noncomputable def mX2_summed_b15 (k15 : Wd → (Option Nat) → Option (Int32 × Wd)) (w : Wd) (l0 : Option Nat) : Option (Int32 × Wd) :=
(gI w l0 2 18).bind fun v1 =>
if v1 = 0 then (
(recv w l0 2).bind fun b3 => (cal w (mX2_beginOne b3 w)).bind fun r2 =>
if r2.1 = 0 then (
k15 r2.2 l0)
else (
some (r2.1, r2.2)))
else (
(recv w l0 2).bind fun b5 => (cal w (mX2_behindOne b5 w)).bind fun r4 =>
if r4.1 = 0 then (
(recv r4.2 l0 2).bind fun b7 => (cal r4.2 (mX2_openNow b7 r4.2)).bind fun r6 =>
if r6.1 < 0 then (
(recv r6.2 l0 2).bind fun b9 => (cal r6.2 (mX2_settle b9 1 r6.2)).bind fun r8 =>
some (0, r8.2))
else (
some (1, r6.2)))
else (
k15 r4.2 l0))
noncomputable def mX2_summed_l15 : Nat → Wd → (Option Nat) → Option (Int32 × Wd)
  | 0, _, _ => none
  | n + 1, w, l0 => mX2_summed_b15 (mX2_summed_l15 n) w l0
noncomputable def mX2_summed (this : Nat) (w : Wd) : Option (Int32 × Wd) :=
(pf w ((some this)) 2 16 (.int 0)).bind fun w1 =>
(pf w1 ((some this)) 2 17 (.int 0)).bind fun w2 =>
(zok 0).bind fun _ => (pf w2 ((some this)) 2 18 (.int 0)).bind fun w3 =>
mX2_summed_l15 FU w3 ((some this))
theorem eX2_summed_b15 {y : Fx (Int32 × Wd)} (hk : OkF y RX2 cX2_summed 2 10 238) (hR : RetM y rvI (some (.int))) {k15 : Wd → (Option Nat) → Option (Int32 × Wd)} (h15 : ∀ (w : Wd) (l0 : Option Nat), V y w [(0, va_rf l0)] [] 15 (k15 w l0)) (w : Wd) (l0 : Option Nat) : V y w [(0, va_rf l0)] [] 15 (mX2_summed_b15 k15 w l0) := by
  unfold mX2_summed_b15
  refine V_aload_n (pc := 15) hk dX2_summed_15 0 rfl ?_
  refine g_X2_167 (pc := 16) hk dX2_summed_16 (fun v1 => ?_)
  refine V_if_eq (pc := 19) (tgt := 48) hk dX2_summed_19 rfl ?_ ?_
  · refine V_aload_n (pc := 48) hk dX2_summed_48 0 rfl ?_
    refine n_X2_212 (pc := 49) hk (fun b r h => ctX2_beginOne (fl y) (fK y) hk.2.2.2.2.2.2.2.1 b w r h) ⟨Nat.le_of_ble_eq_true rfl, Nat.le_of_ble_eq_true rfl⟩ (Nat.le_of_ble_eq_true rfl) dX2_summed_49 (fun r2 => ?_)
    refine V_istore_n (pc := 52) (lc' := [(1, .int r2.1), (0, va_rf l0)]) (i := 1) hk dX2_summed_52 rfl (Nat.le_of_ble_eq_true rfl) (by simp [rf_cat, cat_int, cat_long, cat_ref]) ?_
    refine V_iload_n (pc := 53) hk dX2_summed_53 0 rfl ?_
    refine V_if_eq (pc := 54) (tgt := 59) hk dX2_summed_54 rfl ?_ ?_
    · refine V_goto (pc := 59) (tgt := 15) hk dX2_summed_59 rfl ?_
      refine V_pick (lc' := [(0, va_rf l0)]) [1] rfl ?_
      exact h15 r2.2 l0
    · refine V_iload_n (pc := 57) hk dX2_summed_57 0 rfl ?_
      exact V_ireturn (pc := 58) hk hR rfl dX2_summed_58
  · refine V_aload_n (pc := 22) hk dX2_summed_22 0 rfl ?_
    refine n_X2_209 (pc := 23) hk (fun b r h => ctX2_behindOne (fl y) (fK y) hk.2.2.2.2.2.2.2.1 b w r h) ⟨Nat.le_of_ble_eq_true rfl, Nat.le_of_ble_eq_true rfl⟩ (Nat.le_of_ble_eq_true rfl) dX2_summed_23 (fun r4 => ?_)
    refine V_if_eq (pc := 26) (tgt := 32) hk dX2_summed_26 rfl ?_ ?_
    · refine V_aload_n (pc := 32) hk dX2_summed_32 0 rfl ?_
      refine n_X2_161 (pc := 33) hk (fun b r h => ctX2_openNow (fl y) (fK y) hk.2.2.2.2.2.2.2.1 b r4.2 r h) ⟨Nat.le_of_ble_eq_true rfl, Nat.le_of_ble_eq_true rfl⟩ (Nat.le_of_ble_eq_true rfl) dX2_summed_33 (fun r6 => ?_)
      refine V_if_lt (pc := 36) (tgt := 41) hk dX2_summed_36 rfl ?_ ?_
      · refine V_aload_n (pc := 41) hk dX2_summed_41 0 rfl ?_
        refine V_iconst (pc := 42) (v := 1) hk dX2_summed_42 rfl ?_
        refine n_X2_171 (pc := 43) hk (fun b r h => ctX2_settle (fl y) (fK y) hk.2.2.2.2.2.2.2.1 b 1 r6.2 r h) ⟨Nat.le_of_ble_eq_true rfl, Nat.le_of_ble_eq_true rfl⟩ (Nat.le_of_ble_eq_true rfl) dX2_summed_43 (fun r8 => ?_)
        refine V_iconst (pc := 46) (v := 0) hk dX2_summed_46 rfl ?_
        exact V_ireturn (pc := 47) hk hR rfl dX2_summed_47
      · refine V_iconst (pc := 39) (v := 1) hk dX2_summed_39 rfl ?_
        exact V_ireturn (pc := 40) hk hR rfl dX2_summed_40
    · refine V_goto (pc := 29) (tgt := 15) hk dX2_summed_29 rfl ?_
      exact h15 r4.2 l0
theorem eX2_summed_l15 {y : Fx (Int32 × Wd)} (hk : OkF y RX2 cX2_summed 2 10 238) (hR : RetM y rvI (some (.int))) : ∀ (n : Nat) (w : Wd) (l0 : Option Nat), V y w [(0, va_rf l0)] [] 15 (mX2_summed_l15 n w l0) := by
  intro n
  induction n with
  | zero => intro w l0; exact V_none
  | succ n ih => intro w l0; exact eX2_summed_b15 hk hR ih w l0
theorem eX2_summed {y : Fx (Int32 × Wd)} (hk : OkF y RX2 cX2_summed 2 10 238) (hR : RetM y rvI (some (.int))) (this : Nat) (w : Wd) : V y w [(0, va_rf (some this))] [] 0 (mX2_summed this w) := by
  unfold mX2_summed
  refine V_aload_n (pc := 0) hk dX2_summed_0 0 rfl ?_
  refine V_iconst (pc := 1) (v := 0) hk dX2_summed_1 rfl ?_
  refine p_X2_144 (pc := 2) hk dX2_summed_2 (fun w1 => ?_)
  refine V_aload_n (pc := 5) hk dX2_summed_5 0 rfl ?_
  refine V_iconst (pc := 6) (v := 0) hk dX2_summed_6 rfl ?_
  refine p_X2_154 (pc := 7) hk dX2_summed_7 (fun w2 => ?_)
  refine V_aload_n (pc := 10) hk dX2_summed_10 0 rfl ?_
  refine V_iconst (pc := 11) (v := 0) hk dX2_summed_11 rfl ?_
  refine p_X2_167 (pc := 12) hk dX2_summed_12 (fun w3 => ?_)
  exact eX2_summed_l15 hk hR FU w3 ((some this))
theorem ctX2_summed (l : Launch) (K : Kx) (hI : Ini K) (b : Nat) (w : Wd) : ∀ r, mX2_summed b w = some r → Ct l K 10 238 yX2_summed (ws_ yX2_summed cX2_summed 2 (some (.int))) [.ref b] w (rvI r.1) r.2 := Ct_of rvI l K hI 10 238 [.ref b] w (by decide) (lc0 := [(0, .ref b)]) rfl (Nat.le_of_ble_eq_true rfl) (fun y hk hR _ _ hin => eX2_summed hk hR b w)
noncomputable def mX2_lawClause (this : Nat) (a0 : Int32) (w : Wd) : Option (Int32 × Wd) :=
(gR w ((some this)) 2 2).bind fun v1 =>
(gI w ((some this)) 2 13).bind fun v2 =>
(ias w v1 (a0 + 1) v2).bind fun w3 =>
(recv w3 ((some this)) 2).bind fun b5 => (cal w3 (mX2_summed b5 w3)).bind fun r4 =>
(gR r4.2 ((some this)) 2 2).bind fun v6 =>
(gI r4.2 ((some this)) 2 13).bind fun v7 =>
(ias r4.2 v6 (a0 + 2) v7).bind fun w8 =>
some (r4.1, w8)
theorem eX2_lawClause {y : Fx (Int32 × Wd)} (hk : OkF y RX2 cX2_lawClause 3 11 259) (hR : RetM y rvI (some (.int))) (this : Nat) (a0 : Int32) (w : Wd) : V y w [(0, va_rf (some this)), (1, .int a0)] [] 0 (mX2_lawClause this a0 w) := by
  unfold mX2_lawClause
  refine V_aload_n (pc := 0) hk dX2_lawClause_0 0 rfl ?_
  refine g_X2_16 (pc := 1) hk dX2_lawClause_1 (fun v1 => ?_)
  refine V_iload_n (pc := 4) hk dX2_lawClause_4 1 rfl ?_
  refine V_iconst (pc := 5) (v := 1) hk dX2_lawClause_5 rfl ?_
  refine V_iadd (pc := 6) hk dX2_lawClause_6 ?_
  refine V_aload_n (pc := 7) hk dX2_lawClause_7 0 rfl ?_
  refine g_X2_134 (pc := 8) hk dX2_lawClause_8 (fun v2 => ?_)
  refine V_iastore (pc := 11) hk dX2_lawClause_11 (fun w3 => ?_)
  refine V_aload_n (pc := 12) hk dX2_lawClause_12 0 rfl ?_
  refine n_X2_219 (pc := 13) hk (fun b r h => ctX2_summed (fl y) (fK y) hk.2.2.2.2.2.2.2.1 b w3 r h) ⟨Nat.le_of_ble_eq_true rfl, Nat.le_of_ble_eq_true rfl⟩ (Nat.le_of_ble_eq_true rfl) dX2_lawClause_13 (fun r4 => ?_)
  refine V_istore_n (pc := 16) (lc' := [(2, .int r4.1), (0, va_rf ((some this))), (1, .int a0)]) (i := 2) hk dX2_lawClause_16 rfl (Nat.le_of_ble_eq_true rfl) rfl ?_
  refine V_aload_n (pc := 17) hk dX2_lawClause_17 1 rfl ?_
  refine g_X2_16 (pc := 18) hk dX2_lawClause_18 (fun v6 => ?_)
  refine V_iload_n (pc := 21) hk dX2_lawClause_21 2 rfl ?_
  refine V_iconst (pc := 22) (v := 2) hk dX2_lawClause_22 rfl ?_
  refine V_iadd (pc := 23) hk dX2_lawClause_23 ?_
  refine V_aload_n (pc := 24) hk dX2_lawClause_24 1 rfl ?_
  refine g_X2_134 (pc := 25) hk dX2_lawClause_25 (fun v7 => ?_)
  refine V_iastore (pc := 28) hk dX2_lawClause_28 (fun w8 => ?_)
  refine V_iload_n (pc := 29) hk dX2_lawClause_29 0 rfl ?_
  exact V_ireturn (pc := 30) hk hR rfl dX2_lawClause_30
theorem ctX2_lawClause (l : Launch) (K : Kx) (hI : Ini K) (b : Nat) (a0 : Int32) (w : Wd) : ∀ r, mX2_lawClause b a0 w = some r → Ct l K 11 259 yX2_lawClause (ws_ yX2_lawClause cX2_lawClause 3 (some (.int))) [.ref b, .int a0] w (rvI r.1) r.2 := Ct_of rvI l K hI 11 259 [.ref b, .int a0] w (by decide) (lc0 := [(0, .ref b), (1, .int a0)]) rfl (Nat.le_of_ble_eq_true rfl) (fun y hk hR _ _ hin => eX2_lawClause hk hR b a0 w)
noncomputable def mX2_body (this : Nat) (a0 : Int32) (a1 : Int32) (w : Wd) : Option (Int32 × Wd) :=
if a0 = 5 then (
(recv w ((some this)) 2).bind fun b2 => (cal w (mX2_orderClause b2 a1 w)).bind fun r1 =>
some (r1.1, r1.2))
else (
if a0 = 6 then (
(recv w ((some this)) 2).bind fun b4 => (cal w (mX2_moveClause b4 a1 w)).bind fun r3 =>
some (r3.1, r3.2))
else (
if a0 = 7 then (
(recv w ((some this)) 2).bind fun b6 => (cal w (mX2_figure b6 (a1 + 1) 1 60 w)).bind fun r5 =>
some (r5.1, r5.2))
else (
if a0 = 8 then (
(recv w ((some this)) 2).bind fun b8 => (cal w (mX2_figure b8 (a1 + 1) 1 24 w)).bind fun r7 =>
some (r7.1, r7.2))
else (
if a0 = 9 then (
(recv w ((some this)) 2).bind fun b10 => (cal w (mX2_figure b10 (a1 + 1) 0 600 w)).bind fun r9 =>
some (r9.1, r9.2))
else (
if a0 = 10 then (
(recv w ((some this)) 2).bind fun b12 => (cal w (mX2_figure b12 (a1 + 1) 0 7 w)).bind fun r11 =>
some (r11.1, r11.2))
else (
if a0 = 11 then (
some (0, w))
else (
(recv w ((some this)) 2).bind fun b14 => (cal w (mX2_lawClause b14 a1 w)).bind fun r13 =>
some (r13.1, r13.2))))))))
theorem eX2_body {y : Fx (Int32 × Wd)} (hk : OkF y RX2 cX2_body 3 12 281) (hR : RetM y rvI (some (.int))) (this : Nat) (a0 : Int32) (a1 : Int32) (w : Wd) : V y w [(0, va_rf (some this)), (1, .int a0), (2, .int a1)] [] 0 (mX2_body this a0 a1 w) := by
  unfold mX2_body
  refine V_iload_n (pc := 0) hk dX2_body_0 1 rfl ?_
  refine V_if (fun hx => ?_) (fun hn5 => ?_)
  · refine V_tblIn (pc := 1) (tgt := 44) (off := 43) hk 5 hx dX2_body_1 (by decide) (by decide) (by decide +kernel) rfl ?_
    refine V_aload_n (pc := 44) hk dX2_body_44 0 rfl ?_
    refine V_iload_n (pc := 45) hk dX2_body_45 2 rfl ?_
    refine n_X2_226 (pc := 46) hk (fun b r h => ctX2_orderClause (fl y) (fK y) hk.2.2.2.2.2.2.2.1 b a1 w r h) ⟨Nat.le_of_ble_eq_true rfl, Nat.le_of_ble_eq_true rfl⟩ (Nat.le_of_ble_eq_true rfl) dX2_body_46 (fun r1 => ?_)
    exact V_ireturn (pc := 49) hk hR rfl dX2_body_49
  refine V_if (fun hx => ?_) (fun hn6 => ?_)
  · refine V_tblIn (pc := 1) (tgt := 50) (off := 49) hk 6 hx dX2_body_1 (by decide) (by decide) (by decide +kernel) rfl ?_
    refine V_aload_n (pc := 50) hk dX2_body_50 0 rfl ?_
    refine V_iload_n (pc := 51) hk dX2_body_51 2 rfl ?_
    refine n_X2_229 (pc := 52) hk (fun b r h => ctX2_moveClause (fl y) (fK y) hk.2.2.2.2.2.2.2.1 b a1 w r h) ⟨Nat.le_of_ble_eq_true rfl, Nat.le_of_ble_eq_true rfl⟩ (Nat.le_of_ble_eq_true rfl) dX2_body_52 (fun r3 => ?_)
    exact V_ireturn (pc := 55) hk hR rfl dX2_body_55
  refine V_if (fun hx => ?_) (fun hn7 => ?_)
  · refine V_tblIn (pc := 1) (tgt := 56) (off := 55) hk 7 hx dX2_body_1 (by decide) (by decide) (by decide +kernel) rfl ?_
    refine V_aload_n (pc := 56) hk dX2_body_56 0 rfl ?_
    refine V_iload_n (pc := 57) hk dX2_body_57 2 rfl ?_
    refine V_iconst (pc := 58) (v := 1) hk dX2_body_58 rfl ?_
    refine V_iadd (pc := 59) hk dX2_body_59 ?_
    refine V_iconst (pc := 60) (v := 1) hk dX2_body_60 rfl ?_
    refine V_bipush (pc := 61) (v := 60) hk dX2_body_61 rfl ?_
    refine n_X2_215 (pc := 63) hk (fun b r h => ctX2_figure (fl y) (fK y) hk.2.2.2.2.2.2.2.1 b (a1 + 1) 1 60 w r h) ⟨Nat.le_of_ble_eq_true rfl, Nat.le_of_ble_eq_true rfl⟩ (Nat.le_of_ble_eq_true rfl) dX2_body_63 (fun r5 => ?_)
    exact V_ireturn (pc := 66) hk hR rfl dX2_body_66
  refine V_if (fun hx => ?_) (fun hn8 => ?_)
  · refine V_tblIn (pc := 1) (tgt := 67) (off := 66) hk 8 hx dX2_body_1 (by decide) (by decide) (by decide +kernel) rfl ?_
    refine V_aload_n (pc := 67) hk dX2_body_67 0 rfl ?_
    refine V_iload_n (pc := 68) hk dX2_body_68 2 rfl ?_
    refine V_iconst (pc := 69) (v := 1) hk dX2_body_69 rfl ?_
    refine V_iadd (pc := 70) hk dX2_body_70 ?_
    refine V_iconst (pc := 71) (v := 1) hk dX2_body_71 rfl ?_
    refine V_bipush (pc := 72) (v := 24) hk dX2_body_72 rfl ?_
    refine n_X2_215 (pc := 74) hk (fun b r h => ctX2_figure (fl y) (fK y) hk.2.2.2.2.2.2.2.1 b (a1 + 1) 1 24 w r h) ⟨Nat.le_of_ble_eq_true rfl, Nat.le_of_ble_eq_true rfl⟩ (Nat.le_of_ble_eq_true rfl) dX2_body_74 (fun r7 => ?_)
    exact V_ireturn (pc := 77) hk hR rfl dX2_body_77
  refine V_if (fun hx => ?_) (fun hn9 => ?_)
  · refine V_tblIn (pc := 1) (tgt := 78) (off := 77) hk 9 hx dX2_body_1 (by decide) (by decide) (by decide +kernel) rfl ?_
    refine V_aload_n (pc := 78) hk dX2_body_78 0 rfl ?_
    refine V_iload_n (pc := 79) hk dX2_body_79 2 rfl ?_
    refine V_iconst (pc := 80) (v := 1) hk dX2_body_80 rfl ?_
    refine V_iadd (pc := 81) hk dX2_body_81 ?_
    refine V_iconst (pc := 82) (v := 0) hk dX2_body_82 rfl ?_
    refine V_sipush (pc := 83) (v := 600) hk dX2_body_83 rfl ?_
    refine n_X2_215 (pc := 86) hk (fun b r h => ctX2_figure (fl y) (fK y) hk.2.2.2.2.2.2.2.1 b (a1 + 1) 0 600 w r h) ⟨Nat.le_of_ble_eq_true rfl, Nat.le_of_ble_eq_true rfl⟩ (Nat.le_of_ble_eq_true rfl) dX2_body_86 (fun r9 => ?_)
    exact V_ireturn (pc := 89) hk hR rfl dX2_body_89
  refine V_if (fun hx => ?_) (fun hn10 => ?_)
  · refine V_tblIn (pc := 1) (tgt := 90) (off := 89) hk 10 hx dX2_body_1 (by decide) (by decide) (by decide +kernel) rfl ?_
    refine V_aload_n (pc := 90) hk dX2_body_90 0 rfl ?_
    refine V_iload_n (pc := 91) hk dX2_body_91 2 rfl ?_
    refine V_iconst (pc := 92) (v := 1) hk dX2_body_92 rfl ?_
    refine V_iadd (pc := 93) hk dX2_body_93 ?_
    refine V_iconst (pc := 94) (v := 0) hk dX2_body_94 rfl ?_
    refine V_bipush (pc := 95) (v := 7) hk dX2_body_95 rfl ?_
    refine n_X2_215 (pc := 97) hk (fun b r h => ctX2_figure (fl y) (fK y) hk.2.2.2.2.2.2.2.1 b (a1 + 1) 0 7 w r h) ⟨Nat.le_of_ble_eq_true rfl, Nat.le_of_ble_eq_true rfl⟩ (Nat.le_of_ble_eq_true rfl) dX2_body_97 (fun r11 => ?_)
    exact V_ireturn (pc := 100) hk hR rfl dX2_body_100
  refine V_if (fun hx => ?_) (fun hn11 => ?_)
  · refine V_tblIn (pc := 1) (tgt := 101) (off := 100) hk 11 hx dX2_body_1 (by decide) (by decide) (by decide +kernel) rfl ?_
    refine V_iconst (pc := 101) (v := 0) hk dX2_body_101 rfl ?_
    exact V_ireturn (pc := 102) hk hR rfl dX2_body_102
  refine V_tblOut (pc := 1) (tgt := 103) hk dX2_body_1 (tbl_out 5 11 (by intro k h1 h2; obtain rfl | rfl | rfl | rfl | rfl | rfl | rfl : k = 5 ∨ k = 6 ∨ k = 7 ∨ k = 8 ∨ k = 9 ∨ k = 10 ∨ k = 11 := (by omega); exact hn5; exact hn6; exact hn7; exact hn8; exact hn9; exact hn10; exact hn11)) rfl ?_
  refine V_aload_n (pc := 103) hk dX2_body_103 0 rfl ?_
  refine V_iload_n (pc := 104) hk dX2_body_104 2 rfl ?_
  refine n_X2_232 (pc := 105) hk (fun b r h => ctX2_lawClause (fl y) (fK y) hk.2.2.2.2.2.2.2.1 b a1 w r h) ⟨Nat.le_of_ble_eq_true rfl, Nat.le_of_ble_eq_true rfl⟩ (Nat.le_of_ble_eq_true rfl) dX2_body_105 (fun r13 => ?_)
  exact V_ireturn (pc := 108) hk hR rfl dX2_body_108
theorem ctX2_body (l : Launch) (K : Kx) (hI : Ini K) (b : Nat) (a0 : Int32) (a1 : Int32) (w : Wd) : ∀ r, mX2_body b a0 a1 w = some r → Ct l K 12 281 yX2_body (ws_ yX2_body cX2_body 3 (some (.int))) [.ref b, .int a0, .int a1] w (rvI r.1) r.2 := Ct_of rvI l K hI 12 281 [.ref b, .int a0, .int a1] w (by decide) (lc0 := [(0, .ref b), (1, .int a0), (2, .int a1)]) rfl (Nat.le_of_ble_eq_true rfl) (fun y hk hR _ _ hin => eX2_body hk hR b a0 a1 w)
noncomputable def mX2_clause_p65 (w : Wd) (l0 : Option Nat) (l1 : Int32) (l2 : Int32) : Option (Int32 × Wd) :=
(pf w l0 2 14 (.int l1)).bind fun w1 =>
(recv w1 l0 2).bind fun b3 => (cal w1 (mX2_nextToken b3 w1)).bind fun r2 =>
(gI r2.2 l0 2 12).bind fun v4 =>
(gR r2.2 l0 2 2).bind fun v5 =>
(ias r2.2 v5 ((v4 + 1) + (6 * l2)) l1).bind fun w6 =>
(recv w6 l0 2).bind fun b8 => (cal w6 (mX2_body b8 l1 ((v4 + 1) + (6 * l2)) w6)).bind fun r7 =>
if r7.1 = 0 then (
(gR r7.2 l0 2 2).bind fun v9 =>
(gI r7.2 l0 2 12).bind fun v10 =>
(ia r7.2 v9 v10).bind fun v11 =>
(ias r7.2 v9 v10 (v11 + 1)).bind fun w12 =>
(gI w12 l0 2 9).bind fun v13 =>
if v13 = 59 then (
(recv w12 l0 2).bind fun b15 => (cal w12 (mX2_nextToken b15 w12)).bind fun r14 =>
some (0, r14.2))
else (
some (1, w12)))
else (
some (r7.1, r7.2))
noncomputable def mX2_clause_p29 (w : Wd) (l0 : Option Nat) (l1 : Int32) : Option (Int32 × Wd) :=
(gR w l0 2 2).bind fun v1 =>
(gI w l0 2 12).bind fun v2 =>
(ia w v1 v2).bind fun v3 =>
if ¬ v3 = 24 then (
if 4 < l1 then (
mX2_clause_p65 w l0 l1 v3)
else (
(gI w l0 2 19).bind fun v4 =>
(pf w l0 2 19 (.int (v4 ||| (1 <<< (l1 &&& 31))))).bind fun w5 =>
mX2_clause_p65 w5 l0 l1 v3))
else (
some (6, w))
noncomputable def mX2_clause (this : Nat) (w : Wd) : Option (Int32 × Wd) :=
(recv w ((some this)) 2).bind fun b2 => (cal w (mX2_sortOf b2 w)).bind fun r1 =>
if 0 ≤ r1.1 then (
if 4 < r1.1 then (
mX2_clause_p29 r1.2 ((some this)) r1.1)
else (
(gI r1.2 ((some this)) 2 19).bind fun v3 =>
(cal r1.2 (mX2_has v3 r1.1 r1.2)).bind fun r4 =>
if r4.1 = 0 then (
mX2_clause_p29 r4.2 ((some this)) r1.1)
else (
some (4, r4.2))))
else (
some (1, r1.2))
theorem eX2_clause_p65 {y : Fx (Int32 × Wd)} (hk : OkF y RX2 cX2_clause 5 13 303) (hR : RetM y rvI (some (.int))) (w : Wd) (l0 : Option Nat) (l1 : Int32) (l2 : Int32) : V y w [(0, va_rf l0), (1, .int l1), (2, .int l2)] [] 65 (mX2_clause_p65 w l0 l1 l2) := by
  unfold mX2_clause_p65
  refine V_aload_n (pc := 65) hk dX2_clause_65 0 rfl ?_
  refine V_iload_n (pc := 66) hk dX2_clause_66 1 rfl ?_
  refine p_X2_141 (pc := 67) hk dX2_clause_67 (fun w1 => ?_)
  refine V_aload_n (pc := 70) hk dX2_clause_70 0 rfl ?_
  refine n_X2_164 (pc := 71) hk (fun b r h => ctX2_nextToken (fl y) (fK y) hk.2.2.2.2.2.2.2.1 b w1 r h) ⟨Nat.le_of_ble_eq_true rfl, Nat.le_of_ble_eq_true rfl⟩ (Nat.le_of_ble_eq_true rfl) dX2_clause_71 (fun r2 => ?_)
  refine V_aload_n (pc := 74) hk dX2_clause_74 0 rfl ?_
  refine g_X2_131 (pc := 75) hk dX2_clause_75 (fun v4 => ?_)
  refine V_iconst (pc := 78) (v := 1) hk dX2_clause_78 rfl ?_
  refine V_iadd (pc := 79) hk dX2_clause_79 ?_
  refine V_bipush (pc := 80) (v := 6) hk dX2_clause_80 rfl ?_
  refine V_iload_n (pc := 82) hk dX2_clause_82 2 rfl ?_
  refine V_imul (pc := 83) hk dX2_clause_83 ?_
  refine V_iadd (pc := 84) hk dX2_clause_84 ?_
  refine V_istore_n (pc := 85) (lc' := [(3, .int ((v4 + 1) + (6 * l2))), (0, va_rf l0), (1, .int l1), (2, .int l2)]) (i := 3) hk dX2_clause_85 rfl (Nat.le_of_ble_eq_true rfl) rfl ?_
  refine V_aload_n (pc := 86) hk dX2_clause_86 1 rfl ?_
  refine g_X2_16 (pc := 87) hk dX2_clause_87 (fun v5 => ?_)
  refine V_iload_n (pc := 90) hk dX2_clause_90 0 rfl ?_
  refine V_iload_n (pc := 91) hk dX2_clause_91 2 rfl ?_
  refine V_iastore (pc := 92) hk dX2_clause_92 (fun w6 => ?_)
  refine V_aload_n (pc := 93) hk dX2_clause_93 1 rfl ?_
  refine V_iload_n (pc := 94) hk dX2_clause_94 2 rfl ?_
  refine V_iload_n (pc := 95) hk dX2_clause_95 0 rfl ?_
  refine n_X2_245 (pc := 96) hk (fun b r h => ctX2_body (fl y) (fK y) hk.2.2.2.2.2.2.2.1 b l1 ((v4 + 1) + (6 * l2)) w6 r h) ⟨Nat.le_of_ble_eq_true rfl, Nat.le_of_ble_eq_true rfl⟩ (Nat.le_of_ble_eq_true rfl) dX2_clause_96 (fun r7 => ?_)
  refine V_istore (pc := 99) (lc' := [(4, .int r7.1), (3, .int ((v4 + 1) + (6 * l2))), (0, va_rf l0), (1, .int l1), (2, .int l2)]) (i := 4) hk dX2_clause_99 (Nat.le_of_ble_eq_true rfl) rfl ?_
  refine V_iload (pc := 101) hk dX2_clause_101 0 rfl ?_
  refine V_if_eq (pc := 103) (tgt := 109) hk dX2_clause_103 rfl ?_ ?_
  · refine V_aload_n (pc := 109) hk dX2_clause_109 2 rfl ?_
    refine g_X2_16 (pc := 110) hk dX2_clause_110 (fun v9 => ?_)
    refine V_aload_n (pc := 113) hk dX2_clause_113 2 rfl ?_
    refine g_X2_131 (pc := 114) hk dX2_clause_114 (fun v10 => ?_)
    refine V_dup2 (pc := 117) hk dX2_clause_117 rfl (rf_cat _) ?_
    refine V_iaload (pc := 118) hk dX2_clause_118 (fun v11 => ?_)
    refine V_iconst (pc := 119) (v := 1) hk dX2_clause_119 rfl ?_
    refine V_iadd (pc := 120) hk dX2_clause_120 ?_
    refine V_iastore (pc := 121) hk dX2_clause_121 (fun w12 => ?_)
    refine V_aload_n (pc := 122) hk dX2_clause_122 2 rfl ?_
    refine g_X2_92 (pc := 123) hk dX2_clause_123 (fun v13 => ?_)
    refine V_bipush (pc := 126) (v := 59) hk dX2_clause_126 rfl ?_
    refine V_icmp_eq (pc := 128) (tgt := 133) hk dX2_clause_128 rfl ?_ ?_
    · refine V_aload_n (pc := 133) hk dX2_clause_133 2 rfl ?_
      refine n_X2_164 (pc := 134) hk (fun b r h => ctX2_nextToken (fl y) (fK y) hk.2.2.2.2.2.2.2.1 b w12 r h) ⟨Nat.le_of_ble_eq_true rfl, Nat.le_of_ble_eq_true rfl⟩ (Nat.le_of_ble_eq_true rfl) dX2_clause_134 (fun r14 => ?_)
      refine V_iconst (pc := 137) (v := 0) hk dX2_clause_137 rfl ?_
      exact V_ireturn (pc := 138) hk hR rfl dX2_clause_138
    · refine V_iconst (pc := 131) (v := 1) hk dX2_clause_131 rfl ?_
      exact V_ireturn (pc := 132) hk hR rfl dX2_clause_132
  · refine V_iload (pc := 106) hk dX2_clause_106 0 rfl ?_
    exact V_ireturn (pc := 108) hk hR rfl dX2_clause_108
theorem eX2_clause_p29 {y : Fx (Int32 × Wd)} (hk : OkF y RX2 cX2_clause 5 13 303) (hR : RetM y rvI (some (.int))) (w : Wd) (l0 : Option Nat) (l1 : Int32) : V y w [(0, va_rf l0), (1, .int l1)] [] 29 (mX2_clause_p29 w l0 l1) := by
  unfold mX2_clause_p29
  refine V_aload_n (pc := 29) hk dX2_clause_29 0 rfl ?_
  refine g_X2_16 (pc := 30) hk dX2_clause_30 (fun v1 => ?_)
  refine V_aload_n (pc := 33) hk dX2_clause_33 0 rfl ?_
  refine g_X2_131 (pc := 34) hk dX2_clause_34 (fun v2 => ?_)
  refine V_iaload (pc := 37) hk dX2_clause_37 (fun v3 => ?_)
  refine V_istore_n (pc := 38) (lc' := [(2, .int v3), (0, va_rf l0), (1, .int l1)]) (i := 2) hk dX2_clause_38 rfl (Nat.le_of_ble_eq_true rfl) rfl ?_
  refine V_iload_n (pc := 39) hk dX2_clause_39 0 rfl ?_
  refine V_bipush (pc := 40) (v := 24) hk dX2_clause_40 rfl ?_
  refine V_icmp_ne (pc := 42) (tgt := 48) hk dX2_clause_42 rfl ?_ ?_
  · refine V_iload_n (pc := 48) hk dX2_clause_48 2 rfl ?_
    refine V_iconst (pc := 49) (v := 4) hk dX2_clause_49 rfl ?_
    refine V_icmp_gt (pc := 50) (tgt := 65) hk dX2_clause_50 rfl ?_ ?_
    · refine V_pick (lc' := [(0, va_rf l0), (1, .int l1), (2, .int v3)]) [1, 2, 0] rfl ?_
      exact eX2_clause_p65 hk hR w l0 l1 v3
    · refine V_aload_n (pc := 53) hk dX2_clause_53 1 rfl ?_
      refine V_dup (pc := 54) hk dX2_clause_54 (rf_cat _) ?_
      refine g_X2_238 (pc := 55) hk dX2_clause_55 (fun v4 => ?_)
      refine V_iconst (pc := 58) (v := 1) hk dX2_clause_58 rfl ?_
      refine V_iload_n (pc := 59) hk dX2_clause_59 2 rfl ?_
      refine V_ishl (pc := 60) hk dX2_clause_60 ?_
      refine V_ior (pc := 61) hk dX2_clause_61 ?_
      refine p_X2_238 (pc := 62) hk dX2_clause_62 (fun w5 => ?_)
      refine V_pick (lc' := [(0, va_rf l0), (1, .int l1), (2, .int v3)]) [1, 2, 0] rfl ?_
      exact eX2_clause_p65 hk hR w5 l0 l1 v3
  · refine V_bipush (pc := 45) (v := 6) hk dX2_clause_45 rfl ?_
    exact V_ireturn (pc := 47) hk hR rfl dX2_clause_47
theorem eX2_clause {y : Fx (Int32 × Wd)} (hk : OkF y RX2 cX2_clause 5 13 303) (hR : RetM y rvI (some (.int))) (this : Nat) (w : Wd) : V y w [(0, va_rf (some this))] [] 0 (mX2_clause this w) := by
  unfold mX2_clause
  refine V_aload_n (pc := 0) hk dX2_clause_0 0 rfl ?_
  refine n_X2_235 (pc := 1) hk (fun b r h => ctX2_sortOf (fl y) (fK y) hk.2.2.2.2.2.2.2.1 b w r h) ⟨Nat.le_of_ble_eq_true rfl, Nat.le_of_ble_eq_true rfl⟩ (Nat.le_of_ble_eq_true rfl) dX2_clause_1 (fun r1 => ?_)
  refine V_istore_n (pc := 4) (lc' := [(1, .int r1.1), (0, va_rf ((some this)))]) (i := 1) hk dX2_clause_4 rfl (Nat.le_of_ble_eq_true rfl) (by simp [rf_cat, cat_int, cat_long, cat_ref]) ?_
  refine V_iload_n (pc := 5) hk dX2_clause_5 0 rfl ?_
  refine V_if_ge (pc := 6) (tgt := 11) hk dX2_clause_6 rfl ?_ ?_
  · refine V_iload_n (pc := 11) hk dX2_clause_11 0 rfl ?_
    refine V_iconst (pc := 12) (v := 4) hk dX2_clause_12 rfl ?_
    refine V_icmp_gt (pc := 13) (tgt := 29) hk dX2_clause_13 rfl ?_ ?_
    · refine V_pick (lc' := [(0, va_rf ((some this))), (1, .int r1.1)]) [1, 0] rfl ?_
      exact eX2_clause_p29 hk hR r1.2 ((some this)) r1.1
    · refine V_aload_n (pc := 16) hk dX2_clause_16 1 rfl ?_
      refine g_X2_238 (pc := 17) hk dX2_clause_17 (fun v3 => ?_)
      refine V_iload_n (pc := 20) hk dX2_clause_20 0 rfl ?_
      refine n_X2_241 (pc := 21) hk (fun r h => ctX2_has (fl y) (fK y) hk.2.2.2.2.2.2.2.1 v3 r1.1 r1.2 r h) ⟨Nat.le_of_ble_eq_true rfl, Nat.le_of_ble_eq_true rfl⟩ (Nat.le_of_ble_eq_true rfl) dX2_clause_21 (fun r4 => ?_)
      refine V_if_eq (pc := 24) (tgt := 29) hk dX2_clause_24 rfl ?_ ?_
      · refine V_pick (lc' := [(0, va_rf ((some this))), (1, .int r1.1)]) [1, 0] rfl ?_
        exact eX2_clause_p29 hk hR r4.2 ((some this)) r1.1
      · refine V_iconst (pc := 27) (v := 4) hk dX2_clause_27 rfl ?_
        exact V_ireturn (pc := 28) hk hR rfl dX2_clause_28
  · refine V_iconst (pc := 9) (v := 1) hk dX2_clause_9 rfl ?_
    exact V_ireturn (pc := 10) hk hR rfl dX2_clause_10
theorem ctX2_clause (l : Launch) (K : Kx) (hI : Ini K) (b : Nat) (w : Wd) : ∀ r, mX2_clause b w = some r → Ct l K 13 303 yX2_clause (ws_ yX2_clause cX2_clause 5 (some (.int))) [.ref b] w (rvI r.1) r.2 := Ct_of rvI l K hI 13 303 [.ref b] w (by decide) (lc0 := [(0, .ref b)]) rfl (Nat.le_of_ble_eq_true rfl) (fun y hk hR _ _ hin => eX2_clause hk hR b w)
noncomputable def mX2_readText_b43 (k43 : Wd → (Option Nat) → Option (Int32 × Wd)) (w : Wd) (l0 : Option Nat) : Option (Int32 × Wd) :=
(gI w l0 2 9).bind fun v1 =>
if v1 = 0 then (
some (0, w))
else (
(recv w l0 2).bind fun b3 => (cal w (mX2_clause b3 w)).bind fun r2 =>
if r2.1 = 0 then (
k43 r2.2 l0)
else (
some (r2.1, r2.2)))
noncomputable def mX2_readText_l43 : Nat → Wd → (Option Nat) → Option (Int32 × Wd)
  | 0, _, _ => none
  | n + 1, w, l0 => mX2_readText_b43 (mX2_readText_l43 n) w l0
noncomputable def mX2_readText (this : Nat) (w : Wd) : Option (Int32 × Wd) :=
(gR w ((some this)) 2 0).bind fun v1 =>
(ia w v1 3).bind fun v2 =>
(pf w ((some this)) 2 12 (.int (753 * v2))).bind fun w3 =>
(gR w3 ((some this)) 2 2).bind fun v4 =>
(gI w3 ((some this)) 2 12).bind fun v5 =>
(ias w3 v4 v5 0).bind fun w6 =>
(pf w6 ((some this)) 2 13 (.int 0)).bind fun w7 =>
(pf w7 ((some this)) 2 19 (.int 0)).bind fun w8 =>
(pf w8 ((some this)) 2 7 (.int 0)).bind fun w9 =>
(recv w9 ((some this)) 2).bind fun b11 => (cal w9 (mX2_nextToken b11 w9)).bind fun r10 =>
mX2_readText_l43 FU r10.2 ((some this))
theorem eX2_readText_b43 {y : Fx (Int32 × Wd)} (hk : OkF y RX2 cX2_readText 2 14 327) (hR : RetM y rvI (some (.int))) {k43 : Wd → (Option Nat) → Option (Int32 × Wd)} (h43 : ∀ (w : Wd) (l0 : Option Nat), V y w [(0, va_rf l0)] [] 43 (k43 w l0)) (w : Wd) (l0 : Option Nat) : V y w [(0, va_rf l0)] [] 43 (mX2_readText_b43 k43 w l0) := by
  unfold mX2_readText_b43
  refine V_aload_n (pc := 43) hk dX2_readText_43 0 rfl ?_
  refine g_X2_92 (pc := 44) hk dX2_readText_44 (fun v1 => ?_)
  refine V_if_eq (pc := 47) (tgt := 64) hk dX2_readText_47 rfl ?_ ?_
  · refine V_iconst (pc := 64) (v := 0) hk dX2_readText_64 rfl ?_
    exact V_ireturn (pc := 65) hk hR rfl dX2_readText_65
  · refine V_aload_n (pc := 50) hk dX2_readText_50 0 rfl ?_
    refine n_X2_249 (pc := 51) hk (fun b r h => ctX2_clause (fl y) (fK y) hk.2.2.2.2.2.2.2.1 b w r h) ⟨Nat.le_of_ble_eq_true rfl, Nat.le_of_ble_eq_true rfl⟩ (Nat.le_of_ble_eq_true rfl) dX2_readText_51 (fun r2 => ?_)
    refine V_istore_n (pc := 54) (lc' := [(1, .int r2.1), (0, va_rf l0)]) (i := 1) hk dX2_readText_54 rfl (Nat.le_of_ble_eq_true rfl) (by simp [rf_cat, cat_int, cat_long, cat_ref]) ?_
    refine V_iload_n (pc := 55) hk dX2_readText_55 0 rfl ?_
    refine V_if_eq (pc := 56) (tgt := 61) hk dX2_readText_56 rfl ?_ ?_
    · refine V_goto (pc := 61) (tgt := 43) hk dX2_readText_61 rfl ?_
      refine V_pick (lc' := [(0, va_rf l0)]) [1] rfl ?_
      exact h43 r2.2 l0
    · refine V_iload_n (pc := 59) hk dX2_readText_59 0 rfl ?_
      exact V_ireturn (pc := 60) hk hR rfl dX2_readText_60
theorem eX2_readText_l43 {y : Fx (Int32 × Wd)} (hk : OkF y RX2 cX2_readText 2 14 327) (hR : RetM y rvI (some (.int))) : ∀ (n : Nat) (w : Wd) (l0 : Option Nat), V y w [(0, va_rf l0)] [] 43 (mX2_readText_l43 n w l0) := by
  intro n
  induction n with
  | zero => intro w l0; exact V_none
  | succ n ih => intro w l0; exact eX2_readText_b43 hk hR ih w l0
theorem eX2_readText {y : Fx (Int32 × Wd)} (hk : OkF y RX2 cX2_readText 2 14 327) (hR : RetM y rvI (some (.int))) (this : Nat) (w : Wd) : V y w [(0, va_rf (some this))] [] 0 (mX2_readText this w) := by
  unfold mX2_readText
  refine V_aload_n (pc := 0) hk dX2_readText_0 0 rfl ?_
  refine V_sipush (pc := 1) (v := 753) hk dX2_readText_1 rfl ?_
  refine V_aload_n (pc := 4) hk dX2_readText_4 0 rfl ?_
  refine g_X2_7 (pc := 5) hk dX2_readText_5 (fun v1 => ?_)
  refine V_iconst (pc := 8) (v := 3) hk dX2_readText_8 rfl ?_
  refine V_iaload (pc := 9) hk dX2_readText_9 (fun v2 => ?_)
  refine V_imul (pc := 10) hk dX2_readText_10 ?_
  refine p_X2_131 (pc := 11) hk dX2_readText_11 (fun w3 => ?_)
  refine V_aload_n (pc := 14) hk dX2_readText_14 0 rfl ?_
  refine g_X2_16 (pc := 15) hk dX2_readText_15 (fun v4 => ?_)
  refine V_aload_n (pc := 18) hk dX2_readText_18 0 rfl ?_
  refine g_X2_131 (pc := 19) hk dX2_readText_19 (fun v5 => ?_)
  refine V_iconst (pc := 22) (v := 0) hk dX2_readText_22 rfl ?_
  refine V_iastore (pc := 23) hk dX2_readText_23 (fun w6 => ?_)
  refine V_aload_n (pc := 24) hk dX2_readText_24 0 rfl ?_
  refine V_iconst (pc := 25) (v := 0) hk dX2_readText_25 rfl ?_
  refine p_X2_134 (pc := 26) hk dX2_readText_26 (fun w7 => ?_)
  refine V_aload_n (pc := 29) hk dX2_readText_29 0 rfl ?_
  refine V_iconst (pc := 30) (v := 0) hk dX2_readText_30 rfl ?_
  refine p_X2_238 (pc := 31) hk dX2_readText_31 (fun w8 => ?_)
  refine V_aload_n (pc := 34) hk dX2_readText_34 0 rfl ?_
  refine V_iconst (pc := 35) (v := 0) hk dX2_readText_35 rfl ?_
  refine p_X2_82 (pc := 36) hk dX2_readText_36 (fun w9 => ?_)
  refine V_aload_n (pc := 39) hk dX2_readText_39 0 rfl ?_
  refine n_X2_164 (pc := 40) hk (fun b r h => ctX2_nextToken (fl y) (fK y) hk.2.2.2.2.2.2.2.1 b w9 r h) ⟨Nat.le_of_ble_eq_true rfl, Nat.le_of_ble_eq_true rfl⟩ (Nat.le_of_ble_eq_true rfl) dX2_readText_40 (fun r10 => ?_)
  exact eX2_readText_l43 hk hR FU r10.2 ((some this))
theorem ctX2_readText (l : Launch) (K : Kx) (hI : Ini K) (b : Nat) (w : Wd) : ∀ r, mX2_readText b w = some r → Ct l K 14 327 yX2_readText (ws_ yX2_readText cX2_readText 2 (some (.int))) [.ref b] w (rvI r.1) r.2 := Ct_of rvI l K hI 14 327 [.ref b] w (by decide) (lc0 := [(0, .ref b)]) rfl (Nat.le_of_ble_eq_true rfl) (fun y hk hR _ _ hin => eX2_readText hk hR b w)
noncomputable def mX2_text_p36 (w : Wd) (l0 : Option Nat) (t0 : Int32) (t1 : Option Nat) : Option (Int32 × Wd) :=
(pf w t1 2 6 (.int t0)).bind fun w1 =>
(pf w1 l0 2 4 (.int 0)).bind fun w2 =>
(gI w2 l0 2 5).bind fun v3 =>
if v3 = 0 then (
(gR w2 l0 2 0).bind fun v4 =>
(ia w2 v4 3).bind fun v5 =>
(ias w2 v4 3 (v5 + 1)).bind fun w6 =>
(gR w6 l0 2 0).bind fun v7 =>
(ia w6 v7 3).bind fun v8 =>
some (v8 - 1, w6))
else (
some ((-1), w2))
noncomputable def mX2_text (this : Nat) (w : Wd) : Option (Int32 × Wd) :=
(gR w ((some this)) 2 0).bind fun v1 =>
(ia w v1 3).bind fun v2 =>
if ¬ v2 = 4 then (
(recv w ((some this)) 2).bind fun b4 => (cal w (mX2_readText b4 w)).bind fun r3 =>
(pf r3.2 ((some this)) 2 5 (.int r3.1)).bind fun w5 =>
(gI w5 ((some this)) 2 5).bind fun v6 =>
if ¬ v6 = 0 then (
(gI w5 ((some this)) 2 8).bind fun v7 =>
mX2_text_p36 w5 ((some this)) v7 ((some this)))
else (
mX2_text_p36 w5 ((some this)) (-1) ((some this))))
else (
some ((-1), w))
theorem eX2_text_p36 {y : Fx (Int32 × Wd)} (hk : OkF y RX2 cX2_text 1 15 348) (hR : RetM y rvI (some (.int))) (w : Wd) (l0 : Option Nat) (t0 : Int32) (t1 : Option Nat) : V y w [(0, va_rf l0)] [.int t0, va_rf t1] 36 (mX2_text_p36 w l0 t0 t1) := by
  unfold mX2_text_p36
  refine p_X2_26 (pc := 36) hk dX2_text_36 (fun w1 => ?_)
  refine V_aload_n (pc := 39) hk dX2_text_39 0 rfl ?_
  refine V_iconst (pc := 40) (v := 0) hk dX2_text_40 rfl ?_
  refine p_X2_75 (pc := 41) hk dX2_text_41 (fun w2 => ?_)
  refine V_aload_n (pc := 44) hk dX2_text_44 0 rfl ?_
  refine g_X2_22 (pc := 45) hk dX2_text_45 (fun v3 => ?_)
  refine V_if_eq (pc := 48) (tgt := 53) hk dX2_text_48 rfl ?_ ?_
  · refine V_aload_n (pc := 53) hk dX2_text_53 0 rfl ?_
    refine g_X2_7 (pc := 54) hk dX2_text_54 (fun v4 => ?_)
    refine V_iconst (pc := 57) (v := 3) hk dX2_text_57 rfl ?_
    refine V_dup2 (pc := 58) hk dX2_text_58 rfl (rf_cat _) ?_
    refine V_iaload (pc := 59) hk dX2_text_59 (fun v5 => ?_)
    refine V_iconst (pc := 60) (v := 1) hk dX2_text_60 rfl ?_
    refine V_iadd (pc := 61) hk dX2_text_61 ?_
    refine V_iastore (pc := 62) hk dX2_text_62 (fun w6 => ?_)
    refine V_aload_n (pc := 63) hk dX2_text_63 0 rfl ?_
    refine g_X2_7 (pc := 64) hk dX2_text_64 (fun v7 => ?_)
    refine V_iconst (pc := 67) (v := 3) hk dX2_text_67 rfl ?_
    refine V_iaload (pc := 68) hk dX2_text_68 (fun v8 => ?_)
    refine V_iconst (pc := 69) (v := 1) hk dX2_text_69 rfl ?_
    refine V_isub (pc := 70) hk dX2_text_70 ?_
    exact V_ireturn (pc := 71) hk hR rfl dX2_text_71
  · refine V_iconst (pc := 51) (v := (-1)) hk dX2_text_51 (by decide +kernel) ?_
    exact V_ireturn (pc := 52) hk hR rfl dX2_text_52
theorem eX2_text {y : Fx (Int32 × Wd)} (hk : OkF y RX2 cX2_text 1 15 348) (hR : RetM y rvI (some (.int))) (this : Nat) (w : Wd) : V y w [(0, va_rf (some this))] [] 0 (mX2_text this w) := by
  unfold mX2_text
  refine V_aload_n (pc := 0) hk dX2_text_0 0 rfl ?_
  refine g_X2_7 (pc := 1) hk dX2_text_1 (fun v1 => ?_)
  refine V_iconst (pc := 4) (v := 3) hk dX2_text_4 rfl ?_
  refine V_iaload (pc := 5) hk dX2_text_5 (fun v2 => ?_)
  refine V_iconst (pc := 6) (v := 4) hk dX2_text_6 rfl ?_
  refine V_icmp_ne (pc := 7) (tgt := 12) hk dX2_text_7 rfl ?_ ?_
  · refine V_aload_n (pc := 12) hk dX2_text_12 0 rfl ?_
    refine V_aload_n (pc := 13) hk dX2_text_13 0 rfl ?_
    refine n_X2_252 (pc := 14) hk (fun b r h => ctX2_readText (fl y) (fK y) hk.2.2.2.2.2.2.2.1 b w r h) ⟨Nat.le_of_ble_eq_true rfl, Nat.le_of_ble_eq_true rfl⟩ (by simp [rf_cat, cat_int, cat_long, cat_ref]) dX2_text_14 (fun r3 => ?_)
    refine p_X2_22 (pc := 17) hk dX2_text_17 (fun w5 => ?_)
    refine V_aload_n (pc := 20) hk dX2_text_20 0 rfl ?_
    refine V_aload_n (pc := 21) hk dX2_text_21 0 rfl ?_
    refine g_X2_22 (pc := 22) hk dX2_text_22 (fun v6 => ?_)
    refine V_if_ne (pc := 25) (tgt := 32) hk dX2_text_25 rfl ?_ ?_
    · refine V_aload_n (pc := 32) hk dX2_text_32 0 rfl ?_
      refine g_X2_89 (pc := 33) hk dX2_text_33 (fun v7 => ?_)
      exact eX2_text_p36 hk hR w5 ((some this)) v7 ((some this))
    · refine V_iconst (pc := 28) (v := (-1)) hk dX2_text_28 (by decide +kernel) ?_
      refine V_goto (pc := 29) (tgt := 36) hk dX2_text_29 rfl ?_
      exact eX2_text_p36 hk hR w5 ((some this)) (-1) ((some this))
  · refine V_iconst (pc := 10) (v := (-1)) hk dX2_text_10 (by decide +kernel) ?_
    exact V_ireturn (pc := 11) hk hR rfl dX2_text_11
theorem ctX2_text (l : Launch) (K : Kx) (hI : Ini K) (b : Nat) (w : Wd) : ∀ r, mX2_text b w = some r → Ct l K 15 348 yX2_text (ws_ yX2_text cX2_text 1 (some (.int))) [.ref b] w (rvI r.1) r.2 := Ct_of rvI l K hI 15 348 [.ref b] w (by decide) (lc0 := [(0, .ref b)]) rfl (Nat.le_of_ble_eq_true rfl) (fun y hk hR _ _ hin => eX2_text hk hR b w)
noncomputable def mX2_fault (this : Nat) (a0 : Int32) (w : Wd) : Option (Int32 × Wd) :=
if ¬ a0 = 0 then (
if ¬ a0 = 1 then (
some ((-1), w))
else (
(gI w ((some this)) 2 6).bind fun v1 =>
some (v1, w)))
else (
(gI w ((some this)) 2 5).bind fun v2 =>
some (v2, w))
theorem eX2_fault {y : Fx (Int32 × Wd)} (hk : OkF y RX2 cX2_fault 2 2 60) (hR : RetM y rvI (some (.int))) (this : Nat) (a0 : Int32) (w : Wd) : V y w [(0, va_rf (some this)), (1, .int a0)] [] 0 (mX2_fault this a0 w) := by
  unfold mX2_fault
  refine V_iload_n (pc := 0) hk dX2_fault_0 1 rfl ?_
  refine V_if_ne (pc := 1) (tgt := 11) hk dX2_fault_1 rfl ?_ ?_
  · refine V_iload_n (pc := 11) hk dX2_fault_11 1 rfl ?_
    refine V_iconst (pc := 12) (v := 1) hk dX2_fault_12 rfl ?_
    refine V_icmp_ne (pc := 13) (tgt := 23) hk dX2_fault_13 rfl ?_ ?_
    · refine V_iconst (pc := 23) (v := (-1)) hk dX2_fault_23 (by decide +kernel) ?_
      exact V_ireturn (pc := 24) hk hR rfl dX2_fault_24
    · refine V_aload_n (pc := 16) hk dX2_fault_16 0 rfl ?_
      refine g_X2_26 (pc := 17) hk dX2_fault_17 (fun v1 => ?_)
      refine V_goto (pc := 20) (tgt := 24) hk dX2_fault_20 rfl ?_
      exact V_ireturn (pc := 24) hk hR rfl dX2_fault_24
  · refine V_aload_n (pc := 4) hk dX2_fault_4 0 rfl ?_
    refine g_X2_22 (pc := 5) hk dX2_fault_5 (fun v2 => ?_)
    refine V_goto (pc := 8) (tgt := 24) hk dX2_fault_8 rfl ?_
    exact V_ireturn (pc := 24) hk hR rfl dX2_fault_24
theorem ctX2_fault (l : Launch) (K : Kx) (hI : Ini K) (b : Nat) (a0 : Int32) (w : Wd) : ∀ r, mX2_fault b a0 w = some r → Ct l K 2 60 yX2_fault (ws_ yX2_fault cX2_fault 2 (some (.int))) [.ref b, .int a0] w (rvI r.1) r.2 := Ct_of rvI l K hI 2 60 [.ref b, .int a0] w (by decide) (lc0 := [(0, .ref b), (1, .int a0)]) rfl (Nat.le_of_ble_eq_true rfl) (fun y hk hR _ _ hin => eX2_fault hk hR b a0 w)
noncomputable def mX2_by (this : Nat) (a0 : Int32) (w : Wd) : Option (Int32 × Wd) :=
(gR w ((some this)) 2 0).bind fun v1 =>
(ia w v1 3).bind fun v2 =>
(cal w (mX2_isIn a0 (-1) (v2 - 1) w)).bind fun r3 =>
if ¬ r3.1 = 0 then (
(gR r3.2 ((some this)) 2 0).bind fun v4 =>
(ias r3.2 v4 4 a0).bind fun w5 =>
(nok (.boolean) 1).bind fun _ => some (1, w5))
else (
(nok (.boolean) 0).bind fun _ => some (0, r3.2))
theorem eX2_by {y : Fx (Int32 × Wd)} (hk : OkF y RX2 cX2_by 2 3 82) (hR : RetM y rvI (some (.boolean))) (this : Nat) (a0 : Int32) (w : Wd) : V y w [(0, va_rf (some this)), (1, .int a0)] [] 0 (mX2_by this a0 w) := by
  unfold mX2_by
  refine V_iload_n (pc := 0) hk dX2_by_0 1 rfl ?_
  refine V_iconst (pc := 1) (v := (-1)) hk dX2_by_1 (by decide +kernel) ?_
  refine V_aload_n (pc := 2) hk dX2_by_2 0 rfl ?_
  refine g_X2_7 (pc := 3) hk dX2_by_3 (fun v1 => ?_)
  refine V_iconst (pc := 6) (v := 3) hk dX2_by_6 rfl ?_
  refine V_iaload (pc := 7) hk dX2_by_7 (fun v2 => ?_)
  refine V_iconst (pc := 8) (v := 1) hk dX2_by_8 rfl ?_
  refine V_isub (pc := 9) hk dX2_by_9 ?_
  refine n_X2_71 (pc := 10) hk (fun r h => ctX2_isIn (fl y) (fK y) hk.2.2.2.2.2.2.2.1 a0 (-1) (v2 - 1) w r h) ⟨Nat.le_of_ble_eq_true rfl, Nat.le_of_ble_eq_true rfl⟩ (Nat.le_of_ble_eq_true rfl) dX2_by_10 (fun r3 => ?_)
  refine V_if_ne (pc := 13) (tgt := 18) hk dX2_by_13 rfl ?_ ?_
  · refine V_aload_n (pc := 18) hk dX2_by_18 0 rfl ?_
    refine g_X2_7 (pc := 19) hk dX2_by_19 (fun v4 => ?_)
    refine V_iconst (pc := 22) (v := 4) hk dX2_by_22 rfl ?_
    refine V_iload_n (pc := 23) hk dX2_by_23 1 rfl ?_
    refine V_iastore (pc := 24) hk dX2_by_24 (fun w5 => ?_)
    refine V_iconst (pc := 25) (v := 1) hk dX2_by_25 rfl ?_
    exact V_zreturn (pc := 26) hk hR rfl dX2_by_26
  · refine V_iconst (pc := 16) (v := 0) hk dX2_by_16 rfl ?_
    exact V_zreturn (pc := 17) hk hR rfl dX2_by_17
theorem ctX2_by (l : Launch) (K : Kx) (hI : Ini K) (b : Nat) (a0 : Int32) (w : Wd) : ∀ r, mX2_by b a0 w = some r → Ct l K 3 82 yX2_by (ws_ yX2_by cX2_by 2 (some (.boolean))) [.ref b, .int a0] w (rvI r.1) r.2 := Ct_of rvI l K hI 3 82 [.ref b, .int a0] w (by decide) (lc0 := [(0, .ref b), (1, .int a0)]) rfl (Nat.le_of_ble_eq_true rfl) (fun y hk hR _ _ hin => eX2_by hk hR b a0 w)
noncomputable def mX2_undo_b98 (k98 : Wd → (Option Nat) → Int32 → Int32 → Option (Int32 × Wd)) (w : Wd) (l0 : Option Nat) (l1 : Int32) (l2 : Int32) : Option (Int32 × Wd) :=
(gR w l0 2 0).bind fun v1 =>
(ia w v1 0).bind fun v2 =>
if v2 ≤ l2 then (
(gR w l0 2 0).bind fun v3 =>
(ia w v3 5).bind fun v4 =>
some (v4, w))
else (
(gR w l0 2 0).bind fun v5 =>
(gR w l0 2 0).bind fun v6 =>
(ia w v6 (l1 + 12)).bind fun v7 =>
(ias w v5 ((20 + (6 * l2)) + 5) ((v7 >>> (l2 &&& 31)) &&& 1)).bind fun w8 =>
k98 w8 l0 l1 (l2 + 1))
noncomputable def mX2_undo_l98 : Nat → Wd → (Option Nat) → Int32 → Int32 → Option (Int32 × Wd)
  | 0, _, _, _, _ => none
  | n + 1, w, l0, l1, l2 => mX2_undo_b98 (mX2_undo_l98 n) w l0 l1 l2
noncomputable def mX2_undo_b36 (k36 : Wd → (Option Nat) → Int32 → Int32 → Option (Int32 × Wd)) (w : Wd) (l0 : Option Nat) (l1 : Int32) (l2 : Int32) : Option (Int32 × Wd) :=
if 10 ≤ l2 then (
(gR w l0 2 0).bind fun v1 =>
(gR w l0 2 0).bind fun v2 =>
(ia w v2 (l1 + 10)).bind fun v3 =>
(ias w v1 2 v3).bind fun w4 =>
(gR w4 l0 2 0).bind fun v5 =>
(gR w4 l0 2 0).bind fun v6 =>
(ia w4 v6 (l1 + 11)).bind fun v7 =>
(ias w4 v5 7 v7).bind fun w8 =>
mX2_undo_l98 FU w8 l0 l1 0)
else (
(gR w l0 2 0).bind fun v9 =>
(gR w l0 2 0).bind fun v10 =>
(ia w v10 (l1 + l2)).bind fun v11 =>
(ias w v9 (8 + l2) v11).bind fun w12 =>
k36 w12 l0 l1 (l2 + 1))
noncomputable def mX2_undo_l36 : Nat → Wd → (Option Nat) → Int32 → Int32 → Option (Int32 × Wd)
  | 0, _, _, _, _ => none
  | n + 1, w, l0, l1, l2 => mX2_undo_b36 (mX2_undo_l36 n) w l0 l1 l2
noncomputable def mX2_undo (this : Nat) (w : Wd) : Option (Int32 × Wd) :=
(gR w ((some this)) 2 0).bind fun v1 =>
(ia w v1 5).bind fun v2 =>
if ¬ v2 = 0 then (
(gR w ((some this)) 2 0).bind fun v3 =>
(ia w v3 5).bind fun v4 =>
(ias w v3 5 (v4 - 1)).bind fun w5 =>
(gR w5 ((some this)) 2 0).bind fun v6 =>
(ia w5 v6 5).bind fun v7 =>
mX2_undo_l36 FU w5 ((some this)) (84 + (13 * v7)) 0)
else (
some ((-1), w))
theorem eX2_undo_b98 {y : Fx (Int32 × Wd)} (hk : OkF y RX2 cX2_undo 3 2 60) (hR : RetM y rvI (some (.int))) {k98 : Wd → (Option Nat) → Int32 → Int32 → Option (Int32 × Wd)} (h98 : ∀ (w : Wd) (l0 : Option Nat) (l1 : Int32) (l2 : Int32), V y w [(0, va_rf l0), (1, .int l1), (2, .int l2)] [] 98 (k98 w l0 l1 l2)) (w : Wd) (l0 : Option Nat) (l1 : Int32) (l2 : Int32) : V y w [(0, va_rf l0), (1, .int l1), (2, .int l2)] [] 98 (mX2_undo_b98 k98 w l0 l1 l2) := by
  unfold mX2_undo_b98
  refine V_iload_n (pc := 98) hk dX2_undo_98 2 rfl ?_
  refine V_aload_n (pc := 99) hk dX2_undo_99 0 rfl ?_
  refine g_X2_7 (pc := 100) hk dX2_undo_100 (fun v1 => ?_)
  refine V_iconst (pc := 103) (v := 0) hk dX2_undo_103 rfl ?_
  refine V_iaload (pc := 104) hk dX2_undo_104 (fun v2 => ?_)
  refine V_icmp_ge (pc := 105) (tgt := 141) hk dX2_undo_105 rfl ?_ ?_
  · refine V_aload_n (pc := 141) hk dX2_undo_141 0 rfl ?_
    refine g_X2_7 (pc := 142) hk dX2_undo_142 (fun v3 => ?_)
    refine V_iconst (pc := 145) (v := 5) hk dX2_undo_145 rfl ?_
    refine V_iaload (pc := 146) hk dX2_undo_146 (fun v4 => ?_)
    exact V_ireturn (pc := 147) hk hR rfl dX2_undo_147
  · refine V_aload_n (pc := 108) hk dX2_undo_108 0 rfl ?_
    refine g_X2_7 (pc := 109) hk dX2_undo_109 (fun v5 => ?_)
    refine V_bipush (pc := 112) (v := 20) hk dX2_undo_112 rfl ?_
    refine V_bipush (pc := 114) (v := 6) hk dX2_undo_114 rfl ?_
    refine V_iload_n (pc := 116) hk dX2_undo_116 2 rfl ?_
    refine V_imul (pc := 117) hk dX2_undo_117 ?_
    refine V_iadd (pc := 118) hk dX2_undo_118 ?_
    refine V_iconst (pc := 119) (v := 5) hk dX2_undo_119 rfl ?_
    refine V_iadd (pc := 120) hk dX2_undo_120 ?_
    refine V_aload_n (pc := 121) hk dX2_undo_121 0 rfl ?_
    refine g_X2_7 (pc := 122) hk dX2_undo_122 (fun v6 => ?_)
    refine V_iload_n (pc := 125) hk dX2_undo_125 1 rfl ?_
    refine V_bipush (pc := 126) (v := 12) hk dX2_undo_126 rfl ?_
    refine V_iadd (pc := 128) hk dX2_undo_128 ?_
    refine V_iaload (pc := 129) hk dX2_undo_129 (fun v7 => ?_)
    refine V_iload_n (pc := 130) hk dX2_undo_130 2 rfl ?_
    refine V_ishr (pc := 131) hk dX2_undo_131 ?_
    refine V_iconst (pc := 132) (v := 1) hk dX2_undo_132 rfl ?_
    refine V_iand (pc := 133) hk dX2_undo_133 ?_
    refine V_iastore (pc := 134) hk dX2_undo_134 (fun w8 => ?_)
    refine V_iinc (pc := 135) (v := 1) (lc' := [(2, .int (l2 + 1)), (0, va_rf l0), (1, .int l1)]) hk dX2_undo_135 2 rfl rfl (Nat.le_of_ble_eq_true rfl) rfl ?_
    refine V_goto (pc := 138) (tgt := 98) hk dX2_undo_138 rfl ?_
    refine V_pick (lc' := [(0, va_rf l0), (1, .int l1), (2, .int (l2 + 1))]) [1, 2, 0] rfl ?_
    exact h98 w8 l0 l1 (l2 + 1)
theorem eX2_undo_l98 {y : Fx (Int32 × Wd)} (hk : OkF y RX2 cX2_undo 3 2 60) (hR : RetM y rvI (some (.int))) : ∀ (n : Nat) (w : Wd) (l0 : Option Nat) (l1 : Int32) (l2 : Int32), V y w [(0, va_rf l0), (1, .int l1), (2, .int l2)] [] 98 (mX2_undo_l98 n w l0 l1 l2) := by
  intro n
  induction n with
  | zero => intro w l0 l1 l2; exact V_none
  | succ n ih => intro w l0 l1 l2; exact eX2_undo_b98 hk hR ih w l0 l1 l2
theorem eX2_undo_b36 {y : Fx (Int32 × Wd)} (hk : OkF y RX2 cX2_undo 3 2 60) (hR : RetM y rvI (some (.int))) {k36 : Wd → (Option Nat) → Int32 → Int32 → Option (Int32 × Wd)} (h36 : ∀ (w : Wd) (l0 : Option Nat) (l1 : Int32) (l2 : Int32), V y w [(0, va_rf l0), (1, .int l1), (2, .int l2)] [] 36 (k36 w l0 l1 l2)) (w : Wd) (l0 : Option Nat) (l1 : Int32) (l2 : Int32) : V y w [(0, va_rf l0), (1, .int l1), (2, .int l2)] [] 36 (mX2_undo_b36 k36 w l0 l1 l2) := by
  unfold mX2_undo_b36
  refine V_iload_n (pc := 36) hk dX2_undo_36 2 rfl ?_
  refine V_bipush (pc := 37) (v := 10) hk dX2_undo_37 rfl ?_
  refine V_icmp_ge (pc := 39) (tgt := 65) hk dX2_undo_39 rfl ?_ ?_
  · refine V_aload_n (pc := 65) hk dX2_undo_65 0 rfl ?_
    refine g_X2_7 (pc := 66) hk dX2_undo_66 (fun v1 => ?_)
    refine V_iconst (pc := 69) (v := 2) hk dX2_undo_69 rfl ?_
    refine V_aload_n (pc := 70) hk dX2_undo_70 0 rfl ?_
    refine g_X2_7 (pc := 71) hk dX2_undo_71 (fun v2 => ?_)
    refine V_iload_n (pc := 74) hk dX2_undo_74 1 rfl ?_
    refine V_bipush (pc := 75) (v := 10) hk dX2_undo_75 rfl ?_
    refine V_iadd (pc := 77) hk dX2_undo_77 ?_
    refine V_iaload (pc := 78) hk dX2_undo_78 (fun v3 => ?_)
    refine V_iastore (pc := 79) hk dX2_undo_79 (fun w4 => ?_)
    refine V_aload_n (pc := 80) hk dX2_undo_80 0 rfl ?_
    refine g_X2_7 (pc := 81) hk dX2_undo_81 (fun v5 => ?_)
    refine V_bipush (pc := 84) (v := 7) hk dX2_undo_84 rfl ?_
    refine V_aload_n (pc := 86) hk dX2_undo_86 0 rfl ?_
    refine g_X2_7 (pc := 87) hk dX2_undo_87 (fun v6 => ?_)
    refine V_iload_n (pc := 90) hk dX2_undo_90 1 rfl ?_
    refine V_bipush (pc := 91) (v := 11) hk dX2_undo_91 rfl ?_
    refine V_iadd (pc := 93) hk dX2_undo_93 ?_
    refine V_iaload (pc := 94) hk dX2_undo_94 (fun v7 => ?_)
    refine V_iastore (pc := 95) hk dX2_undo_95 (fun w8 => ?_)
    refine V_iconst (pc := 96) (v := 0) hk dX2_undo_96 rfl ?_
    refine V_istore_n (pc := 97) (lc' := [(2, .int 0), (0, va_rf l0), (1, .int l1)]) (i := 2) hk dX2_undo_97 rfl (Nat.le_of_ble_eq_true rfl) rfl ?_
    refine V_pick (lc' := [(0, va_rf l0), (1, .int l1), (2, .int 0)]) [1, 2, 0] rfl ?_
    exact eX2_undo_l98 hk hR FU w8 l0 l1 0
  · refine V_aload_n (pc := 42) hk dX2_undo_42 0 rfl ?_
    refine g_X2_7 (pc := 43) hk dX2_undo_43 (fun v9 => ?_)
    refine V_bipush (pc := 46) (v := 8) hk dX2_undo_46 rfl ?_
    refine V_iload_n (pc := 48) hk dX2_undo_48 2 rfl ?_
    refine V_iadd (pc := 49) hk dX2_undo_49 ?_
    refine V_aload_n (pc := 50) hk dX2_undo_50 0 rfl ?_
    refine g_X2_7 (pc := 51) hk dX2_undo_51 (fun v10 => ?_)
    refine V_iload_n (pc := 54) hk dX2_undo_54 1 rfl ?_
    refine V_iload_n (pc := 55) hk dX2_undo_55 2 rfl ?_
    refine V_iadd (pc := 56) hk dX2_undo_56 ?_
    refine V_iaload (pc := 57) hk dX2_undo_57 (fun v11 => ?_)
    refine V_iastore (pc := 58) hk dX2_undo_58 (fun w12 => ?_)
    refine V_iinc (pc := 59) (v := 1) (lc' := [(2, .int (l2 + 1)), (0, va_rf l0), (1, .int l1)]) hk dX2_undo_59 2 rfl rfl (Nat.le_of_ble_eq_true rfl) rfl ?_
    refine V_goto (pc := 62) (tgt := 36) hk dX2_undo_62 rfl ?_
    refine V_pick (lc' := [(0, va_rf l0), (1, .int l1), (2, .int (l2 + 1))]) [1, 2, 0] rfl ?_
    exact h36 w12 l0 l1 (l2 + 1)
theorem eX2_undo_l36 {y : Fx (Int32 × Wd)} (hk : OkF y RX2 cX2_undo 3 2 60) (hR : RetM y rvI (some (.int))) : ∀ (n : Nat) (w : Wd) (l0 : Option Nat) (l1 : Int32) (l2 : Int32), V y w [(0, va_rf l0), (1, .int l1), (2, .int l2)] [] 36 (mX2_undo_l36 n w l0 l1 l2) := by
  intro n
  induction n with
  | zero => intro w l0 l1 l2; exact V_none
  | succ n ih => intro w l0 l1 l2; exact eX2_undo_b36 hk hR ih w l0 l1 l2
theorem eX2_undo {y : Fx (Int32 × Wd)} (hk : OkF y RX2 cX2_undo 3 2 60) (hR : RetM y rvI (some (.int))) (this : Nat) (w : Wd) : V y w [(0, va_rf (some this))] [] 0 (mX2_undo this w) := by
  unfold mX2_undo
  refine V_aload_n (pc := 0) hk dX2_undo_0 0 rfl ?_
  refine g_X2_7 (pc := 1) hk dX2_undo_1 (fun v1 => ?_)
  refine V_iconst (pc := 4) (v := 5) hk dX2_undo_4 rfl ?_
  refine V_iaload (pc := 5) hk dX2_undo_5 (fun v2 => ?_)
  refine V_if_ne (pc := 6) (tgt := 11) hk dX2_undo_6 rfl ?_ ?_
  · refine V_aload_n (pc := 11) hk dX2_undo_11 0 rfl ?_
    refine g_X2_7 (pc := 12) hk dX2_undo_12 (fun v3 => ?_)
    refine V_iconst (pc := 15) (v := 5) hk dX2_undo_15 rfl ?_
    refine V_dup2 (pc := 16) hk dX2_undo_16 rfl (rf_cat _) ?_
    refine V_iaload (pc := 17) hk dX2_undo_17 (fun v4 => ?_)
    refine V_iconst (pc := 18) (v := 1) hk dX2_undo_18 rfl ?_
    refine V_isub (pc := 19) hk dX2_undo_19 ?_
    refine V_iastore (pc := 20) hk dX2_undo_20 (fun w5 => ?_)
    refine V_bipush (pc := 21) (v := 84) hk dX2_undo_21 rfl ?_
    refine V_bipush (pc := 23) (v := 13) hk dX2_undo_23 rfl ?_
    refine V_aload_n (pc := 25) hk dX2_undo_25 0 rfl ?_
    refine g_X2_7 (pc := 26) hk dX2_undo_26 (fun v6 => ?_)
    refine V_iconst (pc := 29) (v := 5) hk dX2_undo_29 rfl ?_
    refine V_iaload (pc := 30) hk dX2_undo_30 (fun v7 => ?_)
    refine V_imul (pc := 31) hk dX2_undo_31 ?_
    refine V_iadd (pc := 32) hk dX2_undo_32 ?_
    refine V_istore_n (pc := 33) (lc' := [(1, .int (84 + (13 * v7))), (0, va_rf ((some this)))]) (i := 1) hk dX2_undo_33 rfl (Nat.le_of_ble_eq_true rfl) (by simp [rf_cat, cat_int, cat_long, cat_ref]) ?_
    refine V_iconst (pc := 34) (v := 0) hk dX2_undo_34 rfl ?_
    refine V_istore_n (pc := 35) (lc' := [(2, .int 0), (1, .int (84 + (13 * v7))), (0, va_rf ((some this)))]) (i := 2) hk dX2_undo_35 rfl (Nat.le_of_ble_eq_true rfl) rfl ?_
    refine V_pick (lc' := [(0, va_rf ((some this))), (1, .int (84 + (13 * v7))), (2, .int 0)]) [2, 1, 0] rfl ?_
    exact eX2_undo_l36 hk hR FU w5 ((some this)) (84 + (13 * v7)) 0
  · refine V_iconst (pc := 9) (v := (-1)) hk dX2_undo_9 (by decide +kernel) ?_
    exact V_ireturn (pc := 10) hk hR rfl dX2_undo_10
theorem ctX2_undo (l : Launch) (K : Kx) (hI : Ini K) (b : Nat) (w : Wd) : ∀ r, mX2_undo b w = some r → Ct l K 2 60 yX2_undo (ws_ yX2_undo cX2_undo 3 (some (.int))) [.ref b] w (rvI r.1) r.2 := Ct_of rvI l K hI 2 60 [.ref b] w (by decide) (lc0 := [(0, .ref b)]) rfl (Nat.le_of_ble_eq_true rfl) (fun y hk hR _ _ hin => eX2_undo hk hR b w)
noncomputable def mX2_get (this : Nat) (a0 : Int32) (a1 : Int32) (w : Wd) : Option (Int32 × Wd) :=
(gR w ((some this)) 2 0).bind fun v1 =>
(ia w v1 ((20 + (6 * a0)) + a1)).bind fun v2 =>
some (v2, w)
theorem eX2_get {y : Fx (Int32 × Wd)} (hk : OkF y RX2 cX2_get 3 2 60) (hR : RetM y rvI (some (.int))) (this : Nat) (a0 : Int32) (a1 : Int32) (w : Wd) : V y w [(0, va_rf (some this)), (1, .int a0), (2, .int a1)] [] 0 (mX2_get this a0 a1 w) := by
  unfold mX2_get
  refine V_aload_n (pc := 0) hk dX2_get_0 0 rfl ?_
  refine g_X2_7 (pc := 1) hk dX2_get_1 (fun v1 => ?_)
  refine V_bipush (pc := 4) (v := 20) hk dX2_get_4 rfl ?_
  refine V_bipush (pc := 6) (v := 6) hk dX2_get_6 rfl ?_
  refine V_iload_n (pc := 8) hk dX2_get_8 1 rfl ?_
  refine V_imul (pc := 9) hk dX2_get_9 ?_
  refine V_iadd (pc := 10) hk dX2_get_10 ?_
  refine V_iload_n (pc := 11) hk dX2_get_11 2 rfl ?_
  refine V_iadd (pc := 12) hk dX2_get_12 ?_
  refine V_iaload (pc := 13) hk dX2_get_13 (fun v2 => ?_)
  exact V_ireturn (pc := 14) hk hR rfl dX2_get_14
theorem ctX2_get (l : Launch) (K : Kx) (hI : Ini K) (b : Nat) (a0 : Int32) (a1 : Int32) (w : Wd) : ∀ r, mX2_get b a0 a1 w = some r → Ct l K 2 60 yX2_get (ws_ yX2_get cX2_get 3 (some (.int))) [.ref b, .int a0, .int a1] w (rvI r.1) r.2 := Ct_of rvI l K hI 2 60 [.ref b, .int a0, .int a1] w (by decide) (lc0 := [(0, .ref b), (1, .int a0), (2, .int a1)]) rfl (Nat.le_of_ble_eq_true rfl) (fun y hk hR _ _ hin => eX2_get hk hR b a0 a1 w)
noncomputable def mX2_keep_b141 (k141 : Wd → (Option Nat) → Int32 → Int32 → Option (Unit × Wd)) (w : Wd) (l0 : Option Nat) (l1 : Int32) (l2 : Int32) : Option (Unit × Wd) :=
(gR w l0 2 0).bind fun v1 =>
(ia w v1 0).bind fun v2 =>
if v2 ≤ l2 then (
(gR w l0 2 0).bind fun v3 =>
(ia w v3 5).bind fun v4 =>
(ias w v3 5 (v4 + 1)).bind fun w5 =>
some ((), w5))
else (
(gR w l0 2 0).bind fun v6 =>
(ia w v6 (l1 + 12)).bind fun v7 =>
(recv w l0 2).bind fun b9 => (cal w (mX2_get b9 l2 5 w)).bind fun r8 =>
(ias r8.2 v6 (l1 + 12) (v7 ||| (r8.1 <<< (l2 &&& 31)))).bind fun w10 =>
k141 w10 l0 l1 (l2 + 1))
noncomputable def mX2_keep_l141 : Nat → Wd → (Option Nat) → Int32 → Int32 → Option (Unit × Wd)
  | 0, _, _, _, _ => none
  | n + 1, w, l0, l1, l2 => mX2_keep_b141 (mX2_keep_l141 n) w l0 l1 l2
noncomputable def mX2_keep_b69 (k69 : Wd → (Option Nat) → Int32 → Int32 → Option (Unit × Wd)) (w : Wd) (l0 : Option Nat) (l1 : Int32) (l2 : Int32) : Option (Unit × Wd) :=
if 10 ≤ l2 then (
(gR w l0 2 0).bind fun v1 =>
(gR w l0 2 0).bind fun v2 =>
(ia w v2 2).bind fun v3 =>
(ias w v1 (l1 + 10) v3).bind fun w4 =>
(gR w4 l0 2 0).bind fun v5 =>
(gR w4 l0 2 0).bind fun v6 =>
(ia w4 v6 7).bind fun v7 =>
(ias w4 v5 (l1 + 11) v7).bind fun w8 =>
(gR w8 l0 2 0).bind fun v9 =>
(ias w8 v9 (l1 + 12) 0).bind fun w10 =>
mX2_keep_l141 FU w10 l0 l1 0)
else (
(gR w l0 2 0).bind fun v11 =>
(gR w l0 2 0).bind fun v12 =>
(ia w v12 (8 + l2)).bind fun v13 =>
(ias w v11 (l1 + l2) v13).bind fun w14 =>
k69 w14 l0 l1 (l2 + 1))
noncomputable def mX2_keep_l69 : Nat → Wd → (Option Nat) → Int32 → Int32 → Option (Unit × Wd)
  | 0, _, _, _, _ => none
  | n + 1, w, l0, l1, l2 => mX2_keep_b69 (mX2_keep_l69 n) w l0 l1 l2
noncomputable def mX2_keep_p54 (w : Wd) (l0 : Option Nat) : Option (Unit × Wd) :=
(gR w l0 2 0).bind fun v1 =>
(ia w v1 5).bind fun v2 =>
mX2_keep_l69 FU w l0 (84 + (13 * v2)) 0
noncomputable def mX2_keep_b13 (k13 : Wd → (Option Nat) → Int32 → Option (Unit × Wd)) (w : Wd) (l0 : Option Nat) (l1 : Int32) : Option (Unit × Wd) :=
if 377 ≤ l1 then (
(gR w l0 2 0).bind fun v1 =>
(ia w v1 5).bind fun v2 =>
(ias w v1 5 (v2 - 1)).bind fun w3 =>
mX2_keep_p54 w3 l0)
else (
(gR w l0 2 0).bind fun v4 =>
(gR w l0 2 0).bind fun v5 =>
(ia w v5 (97 + l1)).bind fun v6 =>
(ias w v4 (84 + l1) v6).bind fun w7 =>
k13 w7 l0 (l1 + 1))
noncomputable def mX2_keep_l13 : Nat → Wd → (Option Nat) → Int32 → Option (Unit × Wd)
  | 0, _, _, _ => none
  | n + 1, w, l0, l1 => mX2_keep_b13 (mX2_keep_l13 n) w l0 l1
noncomputable def mX2_keep (this : Nat) (w : Wd) : Option (Unit × Wd) :=
(gR w ((some this)) 2 0).bind fun v1 =>
(ia w v1 5).bind fun v2 =>
if ¬ v2 = 30 then (
mX2_keep_p54 w ((some this)))
else (
mX2_keep_l13 FU w ((some this)) 0)
theorem eX2_keep_b141 {y : Fx (Unit × Wd)} (hk : OkF y RX2 cX2_keep 3 3 82) (hR : RetM y rvV none) {k141 : Wd → (Option Nat) → Int32 → Int32 → Option (Unit × Wd)} (h141 : ∀ (w : Wd) (l0 : Option Nat) (l1 : Int32) (l2 : Int32), V y w [(0, va_rf l0), (1, .int l1), (2, .int l2)] [] 141 (k141 w l0 l1 l2)) (w : Wd) (l0 : Option Nat) (l1 : Int32) (l2 : Int32) : V y w [(0, va_rf l0), (1, .int l1), (2, .int l2)] [] 141 (mX2_keep_b141 k141 w l0 l1 l2) := by
  unfold mX2_keep_b141
  refine V_iload_n (pc := 141) hk dX2_keep_141 2 rfl ?_
  refine V_aload_n (pc := 142) hk dX2_keep_142 0 rfl ?_
  refine g_X2_7 (pc := 143) hk dX2_keep_143 (fun v1 => ?_)
  refine V_iconst (pc := 146) (v := 0) hk dX2_keep_146 rfl ?_
  refine V_iaload (pc := 147) hk dX2_keep_147 (fun v2 => ?_)
  refine V_icmp_ge (pc := 148) (tgt := 177) hk dX2_keep_148 rfl ?_ ?_
  · refine V_aload_n (pc := 177) hk dX2_keep_177 0 rfl ?_
    refine g_X2_7 (pc := 178) hk dX2_keep_178 (fun v3 => ?_)
    refine V_iconst (pc := 181) (v := 5) hk dX2_keep_181 rfl ?_
    refine V_dup2 (pc := 182) hk dX2_keep_182 rfl (rf_cat _) ?_
    refine V_iaload (pc := 183) hk dX2_keep_183 (fun v4 => ?_)
    refine V_iconst (pc := 184) (v := 1) hk dX2_keep_184 rfl ?_
    refine V_iadd (pc := 185) hk dX2_keep_185 ?_
    refine V_iastore (pc := 186) hk dX2_keep_186 (fun w5 => ?_)
    exact V_return (pc := 187) hk hR rfl dX2_keep_187
  · refine V_aload_n (pc := 151) hk dX2_keep_151 0 rfl ?_
    refine g_X2_7 (pc := 152) hk dX2_keep_152 (fun v6 => ?_)
    refine V_iload_n (pc := 155) hk dX2_keep_155 1 rfl ?_
    refine V_bipush (pc := 156) (v := 12) hk dX2_keep_156 rfl ?_
    refine V_iadd (pc := 158) hk dX2_keep_158 ?_
    refine V_dup2 (pc := 159) hk dX2_keep_159 rfl (rf_cat _) ?_
    refine V_iaload (pc := 160) hk dX2_keep_160 (fun v7 => ?_)
    refine V_aload_n (pc := 161) hk dX2_keep_161 0 rfl ?_
    refine V_iload_n (pc := 162) hk dX2_keep_162 2 rfl ?_
    refine V_iconst (pc := 163) (v := 5) hk dX2_keep_163 rfl ?_
    refine n_X2_295 (pc := 164) hk (fun b r h => ctX2_get (fl y) (fK y) hk.2.2.2.2.2.2.2.1 b l2 5 w r h) ⟨Nat.le_of_ble_eq_true rfl, Nat.le_of_ble_eq_true rfl⟩ (by simp [rf_cat, cat_int, cat_long, cat_ref]) dX2_keep_164 (fun r8 => ?_)
    refine V_iload_n (pc := 167) hk dX2_keep_167 2 rfl ?_
    refine V_ishl (pc := 168) hk dX2_keep_168 ?_
    refine V_ior (pc := 169) hk dX2_keep_169 ?_
    refine V_iastore (pc := 170) hk dX2_keep_170 (fun w10 => ?_)
    refine V_iinc (pc := 171) (v := 1) (lc' := [(2, .int (l2 + 1)), (0, va_rf l0), (1, .int l1)]) hk dX2_keep_171 2 rfl rfl (Nat.le_of_ble_eq_true rfl) rfl ?_
    refine V_goto (pc := 174) (tgt := 141) hk dX2_keep_174 rfl ?_
    refine V_pick (lc' := [(0, va_rf l0), (1, .int l1), (2, .int (l2 + 1))]) [1, 2, 0] rfl ?_
    exact h141 w10 l0 l1 (l2 + 1)
theorem eX2_keep_l141 {y : Fx (Unit × Wd)} (hk : OkF y RX2 cX2_keep 3 3 82) (hR : RetM y rvV none) : ∀ (n : Nat) (w : Wd) (l0 : Option Nat) (l1 : Int32) (l2 : Int32), V y w [(0, va_rf l0), (1, .int l1), (2, .int l2)] [] 141 (mX2_keep_l141 n w l0 l1 l2) := by
  intro n
  induction n with
  | zero => intro w l0 l1 l2; exact V_none
  | succ n ih => intro w l0 l1 l2; exact eX2_keep_b141 hk hR ih w l0 l1 l2
theorem eX2_keep_b69 {y : Fx (Unit × Wd)} (hk : OkF y RX2 cX2_keep 3 3 82) (hR : RetM y rvV none) {k69 : Wd → (Option Nat) → Int32 → Int32 → Option (Unit × Wd)} (h69 : ∀ (w : Wd) (l0 : Option Nat) (l1 : Int32) (l2 : Int32), V y w [(0, va_rf l0), (1, .int l1), (2, .int l2)] [] 69 (k69 w l0 l1 l2)) (w : Wd) (l0 : Option Nat) (l1 : Int32) (l2 : Int32) : V y w [(0, va_rf l0), (1, .int l1), (2, .int l2)] [] 69 (mX2_keep_b69 k69 w l0 l1 l2) := by
  unfold mX2_keep_b69
  refine V_iload_n (pc := 69) hk dX2_keep_69 2 rfl ?_
  refine V_bipush (pc := 70) (v := 10) hk dX2_keep_70 rfl ?_
  refine V_icmp_ge (pc := 72) (tgt := 98) hk dX2_keep_72 rfl ?_ ?_
  · refine V_aload_n (pc := 98) hk dX2_keep_98 0 rfl ?_
    refine g_X2_7 (pc := 99) hk dX2_keep_99 (fun v1 => ?_)
    refine V_iload_n (pc := 102) hk dX2_keep_102 1 rfl ?_
    refine V_bipush (pc := 103) (v := 10) hk dX2_keep_103 rfl ?_
    refine V_iadd (pc := 105) hk dX2_keep_105 ?_
    refine V_aload_n (pc := 106) hk dX2_keep_106 0 rfl ?_
    refine g_X2_7 (pc := 107) hk dX2_keep_107 (fun v2 => ?_)
    refine V_iconst (pc := 110) (v := 2) hk dX2_keep_110 rfl ?_
    refine V_iaload (pc := 111) hk dX2_keep_111 (fun v3 => ?_)
    refine V_iastore (pc := 112) hk dX2_keep_112 (fun w4 => ?_)
    refine V_aload_n (pc := 113) hk dX2_keep_113 0 rfl ?_
    refine g_X2_7 (pc := 114) hk dX2_keep_114 (fun v5 => ?_)
    refine V_iload_n (pc := 117) hk dX2_keep_117 1 rfl ?_
    refine V_bipush (pc := 118) (v := 11) hk dX2_keep_118 rfl ?_
    refine V_iadd (pc := 120) hk dX2_keep_120 ?_
    refine V_aload_n (pc := 121) hk dX2_keep_121 0 rfl ?_
    refine g_X2_7 (pc := 122) hk dX2_keep_122 (fun v6 => ?_)
    refine V_bipush (pc := 125) (v := 7) hk dX2_keep_125 rfl ?_
    refine V_iaload (pc := 127) hk dX2_keep_127 (fun v7 => ?_)
    refine V_iastore (pc := 128) hk dX2_keep_128 (fun w8 => ?_)
    refine V_aload_n (pc := 129) hk dX2_keep_129 0 rfl ?_
    refine g_X2_7 (pc := 130) hk dX2_keep_130 (fun v9 => ?_)
    refine V_iload_n (pc := 133) hk dX2_keep_133 1 rfl ?_
    refine V_bipush (pc := 134) (v := 12) hk dX2_keep_134 rfl ?_
    refine V_iadd (pc := 136) hk dX2_keep_136 ?_
    refine V_iconst (pc := 137) (v := 0) hk dX2_keep_137 rfl ?_
    refine V_iastore (pc := 138) hk dX2_keep_138 (fun w10 => ?_)
    refine V_iconst (pc := 139) (v := 0) hk dX2_keep_139 rfl ?_
    refine V_istore_n (pc := 140) (lc' := [(2, .int 0), (0, va_rf l0), (1, .int l1)]) (i := 2) hk dX2_keep_140 rfl (Nat.le_of_ble_eq_true rfl) rfl ?_
    refine V_pick (lc' := [(0, va_rf l0), (1, .int l1), (2, .int 0)]) [1, 2, 0] rfl ?_
    exact eX2_keep_l141 hk hR FU w10 l0 l1 0
  · refine V_aload_n (pc := 75) hk dX2_keep_75 0 rfl ?_
    refine g_X2_7 (pc := 76) hk dX2_keep_76 (fun v11 => ?_)
    refine V_iload_n (pc := 79) hk dX2_keep_79 1 rfl ?_
    refine V_iload_n (pc := 80) hk dX2_keep_80 2 rfl ?_
    refine V_iadd (pc := 81) hk dX2_keep_81 ?_
    refine V_aload_n (pc := 82) hk dX2_keep_82 0 rfl ?_
    refine g_X2_7 (pc := 83) hk dX2_keep_83 (fun v12 => ?_)
    refine V_bipush (pc := 86) (v := 8) hk dX2_keep_86 rfl ?_
    refine V_iload_n (pc := 88) hk dX2_keep_88 2 rfl ?_
    refine V_iadd (pc := 89) hk dX2_keep_89 ?_
    refine V_iaload (pc := 90) hk dX2_keep_90 (fun v13 => ?_)
    refine V_iastore (pc := 91) hk dX2_keep_91 (fun w14 => ?_)
    refine V_iinc (pc := 92) (v := 1) (lc' := [(2, .int (l2 + 1)), (0, va_rf l0), (1, .int l1)]) hk dX2_keep_92 2 rfl rfl (Nat.le_of_ble_eq_true rfl) rfl ?_
    refine V_goto (pc := 95) (tgt := 69) hk dX2_keep_95 rfl ?_
    refine V_pick (lc' := [(0, va_rf l0), (1, .int l1), (2, .int (l2 + 1))]) [1, 2, 0] rfl ?_
    exact h69 w14 l0 l1 (l2 + 1)
theorem eX2_keep_l69 {y : Fx (Unit × Wd)} (hk : OkF y RX2 cX2_keep 3 3 82) (hR : RetM y rvV none) : ∀ (n : Nat) (w : Wd) (l0 : Option Nat) (l1 : Int32) (l2 : Int32), V y w [(0, va_rf l0), (1, .int l1), (2, .int l2)] [] 69 (mX2_keep_l69 n w l0 l1 l2) := by
  intro n
  induction n with
  | zero => intro w l0 l1 l2; exact V_none
  | succ n ih => intro w l0 l1 l2; exact eX2_keep_b69 hk hR ih w l0 l1 l2
theorem eX2_keep_p54 {y : Fx (Unit × Wd)} (hk : OkF y RX2 cX2_keep 3 3 82) (hR : RetM y rvV none) (w : Wd) (l0 : Option Nat) : V y w [(0, va_rf l0)] [] 54 (mX2_keep_p54 w l0) := by
  unfold mX2_keep_p54
  refine V_bipush (pc := 54) (v := 84) hk dX2_keep_54 rfl ?_
  refine V_bipush (pc := 56) (v := 13) hk dX2_keep_56 rfl ?_
  refine V_aload_n (pc := 58) hk dX2_keep_58 0 rfl ?_
  refine g_X2_7 (pc := 59) hk dX2_keep_59 (fun v1 => ?_)
  refine V_iconst (pc := 62) (v := 5) hk dX2_keep_62 rfl ?_
  refine V_iaload (pc := 63) hk dX2_keep_63 (fun v2 => ?_)
  refine V_imul (pc := 64) hk dX2_keep_64 ?_
  refine V_iadd (pc := 65) hk dX2_keep_65 ?_
  refine V_istore_n (pc := 66) (lc' := [(1, .int (84 + (13 * v2))), (0, va_rf l0)]) (i := 1) hk dX2_keep_66 rfl (Nat.le_of_ble_eq_true rfl) (by simp [rf_cat, cat_int, cat_long, cat_ref]) ?_
  refine V_iconst (pc := 67) (v := 0) hk dX2_keep_67 rfl ?_
  refine V_istore_n (pc := 68) (lc' := [(2, .int 0), (1, .int (84 + (13 * v2))), (0, va_rf l0)]) (i := 2) hk dX2_keep_68 rfl (Nat.le_of_ble_eq_true rfl) rfl ?_
  refine V_pick (lc' := [(0, va_rf l0), (1, .int (84 + (13 * v2))), (2, .int 0)]) [2, 1, 0] rfl ?_
  exact eX2_keep_l69 hk hR FU w l0 (84 + (13 * v2)) 0
theorem eX2_keep_b13 {y : Fx (Unit × Wd)} (hk : OkF y RX2 cX2_keep 3 3 82) (hR : RetM y rvV none) {k13 : Wd → (Option Nat) → Int32 → Option (Unit × Wd)} (h13 : ∀ (w : Wd) (l0 : Option Nat) (l1 : Int32), V y w [(0, va_rf l0), (1, .int l1)] [] 13 (k13 w l0 l1)) (w : Wd) (l0 : Option Nat) (l1 : Int32) : V y w [(0, va_rf l0), (1, .int l1)] [] 13 (mX2_keep_b13 k13 w l0 l1) := by
  unfold mX2_keep_b13
  refine V_iload_n (pc := 13) hk dX2_keep_13 1 rfl ?_
  refine V_sipush (pc := 14) (v := 377) hk dX2_keep_14 rfl ?_
  refine V_icmp_ge (pc := 17) (tgt := 44) hk dX2_keep_17 rfl ?_ ?_
  · refine V_aload_n (pc := 44) hk dX2_keep_44 0 rfl ?_
    refine g_X2_7 (pc := 45) hk dX2_keep_45 (fun v1 => ?_)
    refine V_iconst (pc := 48) (v := 5) hk dX2_keep_48 rfl ?_
    refine V_dup2 (pc := 49) hk dX2_keep_49 rfl (rf_cat _) ?_
    refine V_iaload (pc := 50) hk dX2_keep_50 (fun v2 => ?_)
    refine V_iconst (pc := 51) (v := 1) hk dX2_keep_51 rfl ?_
    refine V_isub (pc := 52) hk dX2_keep_52 ?_
    refine V_iastore (pc := 53) hk dX2_keep_53 (fun w3 => ?_)
    refine V_pick (lc' := [(0, va_rf l0)]) [0] rfl ?_
    exact eX2_keep_p54 hk hR w3 l0
  · refine V_aload_n (pc := 20) hk dX2_keep_20 0 rfl ?_
    refine g_X2_7 (pc := 21) hk dX2_keep_21 (fun v4 => ?_)
    refine V_bipush (pc := 24) (v := 84) hk dX2_keep_24 rfl ?_
    refine V_iload_n (pc := 26) hk dX2_keep_26 1 rfl ?_
    refine V_iadd (pc := 27) hk dX2_keep_27 ?_
    refine V_aload_n (pc := 28) hk dX2_keep_28 0 rfl ?_
    refine g_X2_7 (pc := 29) hk dX2_keep_29 (fun v5 => ?_)
    refine V_bipush (pc := 32) (v := 97) hk dX2_keep_32 rfl ?_
    refine V_iload_n (pc := 34) hk dX2_keep_34 1 rfl ?_
    refine V_iadd (pc := 35) hk dX2_keep_35 ?_
    refine V_iaload (pc := 36) hk dX2_keep_36 (fun v6 => ?_)
    refine V_iastore (pc := 37) hk dX2_keep_37 (fun w7 => ?_)
    refine V_iinc (pc := 38) (v := 1) (lc' := [(1, .int (l1 + 1)), (0, va_rf l0)]) hk dX2_keep_38 1 rfl rfl (Nat.le_of_ble_eq_true rfl) (by simp [rf_cat, cat_int, cat_long, cat_ref]) ?_
    refine V_goto (pc := 41) (tgt := 13) hk dX2_keep_41 rfl ?_
    refine V_pick (lc' := [(0, va_rf l0), (1, .int (l1 + 1))]) [1, 0] rfl ?_
    exact h13 w7 l0 (l1 + 1)
theorem eX2_keep_l13 {y : Fx (Unit × Wd)} (hk : OkF y RX2 cX2_keep 3 3 82) (hR : RetM y rvV none) : ∀ (n : Nat) (w : Wd) (l0 : Option Nat) (l1 : Int32), V y w [(0, va_rf l0), (1, .int l1)] [] 13 (mX2_keep_l13 n w l0 l1) := by
  intro n
  induction n with
  | zero => intro w l0 l1; exact V_none
  | succ n ih => intro w l0 l1; exact eX2_keep_b13 hk hR ih w l0 l1
theorem eX2_keep {y : Fx (Unit × Wd)} (hk : OkF y RX2 cX2_keep 3 3 82) (hR : RetM y rvV none) (this : Nat) (w : Wd) : V y w [(0, va_rf (some this))] [] 0 (mX2_keep this w) := by
  unfold mX2_keep
  refine V_aload_n (pc := 0) hk dX2_keep_0 0 rfl ?_
  refine g_X2_7 (pc := 1) hk dX2_keep_1 (fun v1 => ?_)
  refine V_iconst (pc := 4) (v := 5) hk dX2_keep_4 rfl ?_
  refine V_iaload (pc := 5) hk dX2_keep_5 (fun v2 => ?_)
  refine V_bipush (pc := 6) (v := 30) hk dX2_keep_6 rfl ?_
  refine V_icmp_ne (pc := 8) (tgt := 54) hk dX2_keep_8 rfl ?_ ?_
  · exact eX2_keep_p54 hk hR w ((some this))
  · refine V_iconst (pc := 11) (v := 0) hk dX2_keep_11 rfl ?_
    refine V_istore_n (pc := 12) (lc' := [(1, .int 0), (0, va_rf ((some this)))]) (i := 1) hk dX2_keep_12 rfl (Nat.le_of_ble_eq_true rfl) (by simp [rf_cat, cat_int, cat_long, cat_ref]) ?_
    refine V_pick (lc' := [(0, va_rf ((some this))), (1, .int 0)]) [1, 0] rfl ?_
    exact eX2_keep_l13 hk hR FU w ((some this)) 0
theorem ctX2_keep (l : Launch) (K : Kx) (hI : Ini K) (b : Nat) (w : Wd) : ∀ r, mX2_keep b w = some r → Ct l K 3 82 yX2_keep (ws_ yX2_keep cX2_keep 3 none) [.ref b] w (rvV r.1) r.2 := Ct_of rvV l K hI 3 82 [.ref b] w (by decide) (lc0 := [(0, .ref b)]) rfl (Nat.le_of_ble_eq_true rfl) (fun y hk hR _ _ hin => eX2_keep hk hR b w)
noncomputable def mX2_away (this : Nat) (w : Wd) : Option (Int32 × Wd) :=
(gR w ((some this)) 2 0).bind fun v1 =>
(ia w v1 8).bind fun v2 =>
(gR w ((some this)) 2 0).bind fun v3 =>
(ia w v3 10).bind fun v4 =>
some (v2 - v4, w)
theorem eX2_away {y : Fx (Int32 × Wd)} (hk : OkF y RX2 cX2_away 1 2 60) (hR : RetM y rvI (some (.int))) (this : Nat) (w : Wd) : V y w [(0, va_rf (some this))] [] 0 (mX2_away this w) := by
  unfold mX2_away
  refine V_aload_n (pc := 0) hk dX2_away_0 0 rfl ?_
  refine g_X2_7 (pc := 1) hk dX2_away_1 (fun v1 => ?_)
  refine V_bipush (pc := 4) (v := 8) hk dX2_away_4 rfl ?_
  refine V_iaload (pc := 6) hk dX2_away_6 (fun v2 => ?_)
  refine V_aload_n (pc := 7) hk dX2_away_7 0 rfl ?_
  refine g_X2_7 (pc := 8) hk dX2_away_8 (fun v3 => ?_)
  refine V_bipush (pc := 11) (v := 10) hk dX2_away_11 rfl ?_
  refine V_iaload (pc := 13) hk dX2_away_13 (fun v4 => ?_)
  refine V_isub (pc := 14) hk dX2_away_14 ?_
  exact V_ireturn (pc := 15) hk hR rfl dX2_away_15
theorem ctX2_away (l : Launch) (K : Kx) (hI : Ini K) (b : Nat) (w : Wd) : ∀ r, mX2_away b w = some r → Ct l K 2 60 yX2_away (ws_ yX2_away cX2_away 1 (some (.int))) [.ref b] w (rvI r.1) r.2 := Ct_of rvI l K hI 2 60 [.ref b] w (by decide) (lc0 := [(0, .ref b)]) rfl (Nat.le_of_ble_eq_true rfl) (fun y hk hR _ _ hin => eX2_away hk hR b w)
noncomputable def mX2_layPast (this : Nat) (a0 : Int32) (w : Wd) : Option (Unit × Wd) :=
(gR w ((some this)) 2 0).bind fun v1 =>
(ia w v1 16).bind fun v2 =>
(irm v2 1536).bind fun v3 =>
(gR w ((some this)) 2 0).bind fun v4 =>
(recv w ((some this)) 2).bind fun b6 => (cal w (mX2_away b6 w)).bind fun r5 =>
(ias r5.2 v4 (602 + (6 * v3)) r5.1).bind fun w7 =>
(gR w7 ((some this)) 2 0).bind fun v8 =>
(gR w7 ((some this)) 2 0).bind fun v9 =>
(ia w7 v9 11).bind fun v10 =>
(ias w7 v8 ((602 + (6 * v3)) + 1) v10).bind fun w11 =>
(gR w11 ((some this)) 2 0).bind fun v12 =>
(gR w11 ((some this)) 2 0).bind fun v13 =>
(ia w11 v13 9).bind fun v14 =>
(ias w11 v12 ((602 + (6 * v3)) + 2) v14).bind fun w15 =>
(gR w15 ((some this)) 2 0).bind fun v16 =>
(gR w15 ((some this)) 2 0).bind fun v17 =>
(ia w15 v17 14).bind fun v18 =>
(ias w15 v16 ((602 + (6 * v3)) + 3) v18).bind fun w19 =>
(gR w19 ((some this)) 2 0).bind fun v20 =>
(gR w19 ((some this)) 2 0).bind fun v21 =>
(ia w19 v21 15).bind fun v22 =>
(gR w19 ((some this)) 2 0).bind fun v23 =>
(ia w19 v23 8).bind fun v24 =>
(ias w19 v20 ((602 + (6 * v3)) + 4) (v22 - v24)).bind fun w25 =>
(gR w25 ((some this)) 2 0).bind fun v26 =>
(ias w25 v26 ((602 + (6 * v3)) + 5) a0).bind fun w27 =>
some ((), w27)
theorem eX2_layPast {y : Fx (Unit × Wd)} (hk : OkF y RX2 cX2_layPast 3 3 80) (hR : RetM y rvV none) (this : Nat) (a0 : Int32) (w : Wd) : V y w [(0, va_rf (some this)), (1, .int a0)] [] 0 (mX2_layPast this a0 w) := by
  unfold mX2_layPast
  refine V_sipush (pc := 0) (v := 602) hk dX2_layPast_0 rfl ?_
  refine V_bipush (pc := 3) (v := 6) hk dX2_layPast_3 rfl ?_
  refine V_aload_n (pc := 5) hk dX2_layPast_5 0 rfl ?_
  refine g_X2_7 (pc := 6) hk dX2_layPast_6 (fun v1 => ?_)
  refine V_bipush (pc := 9) (v := 16) hk dX2_layPast_9 rfl ?_
  refine V_iaload (pc := 11) hk dX2_layPast_11 (fun v2 => ?_)
  refine V_sipush (pc := 12) (v := 1536) hk dX2_layPast_12 rfl ?_
  refine V_irem (pc := 15) hk dX2_layPast_15 (fun v3 => ?_)
  refine V_imul (pc := 16) hk dX2_layPast_16 ?_
  refine V_iadd (pc := 17) hk dX2_layPast_17 ?_
  refine V_istore_n (pc := 18) (lc' := [(2, .int (602 + (6 * v3))), (0, va_rf ((some this))), (1, .int a0)]) (i := 2) hk dX2_layPast_18 rfl (Nat.le_of_ble_eq_true rfl) rfl ?_
  refine V_aload_n (pc := 19) hk dX2_layPast_19 1 rfl ?_
  refine g_X2_7 (pc := 20) hk dX2_layPast_20 (fun v4 => ?_)
  refine V_iload_n (pc := 23) hk dX2_layPast_23 0 rfl ?_
  refine V_aload_n (pc := 24) hk dX2_layPast_24 1 rfl ?_
  refine n_X2_292 (pc := 25) hk (fun b r h => ctX2_away (fl y) (fK y) hk.2.2.2.2.2.2.2.1 b w r h) ⟨Nat.le_of_ble_eq_true rfl, Nat.le_of_ble_eq_true rfl⟩ (by simp [rf_cat, cat_int, cat_long, cat_ref]) dX2_layPast_25 (fun r5 => ?_)
  refine V_iastore (pc := 28) hk dX2_layPast_28 (fun w7 => ?_)
  refine V_aload_n (pc := 29) hk dX2_layPast_29 1 rfl ?_
  refine g_X2_7 (pc := 30) hk dX2_layPast_30 (fun v8 => ?_)
  refine V_iload_n (pc := 33) hk dX2_layPast_33 0 rfl ?_
  refine V_iconst (pc := 34) (v := 1) hk dX2_layPast_34 rfl ?_
  refine V_iadd (pc := 35) hk dX2_layPast_35 ?_
  refine V_aload_n (pc := 36) hk dX2_layPast_36 1 rfl ?_
  refine g_X2_7 (pc := 37) hk dX2_layPast_37 (fun v9 => ?_)
  refine V_bipush (pc := 40) (v := 11) hk dX2_layPast_40 rfl ?_
  refine V_iaload (pc := 42) hk dX2_layPast_42 (fun v10 => ?_)
  refine V_iastore (pc := 43) hk dX2_layPast_43 (fun w11 => ?_)
  refine V_aload_n (pc := 44) hk dX2_layPast_44 1 rfl ?_
  refine g_X2_7 (pc := 45) hk dX2_layPast_45 (fun v12 => ?_)
  refine V_iload_n (pc := 48) hk dX2_layPast_48 0 rfl ?_
  refine V_iconst (pc := 49) (v := 2) hk dX2_layPast_49 rfl ?_
  refine V_iadd (pc := 50) hk dX2_layPast_50 ?_
  refine V_aload_n (pc := 51) hk dX2_layPast_51 1 rfl ?_
  refine g_X2_7 (pc := 52) hk dX2_layPast_52 (fun v13 => ?_)
  refine V_bipush (pc := 55) (v := 9) hk dX2_layPast_55 rfl ?_
  refine V_iaload (pc := 57) hk dX2_layPast_57 (fun v14 => ?_)
  refine V_iastore (pc := 58) hk dX2_layPast_58 (fun w15 => ?_)
  refine V_aload_n (pc := 59) hk dX2_layPast_59 1 rfl ?_
  refine g_X2_7 (pc := 60) hk dX2_layPast_60 (fun v16 => ?_)
  refine V_iload_n (pc := 63) hk dX2_layPast_63 0 rfl ?_
  refine V_iconst (pc := 64) (v := 3) hk dX2_layPast_64 rfl ?_
  refine V_iadd (pc := 65) hk dX2_layPast_65 ?_
  refine V_aload_n (pc := 66) hk dX2_layPast_66 1 rfl ?_
  refine g_X2_7 (pc := 67) hk dX2_layPast_67 (fun v17 => ?_)
  refine V_bipush (pc := 70) (v := 14) hk dX2_layPast_70 rfl ?_
  refine V_iaload (pc := 72) hk dX2_layPast_72 (fun v18 => ?_)
  refine V_iastore (pc := 73) hk dX2_layPast_73 (fun w19 => ?_)
  refine V_aload_n (pc := 74) hk dX2_layPast_74 1 rfl ?_
  refine g_X2_7 (pc := 75) hk dX2_layPast_75 (fun v20 => ?_)
  refine V_iload_n (pc := 78) hk dX2_layPast_78 0 rfl ?_
  refine V_iconst (pc := 79) (v := 4) hk dX2_layPast_79 rfl ?_
  refine V_iadd (pc := 80) hk dX2_layPast_80 ?_
  refine V_aload_n (pc := 81) hk dX2_layPast_81 1 rfl ?_
  refine g_X2_7 (pc := 82) hk dX2_layPast_82 (fun v21 => ?_)
  refine V_bipush (pc := 85) (v := 15) hk dX2_layPast_85 rfl ?_
  refine V_iaload (pc := 87) hk dX2_layPast_87 (fun v22 => ?_)
  refine V_aload_n (pc := 88) hk dX2_layPast_88 1 rfl ?_
  refine g_X2_7 (pc := 89) hk dX2_layPast_89 (fun v23 => ?_)
  refine V_bipush (pc := 92) (v := 8) hk dX2_layPast_92 rfl ?_
  refine V_iaload (pc := 94) hk dX2_layPast_94 (fun v24 => ?_)
  refine V_isub (pc := 95) hk dX2_layPast_95 ?_
  refine V_iastore (pc := 96) hk dX2_layPast_96 (fun w25 => ?_)
  refine V_aload_n (pc := 97) hk dX2_layPast_97 1 rfl ?_
  refine g_X2_7 (pc := 98) hk dX2_layPast_98 (fun v26 => ?_)
  refine V_iload_n (pc := 101) hk dX2_layPast_101 0 rfl ?_
  refine V_iconst (pc := 102) (v := 5) hk dX2_layPast_102 rfl ?_
  refine V_iadd (pc := 103) hk dX2_layPast_103 ?_
  refine V_iload_n (pc := 104) hk dX2_layPast_104 2 rfl ?_
  refine V_iastore (pc := 105) hk dX2_layPast_105 (fun w27 => ?_)
  exact V_return (pc := 106) hk hR rfl dX2_layPast_106
theorem ctX2_layPast (l : Launch) (K : Kx) (hI : Ini K) (b : Nat) (a0 : Int32) (w : Wd) : ∀ r, mX2_layPast b a0 w = some r → Ct l K 3 80 yX2_layPast (ws_ yX2_layPast cX2_layPast 3 none) [.ref b, .int a0] w (rvV r.1) r.2 := Ct_of rvV l K hI 3 80 [.ref b, .int a0] w (by decide) (lc0 := [(0, .ref b), (1, .int a0)]) rfl (Nat.le_of_ble_eq_true rfl) (fun y hk hR _ _ hin => eX2_layPast hk hR b a0 w)
noncomputable def mX2_nameNow (this : Nat) (w : Wd) : Option (Unit × Wd) :=
(gR w ((some this)) 2 20).bind fun v1 =>
(recv w ((some this)) 2).bind fun b3 => (cal w (mX2_away b3 w)).bind fun r2 =>
(ias r2.2 v1 0 r2.1).bind fun w4 =>
(gR w4 ((some this)) 2 20).bind fun v5 =>
(gR w4 ((some this)) 2 0).bind fun v6 =>
(ia w4 v6 11).bind fun v7 =>
(ias w4 v5 1 v7).bind fun w8 =>
(gR w8 ((some this)) 2 20).bind fun v9 =>
(gR w8 ((some this)) 2 0).bind fun v10 =>
(ia w8 v10 9).bind fun v11 =>
(ias w8 v9 2 v11).bind fun w12 =>
(gR w12 ((some this)) 2 20).bind fun v13 =>
(gR w12 ((some this)) 2 0).bind fun v14 =>
(ia w12 v14 14).bind fun v15 =>
(ias w12 v13 3 v15).bind fun w16 =>
(gR w16 ((some this)) 2 20).bind fun v17 =>
(gR w16 ((some this)) 2 0).bind fun v18 =>
(ia w16 v18 15).bind fun v19 =>
(gR w16 ((some this)) 2 0).bind fun v20 =>
(ia w16 v20 8).bind fun v21 =>
(ias w16 v17 4 (v19 - v21)).bind fun w22 =>
(gR w22 ((some this)) 2 20).bind fun v23 =>
(gR w22 ((some this)) 2 0).bind fun v24 =>
(ia w22 v24 12).bind fun v25 =>
(ias w22 v23 5 v25).bind fun w26 =>
(gR w26 ((some this)) 2 20).bind fun v27 =>
(gR w26 ((some this)) 2 0).bind fun v28 =>
(ia w26 v28 13).bind fun v29 =>
(ias w26 v27 6 v29).bind fun w30 =>
(gR w30 ((some this)) 2 0).bind fun v31 =>
(ia w30 v31 16).bind fun v32 =>
(pf w30 ((some this)) 2 21 (.int v32)).bind fun w33 =>
(gR w33 ((some this)) 2 0).bind fun v34 =>
(ia w33 v34 16).bind fun v35 =>
if 60 ≤ v35 then (
(gR w33 ((some this)) 2 0).bind fun v36 =>
(ia w33 v36 16).bind fun v37 =>
(pf w33 ((some this)) 2 22 (.int (v37 - 60))).bind fun w38 =>
some ((), w38))
else (
(pf w33 ((some this)) 2 22 (.int 0)).bind fun w39 =>
some ((), w39))
theorem eX2_nameNow {y : Fx (Unit × Wd)} (hk : OkF y RX2 cX2_nameNow 1 3 80) (hR : RetM y rvV none) (this : Nat) (w : Wd) : V y w [(0, va_rf (some this))] [] 0 (mX2_nameNow this w) := by
  unfold mX2_nameNow
  refine V_aload_n (pc := 0) hk dX2_nameNow_0 0 rfl ?_
  refine g_X2_32 (pc := 1) hk dX2_nameNow_1 (fun v1 => ?_)
  refine V_iconst (pc := 4) (v := 0) hk dX2_nameNow_4 rfl ?_
  refine V_aload_n (pc := 5) hk dX2_nameNow_5 0 rfl ?_
  refine n_X2_292 (pc := 6) hk (fun b r h => ctX2_away (fl y) (fK y) hk.2.2.2.2.2.2.2.1 b w r h) ⟨Nat.le_of_ble_eq_true rfl, Nat.le_of_ble_eq_true rfl⟩ (by simp [rf_cat, cat_int, cat_long, cat_ref]) dX2_nameNow_6 (fun r2 => ?_)
  refine V_iastore (pc := 9) hk dX2_nameNow_9 (fun w4 => ?_)
  refine V_aload_n (pc := 10) hk dX2_nameNow_10 0 rfl ?_
  refine g_X2_32 (pc := 11) hk dX2_nameNow_11 (fun v5 => ?_)
  refine V_iconst (pc := 14) (v := 1) hk dX2_nameNow_14 rfl ?_
  refine V_aload_n (pc := 15) hk dX2_nameNow_15 0 rfl ?_
  refine g_X2_7 (pc := 16) hk dX2_nameNow_16 (fun v6 => ?_)
  refine V_bipush (pc := 19) (v := 11) hk dX2_nameNow_19 rfl ?_
  refine V_iaload (pc := 21) hk dX2_nameNow_21 (fun v7 => ?_)
  refine V_iastore (pc := 22) hk dX2_nameNow_22 (fun w8 => ?_)
  refine V_aload_n (pc := 23) hk dX2_nameNow_23 0 rfl ?_
  refine g_X2_32 (pc := 24) hk dX2_nameNow_24 (fun v9 => ?_)
  refine V_iconst (pc := 27) (v := 2) hk dX2_nameNow_27 rfl ?_
  refine V_aload_n (pc := 28) hk dX2_nameNow_28 0 rfl ?_
  refine g_X2_7 (pc := 29) hk dX2_nameNow_29 (fun v10 => ?_)
  refine V_bipush (pc := 32) (v := 9) hk dX2_nameNow_32 rfl ?_
  refine V_iaload (pc := 34) hk dX2_nameNow_34 (fun v11 => ?_)
  refine V_iastore (pc := 35) hk dX2_nameNow_35 (fun w12 => ?_)
  refine V_aload_n (pc := 36) hk dX2_nameNow_36 0 rfl ?_
  refine g_X2_32 (pc := 37) hk dX2_nameNow_37 (fun v13 => ?_)
  refine V_iconst (pc := 40) (v := 3) hk dX2_nameNow_40 rfl ?_
  refine V_aload_n (pc := 41) hk dX2_nameNow_41 0 rfl ?_
  refine g_X2_7 (pc := 42) hk dX2_nameNow_42 (fun v14 => ?_)
  refine V_bipush (pc := 45) (v := 14) hk dX2_nameNow_45 rfl ?_
  refine V_iaload (pc := 47) hk dX2_nameNow_47 (fun v15 => ?_)
  refine V_iastore (pc := 48) hk dX2_nameNow_48 (fun w16 => ?_)
  refine V_aload_n (pc := 49) hk dX2_nameNow_49 0 rfl ?_
  refine g_X2_32 (pc := 50) hk dX2_nameNow_50 (fun v17 => ?_)
  refine V_iconst (pc := 53) (v := 4) hk dX2_nameNow_53 rfl ?_
  refine V_aload_n (pc := 54) hk dX2_nameNow_54 0 rfl ?_
  refine g_X2_7 (pc := 55) hk dX2_nameNow_55 (fun v18 => ?_)
  refine V_bipush (pc := 58) (v := 15) hk dX2_nameNow_58 rfl ?_
  refine V_iaload (pc := 60) hk dX2_nameNow_60 (fun v19 => ?_)
  refine V_aload_n (pc := 61) hk dX2_nameNow_61 0 rfl ?_
  refine g_X2_7 (pc := 62) hk dX2_nameNow_62 (fun v20 => ?_)
  refine V_bipush (pc := 65) (v := 8) hk dX2_nameNow_65 rfl ?_
  refine V_iaload (pc := 67) hk dX2_nameNow_67 (fun v21 => ?_)
  refine V_isub (pc := 68) hk dX2_nameNow_68 ?_
  refine V_iastore (pc := 69) hk dX2_nameNow_69 (fun w22 => ?_)
  refine V_aload_n (pc := 70) hk dX2_nameNow_70 0 rfl ?_
  refine g_X2_32 (pc := 71) hk dX2_nameNow_71 (fun v23 => ?_)
  refine V_iconst (pc := 74) (v := 5) hk dX2_nameNow_74 rfl ?_
  refine V_aload_n (pc := 75) hk dX2_nameNow_75 0 rfl ?_
  refine g_X2_7 (pc := 76) hk dX2_nameNow_76 (fun v24 => ?_)
  refine V_bipush (pc := 79) (v := 12) hk dX2_nameNow_79 rfl ?_
  refine V_iaload (pc := 81) hk dX2_nameNow_81 (fun v25 => ?_)
  refine V_iastore (pc := 82) hk dX2_nameNow_82 (fun w26 => ?_)
  refine V_aload_n (pc := 83) hk dX2_nameNow_83 0 rfl ?_
  refine g_X2_32 (pc := 84) hk dX2_nameNow_84 (fun v27 => ?_)
  refine V_bipush (pc := 87) (v := 6) hk dX2_nameNow_87 rfl ?_
  refine V_aload_n (pc := 89) hk dX2_nameNow_89 0 rfl ?_
  refine g_X2_7 (pc := 90) hk dX2_nameNow_90 (fun v28 => ?_)
  refine V_bipush (pc := 93) (v := 13) hk dX2_nameNow_93 rfl ?_
  refine V_iaload (pc := 95) hk dX2_nameNow_95 (fun v29 => ?_)
  refine V_iastore (pc := 96) hk dX2_nameNow_96 (fun w30 => ?_)
  refine V_aload_n (pc := 97) hk dX2_nameNow_97 0 rfl ?_
  refine V_aload_n (pc := 98) hk dX2_nameNow_98 0 rfl ?_
  refine g_X2_7 (pc := 99) hk dX2_nameNow_99 (fun v31 => ?_)
  refine V_bipush (pc := 102) (v := 16) hk dX2_nameNow_102 rfl ?_
  refine V_iaload (pc := 104) hk dX2_nameNow_104 (fun v32 => ?_)
  refine p_X2_263 (pc := 105) hk dX2_nameNow_105 (fun w33 => ?_)
  refine V_aload_n (pc := 108) hk dX2_nameNow_108 0 rfl ?_
  refine V_aload_n (pc := 109) hk dX2_nameNow_109 0 rfl ?_
  refine g_X2_7 (pc := 110) hk dX2_nameNow_110 (fun v34 => ?_)
  refine V_bipush (pc := 113) (v := 16) hk dX2_nameNow_113 rfl ?_
  refine V_iaload (pc := 115) hk dX2_nameNow_115 (fun v35 => ?_)
  refine V_bipush (pc := 116) (v := 60) hk dX2_nameNow_116 rfl ?_
  refine V_icmp_ge (pc := 118) (tgt := 125) hk dX2_nameNow_118 rfl ?_ ?_
  · refine V_aload_n (pc := 125) hk dX2_nameNow_125 0 rfl ?_
    refine g_X2_7 (pc := 126) hk dX2_nameNow_126 (fun v36 => ?_)
    refine V_bipush (pc := 129) (v := 16) hk dX2_nameNow_129 rfl ?_
    refine V_iaload (pc := 131) hk dX2_nameNow_131 (fun v37 => ?_)
    refine V_bipush (pc := 132) (v := 60) hk dX2_nameNow_132 rfl ?_
    refine V_isub (pc := 134) hk dX2_nameNow_134 ?_
    refine p_X2_266 (pc := 135) hk dX2_nameNow_135 (fun w38 => ?_)
    exact V_return (pc := 138) hk hR rfl dX2_nameNow_138
  · refine V_iconst (pc := 121) (v := 0) hk dX2_nameNow_121 rfl ?_
    refine V_goto (pc := 122) (tgt := 135) hk dX2_nameNow_122 rfl ?_
    refine p_X2_266 (pc := 135) hk dX2_nameNow_135 (fun w39 => ?_)
    exact V_return (pc := 138) hk hR rfl dX2_nameNow_138
theorem ctX2_nameNow (l : Launch) (K : Kx) (hI : Ini K) (b : Nat) (w : Wd) : ∀ r, mX2_nameNow b w = some r → Ct l K 3 80 yX2_nameNow (ws_ yX2_nameNow cX2_nameNow 1 none) [.ref b] w (rvV r.1) r.2 := Ct_of rvV l K hI 3 80 [.ref b] w (by decide) (lc0 := [(0, .ref b)]) rfl (Nat.le_of_ble_eq_true rfl) (fun y hk hR _ _ hin => eX2_nameNow hk hR b w)
noncomputable def mX2_clauseOf_b2 (k2 : Wd → (Option Nat) → Int32 → Int32 → Int32 → Option (Int32 × Wd)) (w : Wd) (l0 : Option Nat) (l1 : Int32) (l2 : Int32) (l3 : Int32) : Option (Int32 × Wd) :=
if l1 < 0 then (
some ((-1), w))
else (
(gR w l0 2 2).bind fun v1 =>
(ia w v1 (753 * l1)).bind fun v2 =>
if v2 ≤ l3 then (
some ((-1), w))
else (
(gR w l0 2 2).bind fun v3 =>
(ia w v3 (((753 * l1) + 1) + (6 * l3))).bind fun v4 =>
if ¬ v4 = l2 then (
k2 w l0 l1 l2 (l3 + 1))
else (
some (l3, w))))
noncomputable def mX2_clauseOf_l2 : Nat → Wd → (Option Nat) → Int32 → Int32 → Int32 → Option (Int32 × Wd)
  | 0, _, _, _, _, _ => none
  | n + 1, w, l0, l1, l2, l3 => mX2_clauseOf_b2 (mX2_clauseOf_l2 n) w l0 l1 l2 l3
noncomputable def mX2_clauseOf (this : Nat) (a0 : Int32) (a1 : Int32) (w : Wd) : Option (Int32 × Wd) :=
mX2_clauseOf_l2 FU w ((some this)) a0 a1 0
theorem eX2_clauseOf_b2 {y : Fx (Int32 × Wd)} (hk : OkF y RX2 cX2_clauseOf 4 2 60) (hR : RetM y rvI (some (.int))) {k2 : Wd → (Option Nat) → Int32 → Int32 → Int32 → Option (Int32 × Wd)} (h2 : ∀ (w : Wd) (l0 : Option Nat) (l1 : Int32) (l2 : Int32) (l3 : Int32), V y w [(0, va_rf l0), (1, .int l1), (2, .int l2), (3, .int l3)] [] 2 (k2 w l0 l1 l2 l3)) (w : Wd) (l0 : Option Nat) (l1 : Int32) (l2 : Int32) (l3 : Int32) : V y w [(0, va_rf l0), (1, .int l1), (2, .int l2), (3, .int l3)] [] 2 (mX2_clauseOf_b2 k2 w l0 l1 l2 l3) := by
  unfold mX2_clauseOf_b2
  refine V_iload_n (pc := 2) hk dX2_clauseOf_2 1 rfl ?_
  refine V_if_lt (pc := 3) (tgt := 49) hk dX2_clauseOf_3 rfl ?_ ?_
  · refine V_iconst (pc := 49) (v := (-1)) hk dX2_clauseOf_49 (by decide +kernel) ?_
    exact V_ireturn (pc := 50) hk hR rfl dX2_clauseOf_50
  · refine V_iload_n (pc := 6) hk dX2_clauseOf_6 3 rfl ?_
    refine V_aload_n (pc := 7) hk dX2_clauseOf_7 0 rfl ?_
    refine g_X2_16 (pc := 8) hk dX2_clauseOf_8 (fun v1 => ?_)
    refine V_sipush (pc := 11) (v := 753) hk dX2_clauseOf_11 rfl ?_
    refine V_iload_n (pc := 14) hk dX2_clauseOf_14 1 rfl ?_
    refine V_imul (pc := 15) hk dX2_clauseOf_15 ?_
    refine V_iaload (pc := 16) hk dX2_clauseOf_16 (fun v2 => ?_)
    refine V_icmp_ge (pc := 17) (tgt := 49) hk dX2_clauseOf_17 rfl ?_ ?_
    · refine V_iconst (pc := 49) (v := (-1)) hk dX2_clauseOf_49 (by decide +kernel) ?_
      exact V_ireturn (pc := 50) hk hR rfl dX2_clauseOf_50
    · refine V_aload_n (pc := 20) hk dX2_clauseOf_20 0 rfl ?_
      refine g_X2_16 (pc := 21) hk dX2_clauseOf_21 (fun v3 => ?_)
      refine V_sipush (pc := 24) (v := 753) hk dX2_clauseOf_24 rfl ?_
      refine V_iload_n (pc := 27) hk dX2_clauseOf_27 1 rfl ?_
      refine V_imul (pc := 28) hk dX2_clauseOf_28 ?_
      refine V_iconst (pc := 29) (v := 1) hk dX2_clauseOf_29 rfl ?_
      refine V_iadd (pc := 30) hk dX2_clauseOf_30 ?_
      refine V_bipush (pc := 31) (v := 6) hk dX2_clauseOf_31 rfl ?_
      refine V_iload_n (pc := 33) hk dX2_clauseOf_33 3 rfl ?_
      refine V_imul (pc := 34) hk dX2_clauseOf_34 ?_
      refine V_iadd (pc := 35) hk dX2_clauseOf_35 ?_
      refine V_iaload (pc := 36) hk dX2_clauseOf_36 (fun v4 => ?_)
      refine V_iload_n (pc := 37) hk dX2_clauseOf_37 2 rfl ?_
      refine V_icmp_ne (pc := 38) (tgt := 43) hk dX2_clauseOf_38 rfl ?_ ?_
      · refine V_iinc (pc := 43) (v := 1) (lc' := [(3, .int (l3 + 1)), (0, va_rf l0), (1, .int l1), (2, .int l2)]) hk dX2_clauseOf_43 3 rfl rfl (Nat.le_of_ble_eq_true rfl) rfl ?_
        refine V_goto (pc := 46) (tgt := 2) hk dX2_clauseOf_46 rfl ?_
        refine V_pick (lc' := [(0, va_rf l0), (1, .int l1), (2, .int l2), (3, .int (l3 + 1))]) [1, 2, 3, 0] rfl ?_
        exact h2 w l0 l1 l2 (l3 + 1)
      · refine V_iload_n (pc := 41) hk dX2_clauseOf_41 3 rfl ?_
        exact V_ireturn (pc := 42) hk hR rfl dX2_clauseOf_42
theorem eX2_clauseOf_l2 {y : Fx (Int32 × Wd)} (hk : OkF y RX2 cX2_clauseOf 4 2 60) (hR : RetM y rvI (some (.int))) : ∀ (n : Nat) (w : Wd) (l0 : Option Nat) (l1 : Int32) (l2 : Int32) (l3 : Int32), V y w [(0, va_rf l0), (1, .int l1), (2, .int l2), (3, .int l3)] [] 2 (mX2_clauseOf_l2 n w l0 l1 l2 l3) := by
  intro n
  induction n with
  | zero => intro w l0 l1 l2 l3; exact V_none
  | succ n ih => intro w l0 l1 l2 l3; exact eX2_clauseOf_b2 hk hR ih w l0 l1 l2 l3
theorem eX2_clauseOf {y : Fx (Int32 × Wd)} (hk : OkF y RX2 cX2_clauseOf 4 2 60) (hR : RetM y rvI (some (.int))) (this : Nat) (a0 : Int32) (a1 : Int32) (w : Wd) : V y w [(0, va_rf (some this)), (1, .int a0), (2, .int a1)] [] 0 (mX2_clauseOf this a0 a1 w) := by
  unfold mX2_clauseOf
  refine V_iconst (pc := 0) (v := 0) hk dX2_clauseOf_0 rfl ?_
  refine V_istore_n (pc := 1) (lc' := [(3, .int 0), (0, va_rf ((some this))), (1, .int a0), (2, .int a1)]) (i := 3) hk dX2_clauseOf_1 rfl (Nat.le_of_ble_eq_true rfl) rfl ?_
  refine V_pick (lc' := [(0, va_rf ((some this))), (1, .int a0), (2, .int a1), (3, .int 0)]) [1, 2, 3, 0] rfl ?_
  exact eX2_clauseOf_l2 hk hR FU w ((some this)) a0 a1 0
theorem ctX2_clauseOf (l : Launch) (K : Kx) (hI : Ini K) (b : Nat) (a0 : Int32) (a1 : Int32) (w : Wd) : ∀ r, mX2_clauseOf b a0 a1 w = some r → Ct l K 2 60 yX2_clauseOf (ws_ yX2_clauseOf cX2_clauseOf 4 (some (.int))) [.ref b, .int a0, .int a1] w (rvI r.1) r.2 := Ct_of rvI l K hI 2 60 [.ref b, .int a0, .int a1] w (by decide) (lc0 := [(0, .ref b), (1, .int a0), (2, .int a1)]) rfl (Nat.le_of_ble_eq_true rfl) (fun y hk hR _ _ hin => eX2_clauseOf hk hR b a0 a1 w)
noncomputable def mX2_pastOf (this : Nat) (a0 : Int32) (a1 : Int32) (w : Wd) : Option (Int32 × Wd) :=
(gR w ((some this)) 2 0).bind fun v1 =>
(irm a0 1536).bind fun v2 =>
(ia w v1 ((602 + (6 * v2)) + a1)).bind fun v3 =>
some (v3, w)
theorem eX2_pastOf {y : Fx (Int32 × Wd)} (hk : OkF y RX2 cX2_pastOf 3 2 60) (hR : RetM y rvI (some (.int))) (this : Nat) (a0 : Int32) (a1 : Int32) (w : Wd) : V y w [(0, va_rf (some this)), (1, .int a0), (2, .int a1)] [] 0 (mX2_pastOf this a0 a1 w) := by
  unfold mX2_pastOf
  refine V_aload_n (pc := 0) hk dX2_pastOf_0 0 rfl ?_
  refine g_X2_7 (pc := 1) hk dX2_pastOf_1 (fun v1 => ?_)
  refine V_sipush (pc := 4) (v := 602) hk dX2_pastOf_4 rfl ?_
  refine V_bipush (pc := 7) (v := 6) hk dX2_pastOf_7 rfl ?_
  refine V_iload_n (pc := 9) hk dX2_pastOf_9 1 rfl ?_
  refine V_sipush (pc := 10) (v := 1536) hk dX2_pastOf_10 rfl ?_
  refine V_irem (pc := 13) hk dX2_pastOf_13 (fun v2 => ?_)
  refine V_imul (pc := 14) hk dX2_pastOf_14 ?_
  refine V_iadd (pc := 15) hk dX2_pastOf_15 ?_
  refine V_iload_n (pc := 16) hk dX2_pastOf_16 2 rfl ?_
  refine V_iadd (pc := 17) hk dX2_pastOf_17 ?_
  refine V_iaload (pc := 18) hk dX2_pastOf_18 (fun v3 => ?_)
  exact V_ireturn (pc := 19) hk hR rfl dX2_pastOf_19
theorem ctX2_pastOf (l : Launch) (K : Kx) (hI : Ini K) (b : Nat) (a0 : Int32) (a1 : Int32) (w : Wd) : ∀ r, mX2_pastOf b a0 a1 w = some r → Ct l K 2 60 yX2_pastOf (ws_ yX2_pastOf cX2_pastOf 3 (some (.int))) [.ref b, .int a0, .int a1] w (rvI r.1) r.2 := Ct_of rvI l K hI 2 60 [.ref b, .int a0, .int a1] w (by decide) (lc0 := [(0, .ref b), (1, .int a0), (2, .int a1)]) rfl (Nat.le_of_ble_eq_true rfl) (fun y hk hR _ _ hin => eX2_pastOf hk hR b a0 a1 w)
noncomputable def mX2_agoOf (this : Nat) (a0 : Int32) (a1 : Int32) (w : Wd) : Option (Int32 × Wd) :=
(gI w ((some this)) 2 21).bind fun v1 =>
(gI w ((some this)) 2 22).bind fun v2 =>
if v2 ≤ (v1 - a0) then (
(gI w ((some this)) 2 21).bind fun v3 =>
(recv w ((some this)) 2).bind fun b5 => (cal w (mX2_pastOf b5 (v3 - a0) a1 w)).bind fun r4 =>
some (r4.1, r4.2))
else (
some (0, w))
theorem eX2_agoOf {y : Fx (Int32 × Wd)} (hk : OkF y RX2 cX2_agoOf 3 3 82) (hR : RetM y rvI (some (.int))) (this : Nat) (a0 : Int32) (a1 : Int32) (w : Wd) : V y w [(0, va_rf (some this)), (1, .int a0), (2, .int a1)] [] 0 (mX2_agoOf this a0 a1 w) := by
  unfold mX2_agoOf
  refine V_aload_n (pc := 0) hk dX2_agoOf_0 0 rfl ?_
  refine g_X2_263 (pc := 1) hk dX2_agoOf_1 (fun v1 => ?_)
  refine V_iload_n (pc := 4) hk dX2_agoOf_4 1 rfl ?_
  refine V_isub (pc := 5) hk dX2_agoOf_5 ?_
  refine V_aload_n (pc := 6) hk dX2_agoOf_6 0 rfl ?_
  refine g_X2_266 (pc := 7) hk dX2_agoOf_7 (fun v2 => ?_)
  refine V_icmp_ge (pc := 10) (tgt := 17) hk dX2_agoOf_10 rfl ?_ ?_
  · refine V_aload_n (pc := 17) hk dX2_agoOf_17 0 rfl ?_
    refine V_aload_n (pc := 18) hk dX2_agoOf_18 0 rfl ?_
    refine g_X2_263 (pc := 19) hk dX2_agoOf_19 (fun v3 => ?_)
    refine V_iload_n (pc := 22) hk dX2_agoOf_22 1 rfl ?_
    refine V_isub (pc := 23) hk dX2_agoOf_23 ?_
    refine V_iload_n (pc := 24) hk dX2_agoOf_24 2 rfl ?_
    refine n_X2_269 (pc := 25) hk (fun b r h => ctX2_pastOf (fl y) (fK y) hk.2.2.2.2.2.2.2.1 b (v3 - a0) a1 w r h) ⟨Nat.le_of_ble_eq_true rfl, Nat.le_of_ble_eq_true rfl⟩ (Nat.le_of_ble_eq_true rfl) dX2_agoOf_25 (fun r4 => ?_)
    exact V_ireturn (pc := 28) hk hR rfl dX2_agoOf_28
  · refine V_iconst (pc := 13) (v := 0) hk dX2_agoOf_13 rfl ?_
    refine V_goto (pc := 14) (tgt := 28) hk dX2_agoOf_14 rfl ?_
    exact V_ireturn (pc := 28) hk hR rfl dX2_agoOf_28
theorem ctX2_agoOf (l : Launch) (K : Kx) (hI : Ini K) (b : Nat) (a0 : Int32) (a1 : Int32) (w : Wd) : ∀ r, mX2_agoOf b a0 a1 w = some r → Ct l K 3 82 yX2_agoOf (ws_ yX2_agoOf cX2_agoOf 3 (some (.int))) [.ref b, .int a0, .int a1] w (rvI r.1) r.2 := Ct_of rvI l K hI 3 82 [.ref b, .int a0, .int a1] w (by decide) (lc0 := [(0, .ref b), (1, .int a0), (2, .int a1)]) rfl (Nat.le_of_ble_eq_true rfl) (fun y hk hR _ _ hin => eX2_agoOf hk hR b a0 a1 w)
noncomputable def mX2_clip (a0 : Int64) (w : Wd) : Option (Int64 × Wd) :=
if (lg_cmp a0 1000000) ≤ 0 then (
if 0 ≤ (lg_cmp a0 (-1000000)) then (
some (a0, w))
else (
some ((-1000000), w)))
else (
some (1000000, w))
theorem eX2_clip {y : Fx (Int64 × Wd)} (hk : OkF y RX2 cX2_clip 2 2 60) (hR : RetM y rvJ (some (.long))) (a0 : Int64) (w : Wd) : V y w [(0, .long a0)] [] 0 (mX2_clip a0 w) := by
  unfold mX2_clip
  refine V_lload_n (pc := 0) hk dX2_clip_0 0 rfl ?_
  refine V_ldc2 (pc := 1) (v := 1000000) hk dX2_clip_1 q1708 ?_
  refine V_lcmp (pc := 4) hk dX2_clip_4 ?_
  refine V_if_le (pc := 5) (tgt := 14) hk dX2_clip_5 rfl ?_ ?_
  · refine V_lload_n (pc := 14) hk dX2_clip_14 0 rfl ?_
    refine V_ldc2 (pc := 15) (v := (-1000000)) hk dX2_clip_15 q1709 ?_
    refine V_lcmp (pc := 18) hk dX2_clip_18 ?_
    refine V_if_ge (pc := 19) (tgt := 28) hk dX2_clip_19 rfl ?_ ?_
    · refine V_lload_n (pc := 28) hk dX2_clip_28 0 rfl ?_
      exact V_lreturn (pc := 29) hk hR rfl dX2_clip_29
    · refine V_ldc2 (pc := 22) (v := (-1000000)) hk dX2_clip_22 q1709 ?_
      refine V_goto (pc := 25) (tgt := 29) hk dX2_clip_25 rfl ?_
      exact V_lreturn (pc := 29) hk hR rfl dX2_clip_29
  · refine V_ldc2 (pc := 8) (v := 1000000) hk dX2_clip_8 q1708 ?_
    refine V_goto (pc := 11) (tgt := 29) hk dX2_clip_11 rfl ?_
    exact V_lreturn (pc := 29) hk hR rfl dX2_clip_29
theorem ctX2_clip (l : Launch) (K : Kx) (hI : Ini K) (a0 : Int64) (w : Wd) : ∀ r, mX2_clip a0 w = some r → Ct l K 2 60 yX2_clip (ws_ yX2_clip cX2_clip 2 (some (.long))) [.long a0] w (rvJ r.1) r.2 := Ct_of rvJ l K hI 2 60 [.long a0] w (by decide) (lc0 := [(0, .long a0)]) rfl (Nat.le_of_ble_eq_true rfl) (fun y hk hR _ _ hin => eX2_clip hk hR a0 w)
noncomputable def mX2_two (a0 : Int32) (a1 : Int64) (a2 : Int64) (w : Wd) : Option (Int64 × Wd) :=
if a0 = 6 then (
(cal w (mX2_clip (a1 + a2) w)).bind fun r1 =>
some (r1.1, r1.2))
else (
if a0 = 7 then (
(cal w (mX2_clip (a1 - a2) w)).bind fun r2 =>
some (r2.1, r2.2))
else (
if a0 = 8 then (
(cal w (mX2_clip (a1 * a2) w)).bind fun r3 =>
some (r3.1, r3.2))
else (
if ¬ (lg_cmp a2 0) = 0 then (
(ldv a1 a2).bind fun v4 =>
(cal w (mX2_clip v4 w)).bind fun r5 =>
some (r5.1, r5.2))
else (
some (0, w)))))
theorem eX2_two {y : Fx (Int64 × Wd)} (hk : OkF y RX2 cX2_two 5 3 81) (hR : RetM y rvJ (some (.long))) (a0 : Int32) (a1 : Int64) (a2 : Int64) (w : Wd) : V y w [(0, .int a0), (1, .long a1), (3, .long a2)] [] 0 (mX2_two a0 a1 a2 w) := by
  unfold mX2_two
  refine V_iload_n (pc := 0) hk dX2_two_0 0 rfl ?_
  refine V_if (fun hx => ?_) (fun hn6 => ?_)
  · refine V_tblIn (pc := 1) (tgt := 28) (off := 27) hk 6 hx dX2_two_1 (by decide) (by decide) (by decide +kernel) rfl ?_
    refine V_lload_n (pc := 28) hk dX2_two_28 1 rfl ?_
    refine V_lload_n (pc := 29) hk dX2_two_29 2 rfl ?_
    refine V_ladd (pc := 30) hk dX2_two_30 ?_
    refine n_X2_259 (pc := 31) hk (fun r h => ctX2_clip (fl y) (fK y) hk.2.2.2.2.2.2.2.1 (a1 + a2) w r h) ⟨Nat.le_of_ble_eq_true rfl, Nat.le_of_ble_eq_true rfl⟩ (Nat.le_of_ble_eq_true rfl) dX2_two_31 (fun r1 => ?_)
    exact V_lreturn (pc := 34) hk hR rfl dX2_two_34
  refine V_if (fun hx => ?_) (fun hn7 => ?_)
  · refine V_tblIn (pc := 1) (tgt := 35) (off := 34) hk 7 hx dX2_two_1 (by decide) (by decide) (by decide +kernel) rfl ?_
    refine V_lload_n (pc := 35) hk dX2_two_35 1 rfl ?_
    refine V_lload_n (pc := 36) hk dX2_two_36 2 rfl ?_
    refine V_lsub (pc := 37) hk dX2_two_37 ?_
    refine n_X2_259 (pc := 38) hk (fun r h => ctX2_clip (fl y) (fK y) hk.2.2.2.2.2.2.2.1 (a1 - a2) w r h) ⟨Nat.le_of_ble_eq_true rfl, Nat.le_of_ble_eq_true rfl⟩ (Nat.le_of_ble_eq_true rfl) dX2_two_38 (fun r2 => ?_)
    exact V_lreturn (pc := 41) hk hR rfl dX2_two_41
  refine V_if (fun hx => ?_) (fun hn8 => ?_)
  · refine V_tblIn (pc := 1) (tgt := 42) (off := 41) hk 8 hx dX2_two_1 (by decide) (by decide) (by decide +kernel) rfl ?_
    refine V_lload_n (pc := 42) hk dX2_two_42 1 rfl ?_
    refine V_lload_n (pc := 43) hk dX2_two_43 2 rfl ?_
    refine V_lmul (pc := 44) hk dX2_two_44 ?_
    refine n_X2_259 (pc := 45) hk (fun r h => ctX2_clip (fl y) (fK y) hk.2.2.2.2.2.2.2.1 (a1 * a2) w r h) ⟨Nat.le_of_ble_eq_true rfl, Nat.le_of_ble_eq_true rfl⟩ (Nat.le_of_ble_eq_true rfl) dX2_two_45 (fun r3 => ?_)
    exact V_lreturn (pc := 48) hk hR rfl dX2_two_48
  refine V_tblOut (pc := 1) (tgt := 49) hk dX2_two_1 (tbl_out 6 8 (by intro k h1 h2; obtain rfl | rfl | rfl : k = 6 ∨ k = 7 ∨ k = 8 := (by omega); exact hn6; exact hn7; exact hn8)) rfl ?_
  refine V_lload_n (pc := 49) hk dX2_two_49 2 rfl ?_
  refine V_lconst (pc := 50) (v := 0) hk dX2_two_50 rfl ?_
  refine V_lcmp (pc := 51) hk dX2_two_51 ?_
  refine V_if_ne (pc := 52) (tgt := 59) hk dX2_two_52 rfl ?_ ?_
  · refine V_lload_n (pc := 59) hk dX2_two_59 1 rfl ?_
    refine V_lload_n (pc := 60) hk dX2_two_60 2 rfl ?_
    refine V_ldiv (pc := 61) hk dX2_two_61 (fun v4 => ?_)
    refine n_X2_259 (pc := 62) hk (fun r h => ctX2_clip (fl y) (fK y) hk.2.2.2.2.2.2.2.1 v4 w r h) ⟨Nat.le_of_ble_eq_true rfl, Nat.le_of_ble_eq_true rfl⟩ (Nat.le_of_ble_eq_true rfl) dX2_two_62 (fun r5 => ?_)
    exact V_lreturn (pc := 65) hk hR rfl dX2_two_65
  · refine V_lconst (pc := 55) (v := 0) hk dX2_two_55 rfl ?_
    refine V_goto (pc := 56) (tgt := 65) hk dX2_two_56 rfl ?_
    exact V_lreturn (pc := 65) hk hR rfl dX2_two_65
theorem ctX2_two (l : Launch) (K : Kx) (hI : Ini K) (a0 : Int32) (a1 : Int64) (a2 : Int64) (w : Wd) : ∀ r, mX2_two a0 a1 a2 w = some r → Ct l K 3 81 yX2_two (ws_ yX2_two cX2_two 5 (some (.long))) [.int a0, .long a1, .long a2] w (rvJ r.1) r.2 := Ct_of rvJ l K hI 3 81 [.int a0, .long a1, .long a2] w (by decide) (lc0 := [(0, .int a0), (1, .long a1), (3, .long a2)]) rfl (Nat.le_of_ble_eq_true rfl) (fun y hk hR _ _ hin => eX2_two hk hR a0 a1 a2 w)
noncomputable def mX2_isAsked (a0 : Int32) (a1 : Int64) (a2 : Int64) (w : Wd) : Option (Int32 × Wd) :=
if ¬ a0 = 10 then (
if ¬ a0 = 11 then (
if ¬ a0 = 12 then (
if ¬ a0 = 13 then (
if ¬ a0 = 14 then (
if (lg_cmp a1 a2) = 0 then (
(nok (.boolean) 0).bind fun _ => some (0, w))
else (
(nok (.boolean) 1).bind fun _ => some (1, w)))
else (
if ¬ (lg_cmp a1 a2) = 0 then (
(nok (.boolean) 0).bind fun _ => some (0, w))
else (
(nok (.boolean) 1).bind fun _ => some (1, w))))
else (
if (lg_cmp a1 a2) < 0 then (
(nok (.boolean) 0).bind fun _ => some (0, w))
else (
(nok (.boolean) 1).bind fun _ => some (1, w))))
else (
if (lg_cmp a1 a2) ≤ 0 then (
(nok (.boolean) 0).bind fun _ => some (0, w))
else (
(nok (.boolean) 1).bind fun _ => some (1, w))))
else (
if 0 < (lg_cmp a1 a2) then (
(nok (.boolean) 0).bind fun _ => some (0, w))
else (
(nok (.boolean) 1).bind fun _ => some (1, w))))
else (
if 0 ≤ (lg_cmp a1 a2) then (
(nok (.boolean) 0).bind fun _ => some (0, w))
else (
(nok (.boolean) 1).bind fun _ => some (1, w)))
theorem eX2_isAsked {y : Fx (Int32 × Wd)} (hk : OkF y RX2 cX2_isAsked 5 2 60) (hR : RetM y rvI (some (.boolean))) (a0 : Int32) (a1 : Int64) (a2 : Int64) (w : Wd) : V y w [(0, .int a0), (1, .long a1), (3, .long a2)] [] 0 (mX2_isAsked a0 a1 a2 w) := by
  unfold mX2_isAsked
  refine V_iload_n (pc := 0) hk dX2_isAsked_0 0 rfl ?_
  refine V_bipush (pc := 1) (v := 10) hk dX2_isAsked_1 rfl ?_
  refine V_icmp_ne (pc := 3) (tgt := 20) hk dX2_isAsked_3 rfl ?_ ?_
  · refine V_iload_n (pc := 20) hk dX2_isAsked_20 0 rfl ?_
    refine V_bipush (pc := 21) (v := 11) hk dX2_isAsked_21 rfl ?_
    refine V_icmp_ne (pc := 23) (tgt := 40) hk dX2_isAsked_23 rfl ?_ ?_
    · refine V_iload_n (pc := 40) hk dX2_isAsked_40 0 rfl ?_
      refine V_bipush (pc := 41) (v := 12) hk dX2_isAsked_41 rfl ?_
      refine V_icmp_ne (pc := 43) (tgt := 60) hk dX2_isAsked_43 rfl ?_ ?_
      · refine V_iload_n (pc := 60) hk dX2_isAsked_60 0 rfl ?_
        refine V_bipush (pc := 61) (v := 13) hk dX2_isAsked_61 rfl ?_
        refine V_icmp_ne (pc := 63) (tgt := 80) hk dX2_isAsked_63 rfl ?_ ?_
        · refine V_iload_n (pc := 80) hk dX2_isAsked_80 0 rfl ?_
          refine V_bipush (pc := 81) (v := 14) hk dX2_isAsked_81 rfl ?_
          refine V_icmp_ne (pc := 83) (tgt := 100) hk dX2_isAsked_83 rfl ?_ ?_
          · refine V_lload_n (pc := 100) hk dX2_isAsked_100 1 rfl ?_
            refine V_lload_n (pc := 101) hk dX2_isAsked_101 2 rfl ?_
            refine V_lcmp (pc := 102) hk dX2_isAsked_102 ?_
            refine V_if_eq (pc := 103) (tgt := 110) hk dX2_isAsked_103 rfl ?_ ?_
            · refine V_iconst (pc := 110) (v := 0) hk dX2_isAsked_110 rfl ?_
              exact V_zreturn (pc := 111) hk hR rfl dX2_isAsked_111
            · refine V_iconst (pc := 106) (v := 1) hk dX2_isAsked_106 rfl ?_
              refine V_goto (pc := 107) (tgt := 111) hk dX2_isAsked_107 rfl ?_
              exact V_zreturn (pc := 111) hk hR rfl dX2_isAsked_111
          · refine V_lload_n (pc := 86) hk dX2_isAsked_86 1 rfl ?_
            refine V_lload_n (pc := 87) hk dX2_isAsked_87 2 rfl ?_
            refine V_lcmp (pc := 88) hk dX2_isAsked_88 ?_
            refine V_if_ne (pc := 89) (tgt := 96) hk dX2_isAsked_89 rfl ?_ ?_
            · refine V_iconst (pc := 96) (v := 0) hk dX2_isAsked_96 rfl ?_
              refine V_goto (pc := 97) (tgt := 111) hk dX2_isAsked_97 rfl ?_
              exact V_zreturn (pc := 111) hk hR rfl dX2_isAsked_111
            · refine V_iconst (pc := 92) (v := 1) hk dX2_isAsked_92 rfl ?_
              refine V_goto (pc := 93) (tgt := 111) hk dX2_isAsked_93 rfl ?_
              exact V_zreturn (pc := 111) hk hR rfl dX2_isAsked_111
        · refine V_lload_n (pc := 66) hk dX2_isAsked_66 1 rfl ?_
          refine V_lload_n (pc := 67) hk dX2_isAsked_67 2 rfl ?_
          refine V_lcmp (pc := 68) hk dX2_isAsked_68 ?_
          refine V_if_lt (pc := 69) (tgt := 76) hk dX2_isAsked_69 rfl ?_ ?_
          · refine V_iconst (pc := 76) (v := 0) hk dX2_isAsked_76 rfl ?_
            refine V_goto (pc := 77) (tgt := 111) hk dX2_isAsked_77 rfl ?_
            exact V_zreturn (pc := 111) hk hR rfl dX2_isAsked_111
          · refine V_iconst (pc := 72) (v := 1) hk dX2_isAsked_72 rfl ?_
            refine V_goto (pc := 73) (tgt := 111) hk dX2_isAsked_73 rfl ?_
            exact V_zreturn (pc := 111) hk hR rfl dX2_isAsked_111
      · refine V_lload_n (pc := 46) hk dX2_isAsked_46 1 rfl ?_
        refine V_lload_n (pc := 47) hk dX2_isAsked_47 2 rfl ?_
        refine V_lcmp (pc := 48) hk dX2_isAsked_48 ?_
        refine V_if_le (pc := 49) (tgt := 56) hk dX2_isAsked_49 rfl ?_ ?_
        · refine V_iconst (pc := 56) (v := 0) hk dX2_isAsked_56 rfl ?_
          refine V_goto (pc := 57) (tgt := 111) hk dX2_isAsked_57 rfl ?_
          exact V_zreturn (pc := 111) hk hR rfl dX2_isAsked_111
        · refine V_iconst (pc := 52) (v := 1) hk dX2_isAsked_52 rfl ?_
          refine V_goto (pc := 53) (tgt := 111) hk dX2_isAsked_53 rfl ?_
          exact V_zreturn (pc := 111) hk hR rfl dX2_isAsked_111
    · refine V_lload_n (pc := 26) hk dX2_isAsked_26 1 rfl ?_
      refine V_lload_n (pc := 27) hk dX2_isAsked_27 2 rfl ?_
      refine V_lcmp (pc := 28) hk dX2_isAsked_28 ?_
      refine V_if_gt (pc := 29) (tgt := 36) hk dX2_isAsked_29 rfl ?_ ?_
      · refine V_iconst (pc := 36) (v := 0) hk dX2_isAsked_36 rfl ?_
        refine V_goto (pc := 37) (tgt := 111) hk dX2_isAsked_37 rfl ?_
        exact V_zreturn (pc := 111) hk hR rfl dX2_isAsked_111
      · refine V_iconst (pc := 32) (v := 1) hk dX2_isAsked_32 rfl ?_
        refine V_goto (pc := 33) (tgt := 111) hk dX2_isAsked_33 rfl ?_
        exact V_zreturn (pc := 111) hk hR rfl dX2_isAsked_111
  · refine V_lload_n (pc := 6) hk dX2_isAsked_6 1 rfl ?_
    refine V_lload_n (pc := 7) hk dX2_isAsked_7 2 rfl ?_
    refine V_lcmp (pc := 8) hk dX2_isAsked_8 ?_
    refine V_if_ge (pc := 9) (tgt := 16) hk dX2_isAsked_9 rfl ?_ ?_
    · refine V_iconst (pc := 16) (v := 0) hk dX2_isAsked_16 rfl ?_
      refine V_goto (pc := 17) (tgt := 111) hk dX2_isAsked_17 rfl ?_
      exact V_zreturn (pc := 111) hk hR rfl dX2_isAsked_111
    · refine V_iconst (pc := 12) (v := 1) hk dX2_isAsked_12 rfl ?_
      refine V_goto (pc := 13) (tgt := 111) hk dX2_isAsked_13 rfl ?_
      exact V_zreturn (pc := 111) hk hR rfl dX2_isAsked_111
theorem ctX2_isAsked (l : Launch) (K : Kx) (hI : Ini K) (a0 : Int32) (a1 : Int64) (a2 : Int64) (w : Wd) : ∀ r, mX2_isAsked a0 a1 a2 w = some r → Ct l K 2 60 yX2_isAsked (ws_ yX2_isAsked cX2_isAsked 5 (some (.boolean))) [.int a0, .long a1, .long a2] w (rvI r.1) r.2 := Ct_of rvI l K hI 2 60 [.int a0, .long a1, .long a2] w (by decide) (lc0 := [(0, .int a0), (1, .long a1), (3, .long a2)]) rfl (Nat.le_of_ble_eq_true rfl) (fun y hk hR _ _ hin => eX2_isAsked hk hR a0 a1 a2 w)
noncomputable def mX2_worked_b40 (k40 : Wd → (Option Nat) → Int32 → Int32 → Int32 → Int32 → Int32 → Option (Int32 × Wd)) (w : Wd) (l0 : Option Nat) (l3 : Int32) (l4 : Int32) (l5 : Int32) (l6 : Int32) (l7 : Int32) : Option (Int32 × Wd) :=
(gR w l0 2 2).bind fun v1 =>
(ia w v1 (l3 + 2)).bind fun v2 =>
if v2 ≤ l7 then (
(gR w l0 2 23).bind fun v3 =>
(la w v3 0).bind fun v4 =>
some ((v4 : Int64).toInt32, w))
else (
(gR w l0 2 2).bind fun v5 =>
(ia w v5 (l4 + (2 * l7))).bind fun v6 =>
(gR w l0 2 2).bind fun v7 =>
(ia w v7 ((l4 + (2 * l7)) + 1)).bind fun v8 =>
if 2 < v6 then (
if ¬ v6 = 3 then (
if ¬ v6 = 4 then (
if ¬ v6 = 5 then (
if 10 ≤ v6 then (
if 20 ≤ v6 then (
if ¬ v6 = 20 then (
(gR w l0 2 24).bind fun v9 =>
if ¬ v6 = 21 then (
(gR w l0 2 24).bind fun v10 =>
(ba w v10 ((l6 + (-1)) - 1)).bind fun v11 =>
if ¬ v11 = 0 then (
(bas w v9 ((l6 + (-1)) - 1) 1).bind fun w12 =>
k40 w12 l0 l3 l4 l5 (l6 + (-1)) (l7 + 1))
else (
(gR w l0 2 24).bind fun v13 =>
(ba w v13 (l6 + (-1))).bind fun v14 =>
if v14 = 0 then (
(bas w v9 ((l6 + (-1)) - 1) 0).bind fun w15 =>
k40 w15 l0 l3 l4 l5 (l6 + (-1)) (l7 + 1))
else (
(bas w v9 ((l6 + (-1)) - 1) 1).bind fun w16 =>
k40 w16 l0 l3 l4 l5 (l6 + (-1)) (l7 + 1))))
else (
(gR w l0 2 24).bind fun v17 =>
(ba w v17 ((l6 + (-1)) - 1)).bind fun v18 =>
if v18 = 0 then (
(bas w v9 ((l6 + (-1)) - 1) 0).bind fun w19 =>
k40 w19 l0 l3 l4 l5 (l6 + (-1)) (l7 + 1))
else (
(gR w l0 2 24).bind fun v20 =>
(ba w v20 (l6 + (-1))).bind fun v21 =>
if v21 = 0 then (
(bas w v9 ((l6 + (-1)) - 1) 0).bind fun w22 =>
k40 w22 l0 l3 l4 l5 (l6 + (-1)) (l7 + 1))
else (
(bas w v9 ((l6 + (-1)) - 1) 1).bind fun w23 =>
k40 w23 l0 l3 l4 l5 (l6 + (-1)) (l7 + 1)))))
else (
(gR w l0 2 24).bind fun v24 =>
(gR w l0 2 24).bind fun v25 =>
(ba w v25 (l6 - 1)).bind fun v26 =>
if ¬ v26 = 0 then (
(bas w v24 (l6 - 1) 0).bind fun w27 =>
k40 w27 l0 l3 l4 l5 l6 (l7 + 1))
else (
(bas w v24 (l6 - 1) 1).bind fun w28 =>
k40 w28 l0 l3 l4 l5 l6 (l7 + 1))))
else (
(gR w l0 2 24).bind fun v29 =>
(gR w l0 2 23).bind fun v30 =>
(la w v30 (l5 + (-2))).bind fun v31 =>
(gR w l0 2 23).bind fun v32 =>
(la w v32 ((l5 + (-2)) + 1)).bind fun v33 =>
(cal w (mX2_isAsked v6 v31 v33 w)).bind fun r34 =>
(bas r34.2 v29 l6 r34.1).bind fun w35 =>
k40 w35 l0 l3 l4 (l5 + (-2)) (l6 + 1) (l7 + 1)))
else (
(gR w l0 2 23).bind fun v36 =>
(gR w l0 2 23).bind fun v37 =>
(la w v37 ((l5 + (-1)) - 1)).bind fun v38 =>
(gR w l0 2 23).bind fun v39 =>
(la w v39 (l5 + (-1))).bind fun v40 =>
(cal w (mX2_two v6 v38 v40 w)).bind fun r41 =>
(las r41.2 v36 ((l5 + (-1)) - 1) r41.1).bind fun w42 =>
k40 w42 l0 l3 l4 (l5 + (-1)) l6 (l7 + 1)))
else (
(gR w l0 2 23).bind fun v43 =>
(gR w l0 2 23).bind fun v44 =>
(la w v44 (l5 - 1)).bind fun v45 =>
if 0 ≤ (lg_cmp v45 0) then (
(gR w l0 2 23).bind fun v46 =>
(la w v46 (l5 - 1)).bind fun v47 =>
(las w v43 (l5 - 1) v47).bind fun w48 =>
k40 w48 l0 l3 l4 l5 l6 (l7 + 1))
else (
(gR w l0 2 23).bind fun v49 =>
(la w v49 (l5 - 1)).bind fun v50 =>
(las w v43 (l5 - 1) (-v50)).bind fun w51 =>
k40 w51 l0 l3 l4 l5 l6 (l7 + 1))))
else (
(gR w l0 2 23).bind fun v52 =>
(gR w l0 2 23).bind fun v53 =>
(la w v53 (l5 - 1)).bind fun v54 =>
(las w v52 (l5 - 1) (-v54)).bind fun w55 =>
k40 w55 l0 l3 l4 l5 l6 (l7 + 1)))
else (
(gR w l0 2 24).bind fun v56 =>
(ba w v56 (l6 + (-1))).bind fun v57 =>
if ¬ v57 = 0 then (
k40 w l0 l3 l4 (l5 + (-1)) (l6 + (-1)) (l7 + 1))
else (
(gR w l0 2 23).bind fun v58 =>
(gR w l0 2 23).bind fun v59 =>
(la w v59 (l5 + (-1))).bind fun v60 =>
(las w v58 ((l5 + (-1)) - 1) v60).bind fun w61 =>
k40 w61 l0 l3 l4 (l5 + (-1)) (l6 + (-1)) (l7 + 1))))
else (
(gR w l0 2 23).bind fun v62 =>
if ¬ v6 = 0 then (
if ¬ v6 = 1 then (
(idv v8 10).bind fun v63 =>
(irm v8 10).bind fun v64 =>
(recv w l0 2).bind fun b66 => (cal w (mX2_agoOf b66 v63 v64 w)).bind fun r65 =>
(las r65.2 v62 l5 ((r65.1 : Int32).toInt64)).bind fun w67 =>
k40 w67 l0 l3 l4 (l5 + 1) l6 (l7 + 1))
else (
(gR w l0 2 20).bind fun v68 =>
(ia w v68 v8).bind fun v69 =>
(las w v62 l5 ((v69 : Int32).toInt64)).bind fun w70 =>
k40 w70 l0 l3 l4 (l5 + 1) l6 (l7 + 1)))
else (
(las w v62 l5 ((v8 : Int32).toInt64)).bind fun w71 =>
k40 w71 l0 l3 l4 (l5 + 1) l6 (l7 + 1))))
noncomputable def mX2_worked_l40 : Nat → Wd → (Option Nat) → Int32 → Int32 → Int32 → Int32 → Int32 → Option (Int32 × Wd)
  | 0, _, _, _, _, _, _, _ => none
  | n + 1, w, l0, l3, l4, l5, l6, l7 => mX2_worked_b40 (mX2_worked_l40 n) w l0 l3 l4 l5 l6 l7
noncomputable def mX2_worked (this : Nat) (a0 : Int32) (a1 : Int32) (w : Wd) : Option (Int32 × Wd) :=
(some (((753 * a0) + 1) + (6 * a1))).bind fun (x1 : Int32) =>
(gR w ((some this)) 2 2).bind fun v2 =>
(ia w v2 (x1 + 1)).bind fun v3 =>
mX2_worked_l40 FU w ((some this)) x1 ((753 * a0) + 145) 0 0 v3
theorem eX2_worked_b40 {y : Fx (Int32 × Wd)} (hk : OkF y RX2 cX2_worked 10 4 105) (hR : RetM y rvI (some (.int))) {k40 : Wd → (Option Nat) → Int32 → Int32 → Int32 → Int32 → Int32 → Option (Int32 × Wd)} (h40 : ∀ (w : Wd) (l0 : Option Nat) (l3 : Int32) (l4 : Int32) (l5 : Int32) (l6 : Int32) (l7 : Int32), V y w [(0, va_rf l0), (3, .int l3), (4, .int l4), (5, .int l5), (6, .int l6), (7, .int l7)] [] 40 (k40 w l0 l3 l4 l5 l6 l7)) (w : Wd) (l0 : Option Nat) (l3 : Int32) (l4 : Int32) (l5 : Int32) (l6 : Int32) (l7 : Int32) : V y w [(0, va_rf l0), (3, .int l3), (4, .int l4), (5, .int l5), (6, .int l6), (7, .int l7)] [] 40 (mX2_worked_b40 k40 w l0 l3 l4 l5 l6 l7) := by
  unfold mX2_worked_b40
  refine V_iload (pc := 40) hk dX2_worked_40 5 rfl ?_
  refine V_aload_n (pc := 42) hk dX2_worked_42 0 rfl ?_
  refine g_X2_16 (pc := 43) hk dX2_worked_43 (fun v1 => ?_)
  refine V_iload_n (pc := 46) hk dX2_worked_46 1 rfl ?_
  refine V_iconst (pc := 47) (v := 2) hk dX2_worked_47 rfl ?_
  refine V_iadd (pc := 48) hk dX2_worked_48 ?_
  refine V_iaload (pc := 49) hk dX2_worked_49 (fun v2 => ?_)
  refine V_icmp_ge (pc := 50) (tgt := 473) hk dX2_worked_50 rfl ?_ ?_
  · refine V_aload_n (pc := 473) hk dX2_worked_473 0 rfl ?_
    refine g_X2_35 (pc := 474) hk dX2_worked_474 (fun v3 => ?_)
    refine V_iconst (pc := 477) (v := 0) hk dX2_worked_477 rfl ?_
    refine V_laload (pc := 478) hk dX2_worked_478 (fun v4 => ?_)
    refine V_l2i (pc := 479) hk dX2_worked_479 ?_
    exact V_ireturn (pc := 480) hk hR rfl dX2_worked_480
  · refine V_aload_n (pc := 53) hk dX2_worked_53 0 rfl ?_
    refine g_X2_16 (pc := 54) hk dX2_worked_54 (fun v5 => ?_)
    refine V_iload (pc := 57) hk dX2_worked_57 2 rfl ?_
    refine V_iconst (pc := 59) (v := 2) hk dX2_worked_59 rfl ?_
    refine V_iload (pc := 60) hk dX2_worked_60 5 rfl ?_
    refine V_imul (pc := 62) hk dX2_worked_62 ?_
    refine V_iadd (pc := 63) hk dX2_worked_63 ?_
    refine V_iaload (pc := 64) hk dX2_worked_64 (fun v6 => ?_)
    refine V_istore (pc := 65) (lc' := [(8, .int v6), (0, va_rf l0), (3, .int l3), (4, .int l4), (5, .int l5), (6, .int l6), (7, .int l7)]) (i := 8) hk dX2_worked_65 (Nat.le_of_ble_eq_true rfl) rfl ?_
    refine V_aload_n (pc := 67) hk dX2_worked_67 1 rfl ?_
    refine g_X2_16 (pc := 68) hk dX2_worked_68 (fun v7 => ?_)
    refine V_iload (pc := 71) hk dX2_worked_71 3 rfl ?_
    refine V_iconst (pc := 73) (v := 2) hk dX2_worked_73 rfl ?_
    refine V_iload (pc := 74) hk dX2_worked_74 6 rfl ?_
    refine V_imul (pc := 76) hk dX2_worked_76 ?_
    refine V_iadd (pc := 77) hk dX2_worked_77 ?_
    refine V_iconst (pc := 78) (v := 1) hk dX2_worked_78 rfl ?_
    refine V_iadd (pc := 79) hk dX2_worked_79 ?_
    refine V_iaload (pc := 80) hk dX2_worked_80 (fun v8 => ?_)
    refine V_istore (pc := 81) (lc' := [(9, .int v8), (8, .int v6), (0, va_rf l0), (3, .int l3), (4, .int l4), (5, .int l5), (6, .int l6), (7, .int l7)]) (i := 9) hk dX2_worked_81 (Nat.le_of_ble_eq_true rfl) rfl ?_
    refine V_iload (pc := 83) hk dX2_worked_83 1 rfl ?_
    refine V_iconst (pc := 85) (v := 2) hk dX2_worked_85 rfl ?_
    refine V_icmp_gt (pc := 86) (tgt := 145) hk dX2_worked_86 rfl ?_ ?_
    · refine V_iload (pc := 145) hk dX2_worked_145 1 rfl ?_
      refine V_iconst (pc := 147) (v := 3) hk dX2_worked_147 rfl ?_
      refine V_icmp_ne (pc := 148) (tgt := 186) hk dX2_worked_148 rfl ?_ ?_
      · refine V_iload (pc := 186) hk dX2_worked_186 1 rfl ?_
        refine V_iconst (pc := 188) (v := 4) hk dX2_worked_188 rfl ?_
        refine V_icmp_ne (pc := 189) (tgt := 214) hk dX2_worked_189 rfl ?_ ?_
        · refine V_iload (pc := 214) hk dX2_worked_214 1 rfl ?_
          refine V_iconst (pc := 216) (v := 5) hk dX2_worked_216 rfl ?_
          refine V_icmp_ne (pc := 217) (tgt := 268) hk dX2_worked_217 rfl ?_ ?_
          · refine V_iload (pc := 268) hk dX2_worked_268 1 rfl ?_
            refine V_bipush (pc := 270) (v := 10) hk dX2_worked_270 rfl ?_
            refine V_icmp_ge (pc := 272) (tgt := 311) hk dX2_worked_272 rfl ?_ ?_
            · refine V_iload (pc := 311) hk dX2_worked_311 1 rfl ?_
              refine V_bipush (pc := 313) (v := 20) hk dX2_worked_313 rfl ?_
              refine V_icmp_ge (pc := 315) (tgt := 355) hk dX2_worked_315 rfl ?_ ?_
              · refine V_iload (pc := 355) hk dX2_worked_355 1 rfl ?_
                refine V_bipush (pc := 357) (v := 20) hk dX2_worked_357 rfl ?_
                refine V_icmp_ne (pc := 359) (tgt := 391) hk dX2_worked_359 rfl ?_ ?_
                · refine V_iinc (pc := 391) (v := (-1)) (lc' := [(6, .int (l6 + (-1))), (9, .int v8), (8, .int v6), (0, va_rf l0), (3, .int l3), (4, .int l4), (5, .int l5), (7, .int l7)]) hk dX2_worked_391 6 rfl (by decide +kernel) (Nat.le_of_ble_eq_true rfl) rfl ?_
                  refine V_aload_n (pc := 394) hk dX2_worked_394 3 rfl ?_
                  refine g_X2_39 (pc := 395) hk dX2_worked_395 (fun v9 => ?_)
                  refine V_iload (pc := 398) hk dX2_worked_398 0 rfl ?_
                  refine V_iconst (pc := 400) (v := 1) hk dX2_worked_400 rfl ?_
                  refine V_isub (pc := 401) hk dX2_worked_401 ?_
                  refine V_iload (pc := 402) hk dX2_worked_402 2 rfl ?_
                  refine V_bipush (pc := 404) (v := 21) hk dX2_worked_404 rfl ?_
                  refine V_icmp_ne (pc := 406) (tgt := 439) hk dX2_worked_406 rfl ?_ ?_
                  · refine V_aload_n (pc := 439) hk dX2_worked_439 3 rfl ?_
                    refine g_X2_39 (pc := 440) hk dX2_worked_440 (fun v10 => ?_)
                    refine V_iload (pc := 443) hk dX2_worked_443 0 rfl ?_
                    refine V_iconst (pc := 445) (v := 1) hk dX2_worked_445 rfl ?_
                    refine V_isub (pc := 446) hk dX2_worked_446 ?_
                    refine V_baload (pc := 447) hk dX2_worked_447 (fun v11 => ?_)
                    refine V_if_ne (pc := 448) (tgt := 461) hk dX2_worked_448 rfl ?_ ?_
                    · refine V_iconst (pc := 461) (v := 1) hk dX2_worked_461 rfl ?_
                      refine V_goto (pc := 462) (tgt := 466) hk dX2_worked_462 rfl ?_
                      refine V_bastore (pc := 466) hk dX2_worked_466 (fun w12 => ?_)
                      refine V_iinc (pc := 467) (v := 1) (lc' := [(7, .int (l7 + 1)), (6, .int (l6 + (-1))), (9, .int v8), (8, .int v6), (0, va_rf l0), (3, .int l3), (4, .int l4), (5, .int l5)]) hk dX2_worked_467 7 rfl rfl (Nat.le_of_ble_eq_true rfl) rfl ?_
                      refine V_goto (pc := 470) (tgt := 40) hk dX2_worked_470 rfl ?_
                      refine V_pick (lc' := [(0, va_rf l0), (3, .int l3), (4, .int l4), (5, .int l5), (6, .int (l6 + (-1))), (7, .int (l7 + 1))]) [4, 5, 6, 7, 1, 0] rfl ?_
                      exact h40 w12 l0 l3 l4 l5 (l6 + (-1)) (l7 + 1)
                    · refine V_aload_n (pc := 451) hk dX2_worked_451 3 rfl ?_
                      refine g_X2_39 (pc := 452) hk dX2_worked_452 (fun v13 => ?_)
                      refine V_iload (pc := 455) hk dX2_worked_455 0 rfl ?_
                      refine V_baload (pc := 457) hk dX2_worked_457 (fun v14 => ?_)
                      refine V_if_eq (pc := 458) (tgt := 465) hk dX2_worked_458 rfl ?_ ?_
                      · refine V_iconst (pc := 465) (v := 0) hk dX2_worked_465 rfl ?_
                        refine V_bastore (pc := 466) hk dX2_worked_466 (fun w15 => ?_)
                        refine V_iinc (pc := 467) (v := 1) (lc' := [(7, .int (l7 + 1)), (6, .int (l6 + (-1))), (9, .int v8), (8, .int v6), (0, va_rf l0), (3, .int l3), (4, .int l4), (5, .int l5)]) hk dX2_worked_467 7 rfl rfl (Nat.le_of_ble_eq_true rfl) rfl ?_
                        refine V_goto (pc := 470) (tgt := 40) hk dX2_worked_470 rfl ?_
                        refine V_pick (lc' := [(0, va_rf l0), (3, .int l3), (4, .int l4), (5, .int l5), (6, .int (l6 + (-1))), (7, .int (l7 + 1))]) [4, 5, 6, 7, 1, 0] rfl ?_
                        exact h40 w15 l0 l3 l4 l5 (l6 + (-1)) (l7 + 1)
                      · refine V_iconst (pc := 461) (v := 1) hk dX2_worked_461 rfl ?_
                        refine V_goto (pc := 462) (tgt := 466) hk dX2_worked_462 rfl ?_
                        refine V_bastore (pc := 466) hk dX2_worked_466 (fun w16 => ?_)
                        refine V_iinc (pc := 467) (v := 1) (lc' := [(7, .int (l7 + 1)), (6, .int (l6 + (-1))), (9, .int v8), (8, .int v6), (0, va_rf l0), (3, .int l3), (4, .int l4), (5, .int l5)]) hk dX2_worked_467 7 rfl rfl (Nat.le_of_ble_eq_true rfl) rfl ?_
                        refine V_goto (pc := 470) (tgt := 40) hk dX2_worked_470 rfl ?_
                        refine V_pick (lc' := [(0, va_rf l0), (3, .int l3), (4, .int l4), (5, .int l5), (6, .int (l6 + (-1))), (7, .int (l7 + 1))]) [4, 5, 6, 7, 1, 0] rfl ?_
                        exact h40 w16 l0 l3 l4 l5 (l6 + (-1)) (l7 + 1)
                  · refine V_aload_n (pc := 409) hk dX2_worked_409 3 rfl ?_
                    refine g_X2_39 (pc := 410) hk dX2_worked_410 (fun v17 => ?_)
                    refine V_iload (pc := 413) hk dX2_worked_413 0 rfl ?_
                    refine V_iconst (pc := 415) (v := 1) hk dX2_worked_415 rfl ?_
                    refine V_isub (pc := 416) hk dX2_worked_416 ?_
                    refine V_baload (pc := 417) hk dX2_worked_417 (fun v18 => ?_)
                    refine V_if_eq (pc := 418) (tgt := 435) hk dX2_worked_418 rfl ?_ ?_
                    · refine V_iconst (pc := 435) (v := 0) hk dX2_worked_435 rfl ?_
                      refine V_goto (pc := 436) (tgt := 466) hk dX2_worked_436 rfl ?_
                      refine V_bastore (pc := 466) hk dX2_worked_466 (fun w19 => ?_)
                      refine V_iinc (pc := 467) (v := 1) (lc' := [(7, .int (l7 + 1)), (6, .int (l6 + (-1))), (9, .int v8), (8, .int v6), (0, va_rf l0), (3, .int l3), (4, .int l4), (5, .int l5)]) hk dX2_worked_467 7 rfl rfl (Nat.le_of_ble_eq_true rfl) rfl ?_
                      refine V_goto (pc := 470) (tgt := 40) hk dX2_worked_470 rfl ?_
                      refine V_pick (lc' := [(0, va_rf l0), (3, .int l3), (4, .int l4), (5, .int l5), (6, .int (l6 + (-1))), (7, .int (l7 + 1))]) [4, 5, 6, 7, 1, 0] rfl ?_
                      exact h40 w19 l0 l3 l4 l5 (l6 + (-1)) (l7 + 1)
                    · refine V_aload_n (pc := 421) hk dX2_worked_421 3 rfl ?_
                      refine g_X2_39 (pc := 422) hk dX2_worked_422 (fun v20 => ?_)
                      refine V_iload (pc := 425) hk dX2_worked_425 0 rfl ?_
                      refine V_baload (pc := 427) hk dX2_worked_427 (fun v21 => ?_)
                      refine V_if_eq (pc := 428) (tgt := 435) hk dX2_worked_428 rfl ?_ ?_
                      · refine V_iconst (pc := 435) (v := 0) hk dX2_worked_435 rfl ?_
                        refine V_goto (pc := 436) (tgt := 466) hk dX2_worked_436 rfl ?_
                        refine V_bastore (pc := 466) hk dX2_worked_466 (fun w22 => ?_)
                        refine V_iinc (pc := 467) (v := 1) (lc' := [(7, .int (l7 + 1)), (6, .int (l6 + (-1))), (9, .int v8), (8, .int v6), (0, va_rf l0), (3, .int l3), (4, .int l4), (5, .int l5)]) hk dX2_worked_467 7 rfl rfl (Nat.le_of_ble_eq_true rfl) rfl ?_
                        refine V_goto (pc := 470) (tgt := 40) hk dX2_worked_470 rfl ?_
                        refine V_pick (lc' := [(0, va_rf l0), (3, .int l3), (4, .int l4), (5, .int l5), (6, .int (l6 + (-1))), (7, .int (l7 + 1))]) [4, 5, 6, 7, 1, 0] rfl ?_
                        exact h40 w22 l0 l3 l4 l5 (l6 + (-1)) (l7 + 1)
                      · refine V_iconst (pc := 431) (v := 1) hk dX2_worked_431 rfl ?_
                        refine V_goto (pc := 432) (tgt := 466) hk dX2_worked_432 rfl ?_
                        refine V_bastore (pc := 466) hk dX2_worked_466 (fun w23 => ?_)
                        refine V_iinc (pc := 467) (v := 1) (lc' := [(7, .int (l7 + 1)), (6, .int (l6 + (-1))), (9, .int v8), (8, .int v6), (0, va_rf l0), (3, .int l3), (4, .int l4), (5, .int l5)]) hk dX2_worked_467 7 rfl rfl (Nat.le_of_ble_eq_true rfl) rfl ?_
                        refine V_goto (pc := 470) (tgt := 40) hk dX2_worked_470 rfl ?_
                        refine V_pick (lc' := [(0, va_rf l0), (3, .int l3), (4, .int l4), (5, .int l5), (6, .int (l6 + (-1))), (7, .int (l7 + 1))]) [4, 5, 6, 7, 1, 0] rfl ?_
                        exact h40 w23 l0 l3 l4 l5 (l6 + (-1)) (l7 + 1)
                · refine V_aload_n (pc := 362) hk dX2_worked_362 2 rfl ?_
                  refine g_X2_39 (pc := 363) hk dX2_worked_363 (fun v24 => ?_)
                  refine V_iload (pc := 366) hk dX2_worked_366 6 rfl ?_
                  refine V_iconst (pc := 368) (v := 1) hk dX2_worked_368 rfl ?_
                  refine V_isub (pc := 369) hk dX2_worked_369 ?_
                  refine V_aload_n (pc := 370) hk dX2_worked_370 2 rfl ?_
                  refine g_X2_39 (pc := 371) hk dX2_worked_371 (fun v25 => ?_)
                  refine V_iload (pc := 374) hk dX2_worked_374 6 rfl ?_
                  refine V_iconst (pc := 376) (v := 1) hk dX2_worked_376 rfl ?_
                  refine V_isub (pc := 377) hk dX2_worked_377 ?_
                  refine V_baload (pc := 378) hk dX2_worked_378 (fun v26 => ?_)
                  refine V_if_ne (pc := 379) (tgt := 386) hk dX2_worked_379 rfl ?_ ?_
                  · refine V_iconst (pc := 386) (v := 0) hk dX2_worked_386 rfl ?_
                    refine V_bastore (pc := 387) hk dX2_worked_387 (fun w27 => ?_)
                    refine V_goto (pc := 388) (tgt := 467) hk dX2_worked_388 rfl ?_
                    refine V_iinc (pc := 467) (v := 1) (lc' := [(7, .int (l7 + 1)), (9, .int v8), (8, .int v6), (0, va_rf l0), (3, .int l3), (4, .int l4), (5, .int l5), (6, .int l6)]) hk dX2_worked_467 7 rfl rfl (Nat.le_of_ble_eq_true rfl) rfl ?_
                    refine V_goto (pc := 470) (tgt := 40) hk dX2_worked_470 rfl ?_
                    refine V_pick (lc' := [(0, va_rf l0), (3, .int l3), (4, .int l4), (5, .int l5), (6, .int l6), (7, .int (l7 + 1))]) [3, 4, 5, 6, 7, 0] rfl ?_
                    exact h40 w27 l0 l3 l4 l5 l6 (l7 + 1)
                  · refine V_iconst (pc := 382) (v := 1) hk dX2_worked_382 rfl ?_
                    refine V_goto (pc := 383) (tgt := 387) hk dX2_worked_383 rfl ?_
                    refine V_bastore (pc := 387) hk dX2_worked_387 (fun w28 => ?_)
                    refine V_goto (pc := 388) (tgt := 467) hk dX2_worked_388 rfl ?_
                    refine V_iinc (pc := 467) (v := 1) (lc' := [(7, .int (l7 + 1)), (9, .int v8), (8, .int v6), (0, va_rf l0), (3, .int l3), (4, .int l4), (5, .int l5), (6, .int l6)]) hk dX2_worked_467 7 rfl rfl (Nat.le_of_ble_eq_true rfl) rfl ?_
                    refine V_goto (pc := 470) (tgt := 40) hk dX2_worked_470 rfl ?_
                    refine V_pick (lc' := [(0, va_rf l0), (3, .int l3), (4, .int l4), (5, .int l5), (6, .int l6), (7, .int (l7 + 1))]) [3, 4, 5, 6, 7, 0] rfl ?_
                    exact h40 w28 l0 l3 l4 l5 l6 (l7 + 1)
              · refine V_iinc (pc := 318) (v := (-2)) (lc' := [(5, .int (l5 + (-2))), (9, .int v8), (8, .int v6), (0, va_rf l0), (3, .int l3), (4, .int l4), (6, .int l6), (7, .int l7)]) hk dX2_worked_318 5 rfl (by decide +kernel) (Nat.le_of_ble_eq_true rfl) rfl ?_
                refine V_aload_n (pc := 321) hk dX2_worked_321 3 rfl ?_
                refine g_X2_39 (pc := 322) hk dX2_worked_322 (fun v29 => ?_)
                refine V_iload (pc := 325) hk dX2_worked_325 6 rfl ?_
                refine V_iload (pc := 327) hk dX2_worked_327 2 rfl ?_
                refine V_aload_n (pc := 329) hk dX2_worked_329 3 rfl ?_
                refine g_X2_35 (pc := 330) hk dX2_worked_330 (fun v30 => ?_)
                refine V_iload (pc := 333) hk dX2_worked_333 0 rfl ?_
                refine V_laload (pc := 335) hk dX2_worked_335 (fun v31 => ?_)
                refine V_aload_n (pc := 336) hk dX2_worked_336 3 rfl ?_
                refine g_X2_35 (pc := 337) hk dX2_worked_337 (fun v32 => ?_)
                refine V_iload (pc := 340) hk dX2_worked_340 0 rfl ?_
                refine V_iconst (pc := 342) (v := 1) hk dX2_worked_342 rfl ?_
                refine V_iadd (pc := 343) hk dX2_worked_343 ?_
                refine V_laload (pc := 344) hk dX2_worked_344 (fun v33 => ?_)
                refine n_X2_279 (pc := 345) hk (fun r h => ctX2_isAsked (fl y) (fK y) hk.2.2.2.2.2.2.2.1 v6 v31 v33 w r h) ⟨Nat.le_of_ble_eq_true rfl, Nat.le_of_ble_eq_true rfl⟩ (by simp [rf_cat, cat_int, cat_long, cat_ref]) dX2_worked_345 (fun r34 => ?_)
                refine V_bastore (pc := 348) hk dX2_worked_348 (fun w35 => ?_)
                refine V_iinc (pc := 349) (v := 1) (lc' := [(6, .int (l6 + 1)), (5, .int (l5 + (-2))), (9, .int v8), (8, .int v6), (0, va_rf l0), (3, .int l3), (4, .int l4), (7, .int l7)]) hk dX2_worked_349 6 rfl rfl (Nat.le_of_ble_eq_true rfl) rfl ?_
                refine V_goto (pc := 352) (tgt := 467) hk dX2_worked_352 rfl ?_
                refine V_iinc (pc := 467) (v := 1) (lc' := [(7, .int (l7 + 1)), (6, .int (l6 + 1)), (5, .int (l5 + (-2))), (9, .int v8), (8, .int v6), (0, va_rf l0), (3, .int l3), (4, .int l4)]) hk dX2_worked_467 7 rfl rfl (Nat.le_of_ble_eq_true rfl) rfl ?_
                refine V_goto (pc := 470) (tgt := 40) hk dX2_worked_470 rfl ?_
                refine V_pick (lc' := [(0, va_rf l0), (3, .int l3), (4, .int l4), (5, .int (l5 + (-2))), (6, .int (l6 + 1)), (7, .int (l7 + 1))]) [5, 6, 7, 2, 1, 0] rfl ?_
                exact h40 w35 l0 l3 l4 (l5 + (-2)) (l6 + 1) (l7 + 1)
            · refine V_iinc (pc := 275) (v := (-1)) (lc' := [(5, .int (l5 + (-1))), (9, .int v8), (8, .int v6), (0, va_rf l0), (3, .int l3), (4, .int l4), (6, .int l6), (7, .int l7)]) hk dX2_worked_275 5 rfl (by decide +kernel) (Nat.le_of_ble_eq_true rfl) rfl ?_
              refine V_aload_n (pc := 278) hk dX2_worked_278 3 rfl ?_
              refine g_X2_35 (pc := 279) hk dX2_worked_279 (fun v36 => ?_)
              refine V_iload (pc := 282) hk dX2_worked_282 0 rfl ?_
              refine V_iconst (pc := 284) (v := 1) hk dX2_worked_284 rfl ?_
              refine V_isub (pc := 285) hk dX2_worked_285 ?_
              refine V_iload (pc := 286) hk dX2_worked_286 2 rfl ?_
              refine V_aload_n (pc := 288) hk dX2_worked_288 3 rfl ?_
              refine g_X2_35 (pc := 289) hk dX2_worked_289 (fun v37 => ?_)
              refine V_iload (pc := 292) hk dX2_worked_292 0 rfl ?_
              refine V_iconst (pc := 294) (v := 1) hk dX2_worked_294 rfl ?_
              refine V_isub (pc := 295) hk dX2_worked_295 ?_
              refine V_laload (pc := 296) hk dX2_worked_296 (fun v38 => ?_)
              refine V_aload_n (pc := 297) hk dX2_worked_297 3 rfl ?_
              refine g_X2_35 (pc := 298) hk dX2_worked_298 (fun v39 => ?_)
              refine V_iload (pc := 301) hk dX2_worked_301 0 rfl ?_
              refine V_laload (pc := 303) hk dX2_worked_303 (fun v40 => ?_)
              refine n_X2_275 (pc := 304) hk (fun r h => ctX2_two (fl y) (fK y) hk.2.2.2.2.2.2.2.1 v6 v38 v40 w r h) ⟨Nat.le_of_ble_eq_true rfl, Nat.le_of_ble_eq_true rfl⟩ (by simp [rf_cat, cat_int, cat_long, cat_ref]) dX2_worked_304 (fun r41 => ?_)
              refine V_lastore (pc := 307) hk dX2_worked_307 (fun w42 => ?_)
              refine V_goto (pc := 308) (tgt := 467) hk dX2_worked_308 rfl ?_
              refine V_iinc (pc := 467) (v := 1) (lc' := [(7, .int (l7 + 1)), (5, .int (l5 + (-1))), (9, .int v8), (8, .int v6), (0, va_rf l0), (3, .int l3), (4, .int l4), (6, .int l6)]) hk dX2_worked_467 7 rfl rfl (Nat.le_of_ble_eq_true rfl) rfl ?_
              refine V_goto (pc := 470) (tgt := 40) hk dX2_worked_470 rfl ?_
              refine V_pick (lc' := [(0, va_rf l0), (3, .int l3), (4, .int l4), (5, .int (l5 + (-1))), (6, .int l6), (7, .int (l7 + 1))]) [4, 5, 6, 1, 7, 0] rfl ?_
              exact h40 w42 l0 l3 l4 (l5 + (-1)) l6 (l7 + 1)
          · refine V_aload_n (pc := 220) hk dX2_worked_220 2 rfl ?_
            refine g_X2_35 (pc := 221) hk dX2_worked_221 (fun v43 => ?_)
            refine V_iload (pc := 224) hk dX2_worked_224 5 rfl ?_
            refine V_iconst (pc := 226) (v := 1) hk dX2_worked_226 rfl ?_
            refine V_isub (pc := 227) hk dX2_worked_227 ?_
            refine V_aload_n (pc := 228) hk dX2_worked_228 2 rfl ?_
            refine g_X2_35 (pc := 229) hk dX2_worked_229 (fun v44 => ?_)
            refine V_iload (pc := 232) hk dX2_worked_232 5 rfl ?_
            refine V_iconst (pc := 234) (v := 1) hk dX2_worked_234 rfl ?_
            refine V_isub (pc := 235) hk dX2_worked_235 ?_
            refine V_laload (pc := 236) hk dX2_worked_236 (fun v45 => ?_)
            refine V_lconst (pc := 237) (v := 0) hk dX2_worked_237 rfl ?_
            refine V_lcmp (pc := 238) hk dX2_worked_238 ?_
            refine V_if_ge (pc := 239) (tgt := 255) hk dX2_worked_239 rfl ?_ ?_
            · refine V_aload_n (pc := 255) hk dX2_worked_255 2 rfl ?_
              refine g_X2_35 (pc := 256) hk dX2_worked_256 (fun v46 => ?_)
              refine V_iload (pc := 259) hk dX2_worked_259 5 rfl ?_
              refine V_iconst (pc := 261) (v := 1) hk dX2_worked_261 rfl ?_
              refine V_isub (pc := 262) hk dX2_worked_262 ?_
              refine V_laload (pc := 263) hk dX2_worked_263 (fun v47 => ?_)
              refine V_lastore (pc := 264) hk dX2_worked_264 (fun w48 => ?_)
              refine V_goto (pc := 265) (tgt := 467) hk dX2_worked_265 rfl ?_
              refine V_iinc (pc := 467) (v := 1) (lc' := [(7, .int (l7 + 1)), (9, .int v8), (8, .int v6), (0, va_rf l0), (3, .int l3), (4, .int l4), (5, .int l5), (6, .int l6)]) hk dX2_worked_467 7 rfl rfl (Nat.le_of_ble_eq_true rfl) rfl ?_
              refine V_goto (pc := 470) (tgt := 40) hk dX2_worked_470 rfl ?_
              refine V_pick (lc' := [(0, va_rf l0), (3, .int l3), (4, .int l4), (5, .int l5), (6, .int l6), (7, .int (l7 + 1))]) [3, 4, 5, 6, 7, 0] rfl ?_
              exact h40 w48 l0 l3 l4 l5 l6 (l7 + 1)
            · refine V_aload_n (pc := 242) hk dX2_worked_242 2 rfl ?_
              refine g_X2_35 (pc := 243) hk dX2_worked_243 (fun v49 => ?_)
              refine V_iload (pc := 246) hk dX2_worked_246 5 rfl ?_
              refine V_iconst (pc := 248) (v := 1) hk dX2_worked_248 rfl ?_
              refine V_isub (pc := 249) hk dX2_worked_249 ?_
              refine V_laload (pc := 250) hk dX2_worked_250 (fun v50 => ?_)
              refine V_lneg (pc := 251) hk dX2_worked_251 ?_
              refine V_goto (pc := 252) (tgt := 264) hk dX2_worked_252 rfl ?_
              refine V_lastore (pc := 264) hk dX2_worked_264 (fun w51 => ?_)
              refine V_goto (pc := 265) (tgt := 467) hk dX2_worked_265 rfl ?_
              refine V_iinc (pc := 467) (v := 1) (lc' := [(7, .int (l7 + 1)), (9, .int v8), (8, .int v6), (0, va_rf l0), (3, .int l3), (4, .int l4), (5, .int l5), (6, .int l6)]) hk dX2_worked_467 7 rfl rfl (Nat.le_of_ble_eq_true rfl) rfl ?_
              refine V_goto (pc := 470) (tgt := 40) hk dX2_worked_470 rfl ?_
              refine V_pick (lc' := [(0, va_rf l0), (3, .int l3), (4, .int l4), (5, .int l5), (6, .int l6), (7, .int (l7 + 1))]) [3, 4, 5, 6, 7, 0] rfl ?_
              exact h40 w51 l0 l3 l4 l5 l6 (l7 + 1)
        · refine V_aload_n (pc := 192) hk dX2_worked_192 2 rfl ?_
          refine g_X2_35 (pc := 193) hk dX2_worked_193 (fun v52 => ?_)
          refine V_iload (pc := 196) hk dX2_worked_196 5 rfl ?_
          refine V_iconst (pc := 198) (v := 1) hk dX2_worked_198 rfl ?_
          refine V_isub (pc := 199) hk dX2_worked_199 ?_
          refine V_aload_n (pc := 200) hk dX2_worked_200 2 rfl ?_
          refine g_X2_35 (pc := 201) hk dX2_worked_201 (fun v53 => ?_)
          refine V_iload (pc := 204) hk dX2_worked_204 5 rfl ?_
          refine V_iconst (pc := 206) (v := 1) hk dX2_worked_206 rfl ?_
          refine V_isub (pc := 207) hk dX2_worked_207 ?_
          refine V_laload (pc := 208) hk dX2_worked_208 (fun v54 => ?_)
          refine V_lneg (pc := 209) hk dX2_worked_209 ?_
          refine V_lastore (pc := 210) hk dX2_worked_210 (fun w55 => ?_)
          refine V_goto (pc := 211) (tgt := 467) hk dX2_worked_211 rfl ?_
          refine V_iinc (pc := 467) (v := 1) (lc' := [(7, .int (l7 + 1)), (9, .int v8), (8, .int v6), (0, va_rf l0), (3, .int l3), (4, .int l4), (5, .int l5), (6, .int l6)]) hk dX2_worked_467 7 rfl rfl (Nat.le_of_ble_eq_true rfl) rfl ?_
          refine V_goto (pc := 470) (tgt := 40) hk dX2_worked_470 rfl ?_
          refine V_pick (lc' := [(0, va_rf l0), (3, .int l3), (4, .int l4), (5, .int l5), (6, .int l6), (7, .int (l7 + 1))]) [3, 4, 5, 6, 7, 0] rfl ?_
          exact h40 w55 l0 l3 l4 l5 l6 (l7 + 1)
      · refine V_iinc (pc := 151) (v := (-1)) (lc' := [(5, .int (l5 + (-1))), (9, .int v8), (8, .int v6), (0, va_rf l0), (3, .int l3), (4, .int l4), (6, .int l6), (7, .int l7)]) hk dX2_worked_151 5 rfl (by decide +kernel) (Nat.le_of_ble_eq_true rfl) rfl ?_
        refine V_iinc (pc := 154) (v := (-1)) (lc' := [(6, .int (l6 + (-1))), (5, .int (l5 + (-1))), (9, .int v8), (8, .int v6), (0, va_rf l0), (3, .int l3), (4, .int l4), (7, .int l7)]) hk dX2_worked_154 6 rfl (by decide +kernel) (Nat.le_of_ble_eq_true rfl) rfl ?_
        refine V_aload_n (pc := 157) hk dX2_worked_157 4 rfl ?_
        refine g_X2_39 (pc := 158) hk dX2_worked_158 (fun v56 => ?_)
        refine V_iload (pc := 161) hk dX2_worked_161 0 rfl ?_
        refine V_baload (pc := 163) hk dX2_worked_163 (fun v57 => ?_)
        refine V_if_ne (pc := 164) (tgt := 467) hk dX2_worked_164 rfl ?_ ?_
        · refine V_iinc (pc := 467) (v := 1) (lc' := [(7, .int (l7 + 1)), (6, .int (l6 + (-1))), (5, .int (l5 + (-1))), (9, .int v8), (8, .int v6), (0, va_rf l0), (3, .int l3), (4, .int l4)]) hk dX2_worked_467 7 rfl rfl (Nat.le_of_ble_eq_true rfl) rfl ?_
          refine V_goto (pc := 470) (tgt := 40) hk dX2_worked_470 rfl ?_
          refine V_pick (lc' := [(0, va_rf l0), (3, .int l3), (4, .int l4), (5, .int (l5 + (-1))), (6, .int (l6 + (-1))), (7, .int (l7 + 1))]) [5, 6, 7, 2, 1, 0] rfl ?_
          exact h40 w l0 l3 l4 (l5 + (-1)) (l6 + (-1)) (l7 + 1)
        · refine V_aload_n (pc := 167) hk dX2_worked_167 4 rfl ?_
          refine g_X2_35 (pc := 168) hk dX2_worked_168 (fun v58 => ?_)
          refine V_iload (pc := 171) hk dX2_worked_171 1 rfl ?_
          refine V_iconst (pc := 173) (v := 1) hk dX2_worked_173 rfl ?_
          refine V_isub (pc := 174) hk dX2_worked_174 ?_
          refine V_aload_n (pc := 175) hk dX2_worked_175 4 rfl ?_
          refine g_X2_35 (pc := 176) hk dX2_worked_176 (fun v59 => ?_)
          refine V_iload (pc := 179) hk dX2_worked_179 1 rfl ?_
          refine V_laload (pc := 181) hk dX2_worked_181 (fun v60 => ?_)
          refine V_lastore (pc := 182) hk dX2_worked_182 (fun w61 => ?_)
          refine V_goto (pc := 183) (tgt := 467) hk dX2_worked_183 rfl ?_
          refine V_iinc (pc := 467) (v := 1) (lc' := [(7, .int (l7 + 1)), (6, .int (l6 + (-1))), (5, .int (l5 + (-1))), (9, .int v8), (8, .int v6), (0, va_rf l0), (3, .int l3), (4, .int l4)]) hk dX2_worked_467 7 rfl rfl (Nat.le_of_ble_eq_true rfl) rfl ?_
          refine V_goto (pc := 470) (tgt := 40) hk dX2_worked_470 rfl ?_
          refine V_pick (lc' := [(0, va_rf l0), (3, .int l3), (4, .int l4), (5, .int (l5 + (-1))), (6, .int (l6 + (-1))), (7, .int (l7 + 1))]) [5, 6, 7, 2, 1, 0] rfl ?_
          exact h40 w61 l0 l3 l4 (l5 + (-1)) (l6 + (-1)) (l7 + 1)
    · refine V_aload_n (pc := 89) hk dX2_worked_89 2 rfl ?_
      refine g_X2_35 (pc := 90) hk dX2_worked_90 (fun v62 => ?_)
      refine V_iload (pc := 93) hk dX2_worked_93 5 rfl ?_
      refine V_iload (pc := 95) hk dX2_worked_95 1 rfl ?_
      refine V_if_ne (pc := 97) (tgt := 106) hk dX2_worked_97 rfl ?_ ?_
      · refine V_iload (pc := 106) hk dX2_worked_106 1 rfl ?_
        refine V_iconst (pc := 108) (v := 1) hk dX2_worked_108 rfl ?_
        refine V_icmp_ne (pc := 109) (tgt := 123) hk dX2_worked_109 rfl ?_ ?_
        · refine V_aload_n (pc := 123) hk dX2_worked_123 2 rfl ?_
          refine V_iload (pc := 124) hk dX2_worked_124 0 rfl ?_
          refine V_bipush (pc := 126) (v := 10) hk dX2_worked_126 rfl ?_
          refine V_idiv (pc := 128) hk dX2_worked_128 (fun v63 => ?_)
          refine V_iload (pc := 129) hk dX2_worked_129 0 rfl ?_
          refine V_bipush (pc := 131) (v := 10) hk dX2_worked_131 rfl ?_
          refine V_irem (pc := 133) hk dX2_worked_133 (fun v64 => ?_)
          refine n_X2_272 (pc := 134) hk (fun b r h => ctX2_agoOf (fl y) (fK y) hk.2.2.2.2.2.2.2.1 b v63 v64 w r h) ⟨Nat.le_of_ble_eq_true rfl, Nat.le_of_ble_eq_true rfl⟩ (by simp [rf_cat, cat_int, cat_long, cat_ref]) dX2_worked_134 (fun r65 => ?_)
          refine V_i2l (pc := 137) hk dX2_worked_137 ?_
          refine V_lastore (pc := 138) hk dX2_worked_138 (fun w67 => ?_)
          refine V_iinc (pc := 139) (v := 1) (lc' := [(5, .int (l5 + 1)), (9, .int v8), (8, .int v6), (0, va_rf l0), (3, .int l3), (4, .int l4), (6, .int l6), (7, .int l7)]) hk dX2_worked_139 5 rfl rfl (Nat.le_of_ble_eq_true rfl) rfl ?_
          refine V_goto (pc := 142) (tgt := 467) hk dX2_worked_142 rfl ?_
          refine V_iinc (pc := 467) (v := 1) (lc' := [(7, .int (l7 + 1)), (5, .int (l5 + 1)), (9, .int v8), (8, .int v6), (0, va_rf l0), (3, .int l3), (4, .int l4), (6, .int l6)]) hk dX2_worked_467 7 rfl rfl (Nat.le_of_ble_eq_true rfl) rfl ?_
          refine V_goto (pc := 470) (tgt := 40) hk dX2_worked_470 rfl ?_
          refine V_pick (lc' := [(0, va_rf l0), (3, .int l3), (4, .int l4), (5, .int (l5 + 1)), (6, .int l6), (7, .int (l7 + 1))]) [4, 5, 6, 1, 7, 0] rfl ?_
          exact h40 w67 l0 l3 l4 (l5 + 1) l6 (l7 + 1)
        · refine V_aload_n (pc := 112) hk dX2_worked_112 2 rfl ?_
          refine g_X2_32 (pc := 113) hk dX2_worked_113 (fun v68 => ?_)
          refine V_iload (pc := 116) hk dX2_worked_116 0 rfl ?_
          refine V_iaload (pc := 118) hk dX2_worked_118 (fun v69 => ?_)
          refine V_i2l (pc := 119) hk dX2_worked_119 ?_
          refine V_goto (pc := 120) (tgt := 138) hk dX2_worked_120 rfl ?_
          refine V_lastore (pc := 138) hk dX2_worked_138 (fun w70 => ?_)
          refine V_iinc (pc := 139) (v := 1) (lc' := [(5, .int (l5 + 1)), (9, .int v8), (8, .int v6), (0, va_rf l0), (3, .int l3), (4, .int l4), (6, .int l6), (7, .int l7)]) hk dX2_worked_139 5 rfl rfl (Nat.le_of_ble_eq_true rfl) rfl ?_
          refine V_goto (pc := 142) (tgt := 467) hk dX2_worked_142 rfl ?_
          refine V_iinc (pc := 467) (v := 1) (lc' := [(7, .int (l7 + 1)), (5, .int (l5 + 1)), (9, .int v8), (8, .int v6), (0, va_rf l0), (3, .int l3), (4, .int l4), (6, .int l6)]) hk dX2_worked_467 7 rfl rfl (Nat.le_of_ble_eq_true rfl) rfl ?_
          refine V_goto (pc := 470) (tgt := 40) hk dX2_worked_470 rfl ?_
          refine V_pick (lc' := [(0, va_rf l0), (3, .int l3), (4, .int l4), (5, .int (l5 + 1)), (6, .int l6), (7, .int (l7 + 1))]) [4, 5, 6, 1, 7, 0] rfl ?_
          exact h40 w70 l0 l3 l4 (l5 + 1) l6 (l7 + 1)
      · refine V_iload (pc := 100) hk dX2_worked_100 0 rfl ?_
        refine V_i2l (pc := 102) hk dX2_worked_102 ?_
        refine V_goto (pc := 103) (tgt := 138) hk dX2_worked_103 rfl ?_
        refine V_lastore (pc := 138) hk dX2_worked_138 (fun w71 => ?_)
        refine V_iinc (pc := 139) (v := 1) (lc' := [(5, .int (l5 + 1)), (9, .int v8), (8, .int v6), (0, va_rf l0), (3, .int l3), (4, .int l4), (6, .int l6), (7, .int l7)]) hk dX2_worked_139 5 rfl rfl (Nat.le_of_ble_eq_true rfl) rfl ?_
        refine V_goto (pc := 142) (tgt := 467) hk dX2_worked_142 rfl ?_
        refine V_iinc (pc := 467) (v := 1) (lc' := [(7, .int (l7 + 1)), (5, .int (l5 + 1)), (9, .int v8), (8, .int v6), (0, va_rf l0), (3, .int l3), (4, .int l4), (6, .int l6)]) hk dX2_worked_467 7 rfl rfl (Nat.le_of_ble_eq_true rfl) rfl ?_
        refine V_goto (pc := 470) (tgt := 40) hk dX2_worked_470 rfl ?_
        refine V_pick (lc' := [(0, va_rf l0), (3, .int l3), (4, .int l4), (5, .int (l5 + 1)), (6, .int l6), (7, .int (l7 + 1))]) [4, 5, 6, 1, 7, 0] rfl ?_
        exact h40 w71 l0 l3 l4 (l5 + 1) l6 (l7 + 1)
theorem eX2_worked_l40 {y : Fx (Int32 × Wd)} (hk : OkF y RX2 cX2_worked 10 4 105) (hR : RetM y rvI (some (.int))) : ∀ (n : Nat) (w : Wd) (l0 : Option Nat) (l3 : Int32) (l4 : Int32) (l5 : Int32) (l6 : Int32) (l7 : Int32), V y w [(0, va_rf l0), (3, .int l3), (4, .int l4), (5, .int l5), (6, .int l6), (7, .int l7)] [] 40 (mX2_worked_l40 n w l0 l3 l4 l5 l6 l7) := by
  intro n
  induction n with
  | zero => intro w l0 l3 l4 l5 l6 l7; exact V_none
  | succ n ih => intro w l0 l3 l4 l5 l6 l7; exact eX2_worked_b40 hk hR ih w l0 l3 l4 l5 l6 l7
theorem eX2_worked {y : Fx (Int32 × Wd)} (hk : OkF y RX2 cX2_worked 10 4 105) (hR : RetM y rvI (some (.int))) (this : Nat) (a0 : Int32) (a1 : Int32) (w : Wd) : V y w [(0, va_rf (some this)), (1, .int a0), (2, .int a1)] [] 0 (mX2_worked this a0 a1 w) := by
  unfold mX2_worked
  refine V_sipush (pc := 0) (v := 753) hk dX2_worked_0 rfl ?_
  refine V_iload_n (pc := 3) hk dX2_worked_3 1 rfl ?_
  refine V_imul (pc := 4) hk dX2_worked_4 ?_
  refine V_iconst (pc := 5) (v := 1) hk dX2_worked_5 rfl ?_
  refine V_iadd (pc := 6) hk dX2_worked_6 ?_
  refine V_bipush (pc := 7) (v := 6) hk dX2_worked_7 rfl ?_
  refine V_iload_n (pc := 9) hk dX2_worked_9 2 rfl ?_
  refine V_imul (pc := 10) hk dX2_worked_10 ?_
  refine V_iadd (pc := 11) hk dX2_worked_11 ?_
  refine V_nmI (fun x1 => ?_)
  refine V_istore_n (pc := 12) (lc' := [(3, .int x1), (0, va_rf ((some this))), (1, .int a0), (2, .int a1)]) (i := 3) hk dX2_worked_12 rfl (Nat.le_of_ble_eq_true rfl) rfl ?_
  refine V_sipush (pc := 13) (v := 753) hk dX2_worked_13 rfl ?_
  refine V_iload_n (pc := 16) hk dX2_worked_16 2 rfl ?_
  refine V_imul (pc := 17) hk dX2_worked_17 ?_
  refine V_sipush (pc := 18) (v := 145) hk dX2_worked_18 rfl ?_
  refine V_iadd (pc := 21) hk dX2_worked_21 ?_
  refine V_istore (pc := 22) (lc' := [(4, .int ((753 * a0) + 145)), (3, .int x1), (0, va_rf ((some this))), (1, .int a0), (2, .int a1)]) (i := 4) hk dX2_worked_22 (Nat.le_of_ble_eq_true rfl) rfl ?_
  refine V_iconst (pc := 24) (v := 0) hk dX2_worked_24 rfl ?_
  refine V_istore (pc := 25) (lc' := [(5, .int 0), (4, .int ((753 * a0) + 145)), (3, .int x1), (0, va_rf ((some this))), (1, .int a0), (2, .int a1)]) (i := 5) hk dX2_worked_25 (Nat.le_of_ble_eq_true rfl) rfl ?_
  refine V_iconst (pc := 27) (v := 0) hk dX2_worked_27 rfl ?_
  refine V_istore (pc := 28) (lc' := [(6, .int 0), (5, .int 0), (4, .int ((753 * a0) + 145)), (3, .int x1), (0, va_rf ((some this))), (1, .int a0), (2, .int a1)]) (i := 6) hk dX2_worked_28 (Nat.le_of_ble_eq_true rfl) rfl ?_
  refine V_aload_n (pc := 30) hk dX2_worked_30 4 rfl ?_
  refine g_X2_16 (pc := 31) hk dX2_worked_31 (fun v2 => ?_)
  refine V_iload_n (pc := 34) hk dX2_worked_34 3 rfl ?_
  refine V_iconst (pc := 35) (v := 1) hk dX2_worked_35 rfl ?_
  refine V_iadd (pc := 36) hk dX2_worked_36 ?_
  refine V_iaload (pc := 37) hk dX2_worked_37 (fun v3 => ?_)
  refine V_istore (pc := 38) (lc' := [(7, .int v3), (6, .int 0), (5, .int 0), (4, .int ((753 * a0) + 145)), (3, .int x1), (0, va_rf ((some this))), (1, .int a0), (2, .int a1)]) (i := 7) hk dX2_worked_38 (Nat.le_of_ble_eq_true rfl) rfl ?_
  refine V_pick (lc' := [(0, va_rf ((some this))), (3, .int x1), (4, .int ((753 * a0) + 145)), (5, .int 0), (6, .int 0), (7, .int v3)]) [5, 4, 3, 2, 1, 0] rfl ?_
  exact eX2_worked_l40 hk hR FU w ((some this)) x1 ((753 * a0) + 145) 0 0 v3
theorem ctX2_worked (l : Launch) (K : Kx) (hI : Ini K) (b : Nat) (a0 : Int32) (a1 : Int32) (w : Wd) : ∀ r, mX2_worked b a0 a1 w = some r → Ct l K 4 105 yX2_worked (ws_ yX2_worked cX2_worked 10 (some (.int))) [.ref b, .int a0, .int a1] w (rvI r.1) r.2 := Ct_of rvI l K hI 4 105 [.ref b, .int a0, .int a1] w (by decide) (lc0 := [(0, .ref b), (1, .int a0), (2, .int a1)]) rfl (Nat.le_of_ble_eq_true rfl) (fun y hk hR _ _ hin => eX2_worked hk hR b a0 a1 w)
noncomputable def mX2_cut (a0 : Int32) (a1 : Int32) (a2 : Int32) (w : Wd) : Option (Int32 × Wd) :=
if a1 ≤ a0 then (
if a0 ≤ a2 then (
some (a0, w))
else (
some (a2, w)))
else (
some (a1, w))
theorem eX2_cut {y : Fx (Int32 × Wd)} (hk : OkF y RX2 cX2_cut 3 2 60) (hR : RetM y rvI (some (.int))) (a0 : Int32) (a1 : Int32) (a2 : Int32) (w : Wd) : V y w [(0, .int a0), (1, .int a1), (2, .int a2)] [] 0 (mX2_cut a0 a1 a2 w) := by
  unfold mX2_cut
  refine V_iload_n (pc := 0) hk dX2_cut_0 0 rfl ?_
  refine V_iload_n (pc := 1) hk dX2_cut_1 1 rfl ?_
  refine V_icmp_ge (pc := 2) (tgt := 9) hk dX2_cut_2 rfl ?_ ?_
  · refine V_iload_n (pc := 9) hk dX2_cut_9 0 rfl ?_
    refine V_iload_n (pc := 10) hk dX2_cut_10 2 rfl ?_
    refine V_icmp_le (pc := 11) (tgt := 18) hk dX2_cut_11 rfl ?_ ?_
    · refine V_iload_n (pc := 18) hk dX2_cut_18 0 rfl ?_
      exact V_ireturn (pc := 19) hk hR rfl dX2_cut_19
    · refine V_iload_n (pc := 14) hk dX2_cut_14 2 rfl ?_
      refine V_goto (pc := 15) (tgt := 19) hk dX2_cut_15 rfl ?_
      exact V_ireturn (pc := 19) hk hR rfl dX2_cut_19
  · refine V_iload_n (pc := 5) hk dX2_cut_5 1 rfl ?_
    refine V_goto (pc := 6) (tgt := 19) hk dX2_cut_6 rfl ?_
    exact V_ireturn (pc := 19) hk hR rfl dX2_cut_19
theorem ctX2_cut (l : Launch) (K : Kx) (hI : Ini K) (a0 : Int32) (a1 : Int32) (a2 : Int32) (w : Wd) : ∀ r, mX2_cut a0 a1 a2 w = some r → Ct l K 2 60 yX2_cut (ws_ yX2_cut cX2_cut 3 (some (.int))) [.int a0, .int a1, .int a2] w (rvI r.1) r.2 := Ct_of rvI l K hI 2 60 [.int a0, .int a1, .int a2] w (by decide) (lc0 := [(0, .int a0), (1, .int a1), (2, .int a2)]) rfl (Nat.le_of_ble_eq_true rfl) (fun y hk hR _ _ hin => eX2_cut hk hR a0 a1 a2 w)
noncomputable def mX2_says (this : Nat) (a0 : Int32) (a1 : Int32) (a2 : Int32) (a3 : Int32) (w : Wd) : Option (Int32 × Wd) :=
(gR w ((some this)) 2 0).bind fun v1 =>
(ia w v1 4).bind fun v2 =>
(recv w ((some this)) 2).bind fun b4 => (cal w (mX2_clauseOf b4 v2 a0 w)).bind fun r3 =>
if 0 ≤ r3.1 then (
(gR r3.2 ((some this)) 2 0).bind fun v5 =>
(ia r3.2 v5 4).bind fun v6 =>
(recv r3.2 ((some this)) 2).bind fun b8 => (cal r3.2 (mX2_worked b8 v6 r3.1 r3.2)).bind fun r7 =>
(cal r7.2 (mX2_cut r7.1 a2 a3 r7.2)).bind fun r9 =>
some (r9.1, r9.2))
else (
some (a1, r3.2))
theorem eX2_says {y : Fx (Int32 × Wd)} (hk : OkF y RX2 cX2_says 6 5 134) (hR : RetM y rvI (some (.int))) (this : Nat) (a0 : Int32) (a1 : Int32) (a2 : Int32) (a3 : Int32) (w : Wd) : V y w [(0, va_rf (some this)), (1, .int a0), (2, .int a1), (3, .int a2), (4, .int a3)] [] 0 (mX2_says this a0 a1 a2 a3 w) := by
  unfold mX2_says
  refine V_aload_n (pc := 0) hk dX2_says_0 0 rfl ?_
  refine V_aload_n (pc := 1) hk dX2_says_1 0 rfl ?_
  refine g_X2_7 (pc := 2) hk dX2_says_2 (fun v1 => ?_)
  refine V_iconst (pc := 5) (v := 4) hk dX2_says_5 rfl ?_
  refine V_iaload (pc := 6) hk dX2_says_6 (fun v2 => ?_)
  refine V_iload_n (pc := 7) hk dX2_says_7 1 rfl ?_
  refine n_X2_283 (pc := 8) hk (fun b r h => ctX2_clauseOf (fl y) (fK y) hk.2.2.2.2.2.2.2.1 b v2 a0 w r h) ⟨Nat.le_of_ble_eq_true rfl, Nat.le_of_ble_eq_true rfl⟩ (Nat.le_of_ble_eq_true rfl) dX2_says_8 (fun r3 => ?_)
  refine V_istore (pc := 11) (lc' := [(5, .int r3.1), (0, va_rf ((some this))), (1, .int a0), (2, .int a1), (3, .int a2), (4, .int a3)]) (i := 5) hk dX2_says_11 (Nat.le_of_ble_eq_true rfl) rfl ?_
  refine V_iload (pc := 13) hk dX2_says_13 0 rfl ?_
  refine V_if_ge (pc := 15) (tgt := 22) hk dX2_says_15 rfl ?_ ?_
  · refine V_aload_n (pc := 22) hk dX2_says_22 1 rfl ?_
    refine V_aload_n (pc := 23) hk dX2_says_23 1 rfl ?_
    refine g_X2_7 (pc := 24) hk dX2_says_24 (fun v5 => ?_)
    refine V_iconst (pc := 27) (v := 4) hk dX2_says_27 rfl ?_
    refine V_iaload (pc := 28) hk dX2_says_28 (fun v6 => ?_)
    refine V_iload (pc := 29) hk dX2_says_29 0 rfl ?_
    refine n_X2_286 (pc := 31) hk (fun b r h => ctX2_worked (fl y) (fK y) hk.2.2.2.2.2.2.2.1 b v6 r3.1 r3.2 r h) ⟨Nat.le_of_ble_eq_true rfl, Nat.le_of_ble_eq_true rfl⟩ (Nat.le_of_ble_eq_true rfl) dX2_says_31 (fun r7 => ?_)
    refine V_iload_n (pc := 34) hk dX2_says_34 4 rfl ?_
    refine V_iload (pc := 35) hk dX2_says_35 5 rfl ?_
    refine n_X2_289 (pc := 37) hk (fun r h => ctX2_cut (fl y) (fK y) hk.2.2.2.2.2.2.2.1 r7.1 a2 a3 r7.2 r h) ⟨Nat.le_of_ble_eq_true rfl, Nat.le_of_ble_eq_true rfl⟩ (Nat.le_of_ble_eq_true rfl) dX2_says_37 (fun r9 => ?_)
    exact V_ireturn (pc := 40) hk hR rfl dX2_says_40
  · refine V_iload_n (pc := 18) hk dX2_says_18 3 rfl ?_
    refine V_goto (pc := 19) (tgt := 40) hk dX2_says_19 rfl ?_
    exact V_ireturn (pc := 40) hk hR rfl dX2_says_40
theorem ctX2_says (l : Launch) (K : Kx) (hI : Ini K) (b : Nat) (a0 : Int32) (a1 : Int32) (a2 : Int32) (a3 : Int32) (w : Wd) : ∀ r, mX2_says b a0 a1 a2 a3 w = some r → Ct l K 5 134 yX2_says (ws_ yX2_says cX2_says 6 (some (.int))) [.ref b, .int a0, .int a1, .int a2, .int a3] w (rvI r.1) r.2 := Ct_of rvI l K hI 5 134 [.ref b, .int a0, .int a1, .int a2, .int a3] w (by decide) (lc0 := [(0, .ref b), (1, .int a0), (2, .int a1), (3, .int a2), (4, .int a3)]) rfl (Nat.le_of_ble_eq_true rfl) (fun y hk hR _ _ hin => eX2_says hk hR b a0 a1 a2 a3 w)
noncomputable def mX2_anew (this : Nat) (w : Wd) : Option (Unit × Wd) :=
(gR w ((some this)) 2 0).bind fun v1 =>
(gR w ((some this)) 2 0).bind fun v2 =>
(ia w v2 2).bind fun v3 =>
(lrm ((((v3 : Int32).toInt64) * 263) + 157) 30253).bind fun v4 =>
(ias w v1 2 ((v4 : Int64).toInt32)).bind fun w5 =>
some ((), w5)
theorem eX2_anew {y : Fx (Unit × Wd)} (hk : OkF y RX2 cX2_anew 1 2 60) (hR : RetM y rvV none) (this : Nat) (w : Wd) : V y w [(0, va_rf (some this))] [] 0 (mX2_anew this w) := by
  unfold mX2_anew
  refine V_aload_n (pc := 0) hk dX2_anew_0 0 rfl ?_
  refine g_X2_7 (pc := 1) hk dX2_anew_1 (fun v1 => ?_)
  refine V_iconst (pc := 4) (v := 2) hk dX2_anew_4 rfl ?_
  refine V_aload_n (pc := 5) hk dX2_anew_5 0 rfl ?_
  refine g_X2_7 (pc := 6) hk dX2_anew_6 (fun v2 => ?_)
  refine V_iconst (pc := 9) (v := 2) hk dX2_anew_9 rfl ?_
  refine V_iaload (pc := 10) hk dX2_anew_10 (fun v3 => ?_)
  refine V_i2l (pc := 11) hk dX2_anew_11 ?_
  refine V_ldc2 (pc := 12) (v := 263) hk dX2_anew_12 q1724 ?_
  refine V_lmul (pc := 15) hk dX2_anew_15 ?_
  refine V_ldc2 (pc := 16) (v := 157) hk dX2_anew_16 q1725 ?_
  refine V_ladd (pc := 19) hk dX2_anew_19 ?_
  refine V_ldc2 (pc := 20) (v := 30253) hk dX2_anew_20 q1726 ?_
  refine V_lrem (pc := 23) hk dX2_anew_23 (fun v4 => ?_)
  refine V_l2i (pc := 24) hk dX2_anew_24 ?_
  refine V_iastore (pc := 25) hk dX2_anew_25 (fun w5 => ?_)
  exact V_return (pc := 26) hk hR rfl dX2_anew_26
theorem ctX2_anew (l : Launch) (K : Kx) (hI : Ini K) (b : Nat) (w : Wd) : ∀ r, mX2_anew b w = some r → Ct l K 2 60 yX2_anew (ws_ yX2_anew cX2_anew 1 none) [.ref b] w (rvV r.1) r.2 := Ct_of rvV l K hI 2 60 [.ref b] w (by decide) (lc0 := [(0, .ref b)]) rfl (Nat.le_of_ble_eq_true rfl) (fun y hk hR _ _ hin => eX2_anew hk hR b w)
noncomputable def mX2_drawn (this : Nat) (a0 : Int32) (w : Wd) : Option (Int32 × Wd) :=
(gR w ((some this)) 2 0).bind fun v1 =>
(ia w v1 2).bind fun v2 =>
(irm v2 a0).bind fun v3 =>
(recv w ((some this)) 2).bind fun b5 => (cal w (mX2_anew b5 w)).bind fun r4 =>
some (v3, r4.2)
theorem eX2_drawn {y : Fx (Int32 × Wd)} (hk : OkF y RX2 cX2_drawn 3 3 80) (hR : RetM y rvI (some (.int))) (this : Nat) (a0 : Int32) (w : Wd) : V y w [(0, va_rf (some this)), (1, .int a0)] [] 0 (mX2_drawn this a0 w) := by
  unfold mX2_drawn
  refine V_aload_n (pc := 0) hk dX2_drawn_0 0 rfl ?_
  refine g_X2_7 (pc := 1) hk dX2_drawn_1 (fun v1 => ?_)
  refine V_iconst (pc := 4) (v := 2) hk dX2_drawn_4 rfl ?_
  refine V_iaload (pc := 5) hk dX2_drawn_5 (fun v2 => ?_)
  refine V_iload_n (pc := 6) hk dX2_drawn_6 1 rfl ?_
  refine V_irem (pc := 7) hk dX2_drawn_7 (fun v3 => ?_)
  refine V_istore_n (pc := 8) (lc' := [(2, .int v3), (0, va_rf ((some this))), (1, .int a0)]) (i := 2) hk dX2_drawn_8 rfl (Nat.le_of_ble_eq_true rfl) rfl ?_
  refine V_aload_n (pc := 9) hk dX2_drawn_9 1 rfl ?_
  refine n_X2_302 (pc := 10) hk (fun b r h => ctX2_anew (fl y) (fK y) hk.2.2.2.2.2.2.2.1 b w r h) ⟨Nat.le_of_ble_eq_true rfl, Nat.le_of_ble_eq_true rfl⟩ (Nat.le_of_ble_eq_true rfl) dX2_drawn_10 (fun r4 => ?_)
  refine V_iload_n (pc := 13) hk dX2_drawn_13 0 rfl ?_
  exact V_ireturn (pc := 14) hk hR rfl dX2_drawn_14
theorem ctX2_drawn (l : Launch) (K : Kx) (hI : Ini K) (b : Nat) (a0 : Int32) (w : Wd) : ∀ r, mX2_drawn b a0 w = some r → Ct l K 3 80 yX2_drawn (ws_ yX2_drawn cX2_drawn 3 (some (.int))) [.ref b, .int a0] w (rvI r.1) r.2 := Ct_of rvI l K hI 3 80 [.ref b, .int a0] w (by decide) (lc0 := [(0, .ref b), (1, .int a0)]) rfl (Nat.le_of_ble_eq_true rfl) (fun y hk hR _ _ hin => eX2_drawn hk hR b a0 w)
noncomputable def mX2_pass_p255 (w : Wd) (l0 : Option Nat) (t0 : Int32) (t1 : Int32) (t2 : Option Nat) : Option (Unit × Wd) :=
(ias w t2 t1 t0).bind fun w1 =>
(gR w1 l0 2 0).bind fun v2 =>
(ia w1 v2 16).bind fun v3 =>
(ias w1 v2 16 (v3 + 1)).bind fun w4 =>
some ((), w4)
noncomputable def mX2_pass_p110 (w : Wd) (l0 : Option Nat) : Option (Unit × Wd) :=
(recv w l0 2).bind fun b2 => (cal w (mX2_nameNow b2 w)).bind fun r1 =>
(gR r1.2 l0 2 0).bind fun v3 =>
(gR r1.2 l0 2 0).bind fun v4 =>
(ia r1.2 v4 11).bind fun v5 =>
(recv r1.2 l0 2).bind fun b7 => (cal r1.2 (mX2_away b7 r1.2)).bind fun r6 =>
(gR r6.2 l0 2 0).bind fun v8 =>
(ia r6.2 v8 12).bind fun v9 =>
(idv r6.1 v9).bind fun v10 =>
(cal r6.2 (mX2_cut v10 (-99) 99 r6.2)).bind fun r11 =>
(recv r11.2 l0 2).bind fun b13 => (cal r11.2 (mX2_says b13 1 r11.1 (-99) 99 r11.2)).bind fun r12 =>
(cal r12.2 (mX2_cut (v5 + r12.1) (-99) 99 r12.2)).bind fun r14 =>
(ias r14.2 v3 11 r14.1).bind fun w15 =>
(gR w15 l0 2 0).bind fun v16 =>
(gR w15 l0 2 0).bind fun v17 =>
(ia w15 v17 10).bind fun v18 =>
(gR w15 l0 2 0).bind fun v19 =>
(ia w15 v19 11).bind fun v20 =>
(cal w15 (mX2_cut (v18 + v20) (-9999) 9999 w15)).bind fun r21 =>
(ias r21.2 v16 10 r21.1).bind fun w22 =>
(gI w22 l0 2 25).bind fun v23 =>
if ¬ v23 = 0 then (
(gR w22 l0 2 0).bind fun v24 =>
(ia w22 v24 16).bind fun v25 =>
(ias w22 v24 16 (v25 + 1)).bind fun w26 =>
some ((), w26))
else (
(gR w22 l0 2 0).bind fun v27 =>
(gR w22 l0 2 0).bind fun v28 =>
(ia w22 v28 16).bind fun v29 =>
(irm (v29 + 1) 40).bind fun v30 =>
if ¬ v30 = 0 then (
(gR w22 l0 2 0).bind fun v31 =>
(ia w22 v31 14).bind fun v32 =>
if v32 ≤ 0 then (
mX2_pass_p255 w22 l0 0 14 v27)
else (
(gR w22 l0 2 0).bind fun v33 =>
(ia w22 v33 14).bind fun v34 =>
mX2_pass_p255 w22 l0 (v34 - 1) 14 v27))
else (
(recv w22 l0 2).bind fun b36 => (cal w22 (mX2_drawn b36 10 w22)).bind fun r35 =>
mX2_pass_p255 r35.2 l0 r35.1 14 v27))
noncomputable def mX2_pass_p81 (w : Wd) (l0 : Option Nat) : Option (Unit × Wd) :=
(gR w l0 2 0).bind fun v1 =>
(gR w l0 2 0).bind fun v2 =>
(ia w v2 8).bind fun v3 =>
(cal w (mX2_cut v3 0 600 w)).bind fun r4 =>
(ias r4.2 v1 8 r4.1).bind fun w5 =>
(gR w5 l0 2 0).bind fun v6 =>
(ias w5 v6 9 0).bind fun w7 =>
mX2_pass_p110 w7 l0
noncomputable def mX2_pass (this : Nat) (a0 : Int32) (w : Wd) : Option (Unit × Wd) :=
(recv w ((some this)) 2).bind fun b2 => (cal w (mX2_layPast b2 a0 w)).bind fun r1 =>
(recv r1.2 ((some this)) 2).bind fun b4 => (cal r1.2 (mX2_nameNow b4 r1.2)).bind fun r3 =>
(recv r3.2 ((some this)) 2).bind fun b6 => (cal r3.2 (mX2_says b6 0 3 0 9 r3.2)).bind fun r5 =>
(gR r5.2 ((some this)) 2 0).bind fun v7 =>
(gR r5.2 ((some this)) 2 0).bind fun v8 =>
(ia r5.2 v8 9).bind fun v9 =>
(cal r5.2 (mX2_cut (v9 + a0) (-r5.1) r5.1 r5.2)).bind fun r10 =>
(ias r10.2 v7 9 r10.1).bind fun w11 =>
(gR w11 ((some this)) 2 0).bind fun v12 =>
(ia w11 v12 8).bind fun v13 =>
(gR w11 ((some this)) 2 0).bind fun v14 =>
(ia w11 v14 9).bind fun v15 =>
(ias w11 v12 8 (v13 + v15)).bind fun w16 =>
(gR w16 ((some this)) 2 0).bind fun v17 =>
(ia w16 v17 8).bind fun v18 =>
if v18 < 0 then (
mX2_pass_p81 w16 ((some this)))
else (
(gR w16 ((some this)) 2 0).bind fun v19 =>
(ia w16 v19 8).bind fun v20 =>
if v20 ≤ 600 then (
mX2_pass_p110 w16 ((some this)))
else (
mX2_pass_p81 w16 ((some this))))
theorem eX2_pass_p255 {y : Fx (Unit × Wd)} (hk : OkF y RX2 cX2_pass 3 6 159) (hR : RetM y rvV none) (w : Wd) (l0 : Option Nat) (t0 : Int32) (t1 : Int32) (t2 : Option Nat) : V y w [(0, va_rf l0)] [.int t0, .int t1, va_rf t2] 255 (mX2_pass_p255 w l0 t0 t1 t2) := by
  unfold mX2_pass_p255
  refine V_iastore (pc := 255) hk dX2_pass_255 (fun w1 => ?_)
  refine V_aload_n (pc := 256) hk dX2_pass_256 0 rfl ?_
  refine g_X2_7 (pc := 257) hk dX2_pass_257 (fun v2 => ?_)
  refine V_bipush (pc := 260) (v := 16) hk dX2_pass_260 rfl ?_
  refine V_dup2 (pc := 262) hk dX2_pass_262 rfl (rf_cat _) ?_
  refine V_iaload (pc := 263) hk dX2_pass_263 (fun v3 => ?_)
  refine V_iconst (pc := 264) (v := 1) hk dX2_pass_264 rfl ?_
  refine V_iadd (pc := 265) hk dX2_pass_265 ?_
  refine V_iastore (pc := 266) hk dX2_pass_266 (fun w4 => ?_)
  exact V_return (pc := 267) hk hR rfl dX2_pass_267
theorem eX2_pass_p110 {y : Fx (Unit × Wd)} (hk : OkF y RX2 cX2_pass 3 6 159) (hR : RetM y rvV none) (w : Wd) (l0 : Option Nat) : V y w [(0, va_rf l0)] [] 110 (mX2_pass_p110 w l0) := by
  unfold mX2_pass_p110
  refine V_aload_n (pc := 110) hk dX2_pass_110 0 rfl ?_
  refine n_X2_314 (pc := 111) hk (fun b r h => ctX2_nameNow (fl y) (fK y) hk.2.2.2.2.2.2.2.1 b w r h) ⟨Nat.le_of_ble_eq_true rfl, Nat.le_of_ble_eq_true rfl⟩ (Nat.le_of_ble_eq_true rfl) dX2_pass_111 (fun r1 => ?_)
  refine V_aload_n (pc := 114) hk dX2_pass_114 0 rfl ?_
  refine g_X2_7 (pc := 115) hk dX2_pass_115 (fun v3 => ?_)
  refine V_bipush (pc := 118) (v := 11) hk dX2_pass_118 rfl ?_
  refine V_aload_n (pc := 120) hk dX2_pass_120 0 rfl ?_
  refine g_X2_7 (pc := 121) hk dX2_pass_121 (fun v4 => ?_)
  refine V_bipush (pc := 124) (v := 11) hk dX2_pass_124 rfl ?_
  refine V_iaload (pc := 126) hk dX2_pass_126 (fun v5 => ?_)
  refine V_aload_n (pc := 127) hk dX2_pass_127 0 rfl ?_
  refine V_iconst (pc := 128) (v := 1) hk dX2_pass_128 rfl ?_
  refine V_aload_n (pc := 129) hk dX2_pass_129 0 rfl ?_
  refine n_X2_292 (pc := 130) hk (fun b r h => ctX2_away (fl y) (fK y) hk.2.2.2.2.2.2.2.1 b r1.2 r h) ⟨Nat.le_of_ble_eq_true rfl, Nat.le_of_ble_eq_true rfl⟩ (by simp [rf_cat, cat_int, cat_long, cat_ref]) dX2_pass_130 (fun r6 => ?_)
  refine V_aload_n (pc := 133) hk dX2_pass_133 0 rfl ?_
  refine g_X2_7 (pc := 134) hk dX2_pass_134 (fun v8 => ?_)
  refine V_bipush (pc := 137) (v := 12) hk dX2_pass_137 rfl ?_
  refine V_iaload (pc := 139) hk dX2_pass_139 (fun v9 => ?_)
  refine V_idiv (pc := 140) hk dX2_pass_140 (fun v10 => ?_)
  refine V_bipush (pc := 141) (v := (-99)) hk dX2_pass_141 (by decide +kernel) ?_
  refine V_bipush (pc := 143) (v := 99) hk dX2_pass_143 rfl ?_
  refine n_X2_289 (pc := 145) hk (fun r h => ctX2_cut (fl y) (fK y) hk.2.2.2.2.2.2.2.1 v10 (-99) 99 r6.2 r h) ⟨Nat.le_of_ble_eq_true rfl, Nat.le_of_ble_eq_true rfl⟩ (by simp [rf_cat, cat_int, cat_long, cat_ref]) dX2_pass_145 (fun r11 => ?_)
  refine V_bipush (pc := 148) (v := (-99)) hk dX2_pass_148 (by decide +kernel) ?_
  refine V_bipush (pc := 150) (v := 99) hk dX2_pass_150 rfl ?_
  refine n_X2_298 (pc := 152) hk (fun b r h => ctX2_says (fl y) (fK y) hk.2.2.2.2.2.2.2.1 b 1 r11.1 (-99) 99 r11.2 r h) ⟨Nat.le_of_ble_eq_true rfl, Nat.le_of_ble_eq_true rfl⟩ (by simp [rf_cat, cat_int, cat_long, cat_ref]) dX2_pass_152 (fun r12 => ?_)
  refine V_iadd (pc := 155) hk dX2_pass_155 ?_
  refine V_bipush (pc := 156) (v := (-99)) hk dX2_pass_156 (by decide +kernel) ?_
  refine V_bipush (pc := 158) (v := 99) hk dX2_pass_158 rfl ?_
  refine n_X2_289 (pc := 160) hk (fun r h => ctX2_cut (fl y) (fK y) hk.2.2.2.2.2.2.2.1 (v5 + r12.1) (-99) 99 r12.2 r h) ⟨Nat.le_of_ble_eq_true rfl, Nat.le_of_ble_eq_true rfl⟩ (by simp [rf_cat, cat_int, cat_long, cat_ref]) dX2_pass_160 (fun r14 => ?_)
  refine V_iastore (pc := 163) hk dX2_pass_163 (fun w15 => ?_)
  refine V_aload_n (pc := 164) hk dX2_pass_164 0 rfl ?_
  refine g_X2_7 (pc := 165) hk dX2_pass_165 (fun v16 => ?_)
  refine V_bipush (pc := 168) (v := 10) hk dX2_pass_168 rfl ?_
  refine V_aload_n (pc := 170) hk dX2_pass_170 0 rfl ?_
  refine g_X2_7 (pc := 171) hk dX2_pass_171 (fun v17 => ?_)
  refine V_bipush (pc := 174) (v := 10) hk dX2_pass_174 rfl ?_
  refine V_iaload (pc := 176) hk dX2_pass_176 (fun v18 => ?_)
  refine V_aload_n (pc := 177) hk dX2_pass_177 0 rfl ?_
  refine g_X2_7 (pc := 178) hk dX2_pass_178 (fun v19 => ?_)
  refine V_bipush (pc := 181) (v := 11) hk dX2_pass_181 rfl ?_
  refine V_iaload (pc := 183) hk dX2_pass_183 (fun v20 => ?_)
  refine V_iadd (pc := 184) hk dX2_pass_184 ?_
  refine V_sipush (pc := 185) (v := (-9999)) hk dX2_pass_185 (by decide +kernel) ?_
  refine V_sipush (pc := 188) (v := 9999) hk dX2_pass_188 rfl ?_
  refine n_X2_289 (pc := 191) hk (fun r h => ctX2_cut (fl y) (fK y) hk.2.2.2.2.2.2.2.1 (v18 + v20) (-9999) 9999 w15 r h) ⟨Nat.le_of_ble_eq_true rfl, Nat.le_of_ble_eq_true rfl⟩ (by simp [rf_cat, cat_int, cat_long, cat_ref]) dX2_pass_191 (fun r21 => ?_)
  refine V_iastore (pc := 194) hk dX2_pass_194 (fun w22 => ?_)
  refine V_aload_n (pc := 195) hk dX2_pass_195 0 rfl ?_
  refine g_X2_317 (pc := 196) hk dX2_pass_196 (fun v23 => ?_)
  refine V_if_ne (pc := 199) (tgt := 256) hk dX2_pass_199 rfl ?_ ?_
  · refine V_aload_n (pc := 256) hk dX2_pass_256 0 rfl ?_
    refine g_X2_7 (pc := 257) hk dX2_pass_257 (fun v24 => ?_)
    refine V_bipush (pc := 260) (v := 16) hk dX2_pass_260 rfl ?_
    refine V_dup2 (pc := 262) hk dX2_pass_262 rfl (rf_cat _) ?_
    refine V_iaload (pc := 263) hk dX2_pass_263 (fun v25 => ?_)
    refine V_iconst (pc := 264) (v := 1) hk dX2_pass_264 rfl ?_
    refine V_iadd (pc := 265) hk dX2_pass_265 ?_
    refine V_iastore (pc := 266) hk dX2_pass_266 (fun w26 => ?_)
    exact V_return (pc := 267) hk hR rfl dX2_pass_267
  · refine V_aload_n (pc := 202) hk dX2_pass_202 0 rfl ?_
    refine g_X2_7 (pc := 203) hk dX2_pass_203 (fun v27 => ?_)
    refine V_bipush (pc := 206) (v := 14) hk dX2_pass_206 rfl ?_
    refine V_aload_n (pc := 208) hk dX2_pass_208 0 rfl ?_
    refine g_X2_7 (pc := 209) hk dX2_pass_209 (fun v28 => ?_)
    refine V_bipush (pc := 212) (v := 16) hk dX2_pass_212 rfl ?_
    refine V_iaload (pc := 214) hk dX2_pass_214 (fun v29 => ?_)
    refine V_iconst (pc := 215) (v := 1) hk dX2_pass_215 rfl ?_
    refine V_iadd (pc := 216) hk dX2_pass_216 ?_
    refine V_bipush (pc := 217) (v := 40) hk dX2_pass_217 rfl ?_
    refine V_irem (pc := 219) hk dX2_pass_219 (fun v30 => ?_)
    refine V_if_ne (pc := 220) (tgt := 232) hk dX2_pass_220 rfl ?_ ?_
    · refine V_aload_n (pc := 232) hk dX2_pass_232 0 rfl ?_
      refine g_X2_7 (pc := 233) hk dX2_pass_233 (fun v31 => ?_)
      refine V_bipush (pc := 236) (v := 14) hk dX2_pass_236 rfl ?_
      refine V_iaload (pc := 238) hk dX2_pass_238 (fun v32 => ?_)
      refine V_if_le (pc := 239) (tgt := 254) hk dX2_pass_239 rfl ?_ ?_
      · refine V_iconst (pc := 254) (v := 0) hk dX2_pass_254 rfl ?_
        exact eX2_pass_p255 hk hR w22 l0 0 14 v27
      · refine V_aload_n (pc := 242) hk dX2_pass_242 0 rfl ?_
        refine g_X2_7 (pc := 243) hk dX2_pass_243 (fun v33 => ?_)
        refine V_bipush (pc := 246) (v := 14) hk dX2_pass_246 rfl ?_
        refine V_iaload (pc := 248) hk dX2_pass_248 (fun v34 => ?_)
        refine V_iconst (pc := 249) (v := 1) hk dX2_pass_249 rfl ?_
        refine V_isub (pc := 250) hk dX2_pass_250 ?_
        refine V_goto (pc := 251) (tgt := 255) hk dX2_pass_251 rfl ?_
        exact eX2_pass_p255 hk hR w22 l0 (v34 - 1) 14 v27
    · refine V_aload_n (pc := 223) hk dX2_pass_223 0 rfl ?_
      refine V_bipush (pc := 224) (v := 10) hk dX2_pass_224 rfl ?_
      refine n_X2_320 (pc := 226) hk (fun b r h => ctX2_drawn (fl y) (fK y) hk.2.2.2.2.2.2.2.1 b 10 w22 r h) ⟨Nat.le_of_ble_eq_true rfl, Nat.le_of_ble_eq_true rfl⟩ (by simp [rf_cat, cat_int, cat_long, cat_ref]) dX2_pass_226 (fun r35 => ?_)
      refine V_goto (pc := 229) (tgt := 255) hk dX2_pass_229 rfl ?_
      exact eX2_pass_p255 hk hR r35.2 l0 r35.1 14 v27
theorem eX2_pass_p81 {y : Fx (Unit × Wd)} (hk : OkF y RX2 cX2_pass 3 6 159) (hR : RetM y rvV none) (w : Wd) (l0 : Option Nat) : V y w [(0, va_rf l0)] [] 81 (mX2_pass_p81 w l0) := by
  unfold mX2_pass_p81
  refine V_aload_n (pc := 81) hk dX2_pass_81 0 rfl ?_
  refine g_X2_7 (pc := 82) hk dX2_pass_82 (fun v1 => ?_)
  refine V_bipush (pc := 85) (v := 8) hk dX2_pass_85 rfl ?_
  refine V_aload_n (pc := 87) hk dX2_pass_87 0 rfl ?_
  refine g_X2_7 (pc := 88) hk dX2_pass_88 (fun v2 => ?_)
  refine V_bipush (pc := 91) (v := 8) hk dX2_pass_91 rfl ?_
  refine V_iaload (pc := 93) hk dX2_pass_93 (fun v3 => ?_)
  refine V_iconst (pc := 94) (v := 0) hk dX2_pass_94 rfl ?_
  refine V_sipush (pc := 95) (v := 600) hk dX2_pass_95 rfl ?_
  refine n_X2_289 (pc := 98) hk (fun r h => ctX2_cut (fl y) (fK y) hk.2.2.2.2.2.2.2.1 v3 0 600 w r h) ⟨Nat.le_of_ble_eq_true rfl, Nat.le_of_ble_eq_true rfl⟩ (by simp [rf_cat, cat_int, cat_long, cat_ref]) dX2_pass_98 (fun r4 => ?_)
  refine V_iastore (pc := 101) hk dX2_pass_101 (fun w5 => ?_)
  refine V_aload_n (pc := 102) hk dX2_pass_102 0 rfl ?_
  refine g_X2_7 (pc := 103) hk dX2_pass_103 (fun v6 => ?_)
  refine V_bipush (pc := 106) (v := 9) hk dX2_pass_106 rfl ?_
  refine V_iconst (pc := 108) (v := 0) hk dX2_pass_108 rfl ?_
  refine V_iastore (pc := 109) hk dX2_pass_109 (fun w7 => ?_)
  exact eX2_pass_p110 hk hR w7 l0
theorem eX2_pass {y : Fx (Unit × Wd)} (hk : OkF y RX2 cX2_pass 3 6 159) (hR : RetM y rvV none) (this : Nat) (a0 : Int32) (w : Wd) : V y w [(0, va_rf (some this)), (1, .int a0)] [] 0 (mX2_pass this a0 w) := by
  unfold mX2_pass
  refine V_aload_n (pc := 0) hk dX2_pass_0 0 rfl ?_
  refine V_iload_n (pc := 1) hk dX2_pass_1 1 rfl ?_
  refine n_X2_311 (pc := 2) hk (fun b r h => ctX2_layPast (fl y) (fK y) hk.2.2.2.2.2.2.2.1 b a0 w r h) ⟨Nat.le_of_ble_eq_true rfl, Nat.le_of_ble_eq_true rfl⟩ (Nat.le_of_ble_eq_true rfl) dX2_pass_2 (fun r1 => ?_)
  refine V_aload_n (pc := 5) hk dX2_pass_5 0 rfl ?_
  refine n_X2_314 (pc := 6) hk (fun b r h => ctX2_nameNow (fl y) (fK y) hk.2.2.2.2.2.2.2.1 b r1.2 r h) ⟨Nat.le_of_ble_eq_true rfl, Nat.le_of_ble_eq_true rfl⟩ (Nat.le_of_ble_eq_true rfl) dX2_pass_6 (fun r3 => ?_)
  refine V_aload_n (pc := 9) hk dX2_pass_9 0 rfl ?_
  refine V_iconst (pc := 10) (v := 0) hk dX2_pass_10 rfl ?_
  refine V_iconst (pc := 11) (v := 3) hk dX2_pass_11 rfl ?_
  refine V_iconst (pc := 12) (v := 0) hk dX2_pass_12 rfl ?_
  refine V_bipush (pc := 13) (v := 9) hk dX2_pass_13 rfl ?_
  refine n_X2_298 (pc := 15) hk (fun b r h => ctX2_says (fl y) (fK y) hk.2.2.2.2.2.2.2.1 b 0 3 0 9 r3.2 r h) ⟨Nat.le_of_ble_eq_true rfl, Nat.le_of_ble_eq_true rfl⟩ (Nat.le_of_ble_eq_true rfl) dX2_pass_15 (fun r5 => ?_)
  refine V_istore_n (pc := 18) (lc' := [(2, .int r5.1), (0, va_rf ((some this))), (1, .int a0)]) (i := 2) hk dX2_pass_18 rfl (Nat.le_of_ble_eq_true rfl) rfl ?_
  refine V_aload_n (pc := 19) hk dX2_pass_19 1 rfl ?_
  refine g_X2_7 (pc := 20) hk dX2_pass_20 (fun v7 => ?_)
  refine V_bipush (pc := 23) (v := 9) hk dX2_pass_23 rfl ?_
  refine V_aload_n (pc := 25) hk dX2_pass_25 1 rfl ?_
  refine g_X2_7 (pc := 26) hk dX2_pass_26 (fun v8 => ?_)
  refine V_bipush (pc := 29) (v := 9) hk dX2_pass_29 rfl ?_
  refine V_iaload (pc := 31) hk dX2_pass_31 (fun v9 => ?_)
  refine V_iload_n (pc := 32) hk dX2_pass_32 2 rfl ?_
  refine V_iadd (pc := 33) hk dX2_pass_33 ?_
  refine V_iload_n (pc := 34) hk dX2_pass_34 0 rfl ?_
  refine V_ineg (pc := 35) hk dX2_pass_35 ?_
  refine V_iload_n (pc := 36) hk dX2_pass_36 0 rfl ?_
  refine n_X2_289 (pc := 37) hk (fun r h => ctX2_cut (fl y) (fK y) hk.2.2.2.2.2.2.2.1 (v9 + a0) (-r5.1) r5.1 r5.2 r h) ⟨Nat.le_of_ble_eq_true rfl, Nat.le_of_ble_eq_true rfl⟩ (by simp [rf_cat, cat_int, cat_long, cat_ref]) dX2_pass_37 (fun r10 => ?_)
  refine V_iastore (pc := 40) hk dX2_pass_40 (fun w11 => ?_)
  refine V_aload_n (pc := 41) hk dX2_pass_41 1 rfl ?_
  refine g_X2_7 (pc := 42) hk dX2_pass_42 (fun v12 => ?_)
  refine V_bipush (pc := 45) (v := 8) hk dX2_pass_45 rfl ?_
  refine V_dup2 (pc := 47) hk dX2_pass_47 rfl (rf_cat _) ?_
  refine V_iaload (pc := 48) hk dX2_pass_48 (fun v13 => ?_)
  refine V_aload_n (pc := 49) hk dX2_pass_49 1 rfl ?_
  refine g_X2_7 (pc := 50) hk dX2_pass_50 (fun v14 => ?_)
  refine V_bipush (pc := 53) (v := 9) hk dX2_pass_53 rfl ?_
  refine V_iaload (pc := 55) hk dX2_pass_55 (fun v15 => ?_)
  refine V_iadd (pc := 56) hk dX2_pass_56 ?_
  refine V_iastore (pc := 57) hk dX2_pass_57 (fun w16 => ?_)
  refine V_aload_n (pc := 58) hk dX2_pass_58 1 rfl ?_
  refine g_X2_7 (pc := 59) hk dX2_pass_59 (fun v17 => ?_)
  refine V_bipush (pc := 62) (v := 8) hk dX2_pass_62 rfl ?_
  refine V_iaload (pc := 64) hk dX2_pass_64 (fun v18 => ?_)
  refine V_if_lt (pc := 65) (tgt := 81) hk dX2_pass_65 rfl ?_ ?_
  · refine V_pick (lc' := [(0, va_rf ((some this)))]) [1] rfl ?_
    exact eX2_pass_p81 hk hR w16 ((some this))
  · refine V_aload_n (pc := 68) hk dX2_pass_68 1 rfl ?_
    refine g_X2_7 (pc := 69) hk dX2_pass_69 (fun v19 => ?_)
    refine V_bipush (pc := 72) (v := 8) hk dX2_pass_72 rfl ?_
    refine V_iaload (pc := 74) hk dX2_pass_74 (fun v20 => ?_)
    refine V_sipush (pc := 75) (v := 600) hk dX2_pass_75 rfl ?_
    refine V_icmp_le (pc := 78) (tgt := 110) hk dX2_pass_78 rfl ?_ ?_
    · refine V_pick (lc' := [(0, va_rf ((some this)))]) [1] rfl ?_
      exact eX2_pass_p110 hk hR w16 ((some this))
    · refine V_pick (lc' := [(0, va_rf ((some this)))]) [1] rfl ?_
      exact eX2_pass_p81 hk hR w16 ((some this))
theorem ctX2_pass (l : Launch) (K : Kx) (hI : Ini K) (b : Nat) (a0 : Int32) (w : Wd) : ∀ r, mX2_pass b a0 w = some r → Ct l K 6 159 yX2_pass (ws_ yX2_pass cX2_pass 3 none) [.ref b, .int a0] w (rvV r.1) r.2 := Ct_of rvV l K hI 6 159 [.ref b, .int a0] w (by decide) (lc0 := [(0, .ref b), (1, .int a0)]) rfl (Nat.le_of_ble_eq_true rfl) (fun y hk hR _ _ hin => eX2_pass hk hR b a0 w)
noncomputable def mX2_isTenth (this : Nat) (a0 : Int32) (w : Wd) : Option (Int32 × Wd) :=
(gR w ((some this)) 2 0).bind fun v1 =>
(ia w v1 16).bind fun v2 =>
if ¬ v2 = 9999 then (
(recv w ((some this)) 2).bind fun b4 => (cal w (mX2_keep b4 w)).bind fun r3 =>
(recv r3.2 ((some this)) 2).bind fun b6 => (cal r3.2 (mX2_pass b6 a0 r3.2)).bind fun r5 =>
(nok (.boolean) 1).bind fun _ => some (1, r5.2))
else (
(nok (.boolean) 0).bind fun _ => some (0, w))
theorem eX2_isTenth {y : Fx (Int32 × Wd)} (hk : OkF y RX2 cX2_isTenth 2 7 181) (hR : RetM y rvI (some (.boolean))) (this : Nat) (a0 : Int32) (w : Wd) : V y w [(0, va_rf (some this)), (1, .int a0)] [] 0 (mX2_isTenth this a0 w) := by
  unfold mX2_isTenth
  refine V_aload_n (pc := 0) hk dX2_isTenth_0 0 rfl ?_
  refine g_X2_7 (pc := 1) hk dX2_isTenth_1 (fun v1 => ?_)
  refine V_bipush (pc := 4) (v := 16) hk dX2_isTenth_4 rfl ?_
  refine V_iaload (pc := 6) hk dX2_isTenth_6 (fun v2 => ?_)
  refine V_sipush (pc := 7) (v := 9999) hk dX2_isTenth_7 rfl ?_
  refine V_icmp_ne (pc := 10) (tgt := 15) hk dX2_isTenth_10 rfl ?_ ?_
  · refine V_aload_n (pc := 15) hk dX2_isTenth_15 0 rfl ?_
    refine n_X2_329 (pc := 16) hk (fun b r h => ctX2_keep (fl y) (fK y) hk.2.2.2.2.2.2.2.1 b w r h) ⟨Nat.le_of_ble_eq_true rfl, Nat.le_of_ble_eq_true rfl⟩ (Nat.le_of_ble_eq_true rfl) dX2_isTenth_16 (fun r3 => ?_)
    refine V_aload_n (pc := 19) hk dX2_isTenth_19 0 rfl ?_
    refine V_iload_n (pc := 20) hk dX2_isTenth_20 1 rfl ?_
    refine n_X2_332 (pc := 21) hk (fun b r h => ctX2_pass (fl y) (fK y) hk.2.2.2.2.2.2.2.1 b a0 r3.2 r h) ⟨Nat.le_of_ble_eq_true rfl, Nat.le_of_ble_eq_true rfl⟩ (Nat.le_of_ble_eq_true rfl) dX2_isTenth_21 (fun r5 => ?_)
    refine V_iconst (pc := 24) (v := 1) hk dX2_isTenth_24 rfl ?_
    exact V_zreturn (pc := 25) hk hR rfl dX2_isTenth_25
  · refine V_iconst (pc := 13) (v := 0) hk dX2_isTenth_13 rfl ?_
    exact V_zreturn (pc := 14) hk hR rfl dX2_isTenth_14
theorem ctX2_isTenth (l : Launch) (K : Kx) (hI : Ini K) (b : Nat) (a0 : Int32) (w : Wd) : ∀ r, mX2_isTenth b a0 w = some r → Ct l K 7 181 yX2_isTenth (ws_ yX2_isTenth cX2_isTenth 2 (some (.boolean))) [.ref b, .int a0] w (rvI r.1) r.2 := Ct_of rvI l K hI 7 181 [.ref b, .int a0] w (by decide) (lc0 := [(0, .ref b), (1, .int a0)]) rfl (Nat.le_of_ble_eq_true rfl) (fun y hk hR _ _ hin => eX2_isTenth hk hR b a0 w)
noncomputable def mX2_move (this : Nat) (a0 : Int32) (w : Wd) : Option (Int32 × Wd) :=
(cal w (mX2_isIn a0 (-1) 1 w)).bind fun r1 =>
if r1.1 = 0 then (
some ((-1), r1.2))
else (
(recv r1.2 ((some this)) 2).bind fun b3 => (cal r1.2 (mX2_isTenth b3 a0 r1.2)).bind fun r2 =>
if r2.1 = 0 then (
some ((-1), r2.2))
else (
(gR r2.2 ((some this)) 2 0).bind fun v4 =>
(ia r2.2 v4 8).bind fun v5 =>
some (v5, r2.2)))
theorem eX2_move {y : Fx (Int32 × Wd)} (hk : OkF y RX2 cX2_move 2 8 202) (hR : RetM y rvI (some (.int))) (this : Nat) (a0 : Int32) (w : Wd) : V y w [(0, va_rf (some this)), (1, .int a0)] [] 0 (mX2_move this a0 w) := by
  unfold mX2_move
  refine V_iload_n (pc := 0) hk dX2_move_0 1 rfl ?_
  refine V_iconst (pc := 1) (v := (-1)) hk dX2_move_1 (by decide +kernel) ?_
  refine V_iconst (pc := 2) (v := 1) hk dX2_move_2 rfl ?_
  refine n_X2_71 (pc := 3) hk (fun r h => ctX2_isIn (fl y) (fK y) hk.2.2.2.2.2.2.2.1 a0 (-1) 1 w r h) ⟨Nat.le_of_ble_eq_true rfl, Nat.le_of_ble_eq_true rfl⟩ (Nat.le_of_ble_eq_true rfl) dX2_move_3 (fun r1 => ?_)
  refine V_if_eq (pc := 6) (tgt := 27) hk dX2_move_6 rfl ?_ ?_
  · refine V_iconst (pc := 27) (v := (-1)) hk dX2_move_27 (by decide +kernel) ?_
    exact V_ireturn (pc := 28) hk hR rfl dX2_move_28
  · refine V_aload_n (pc := 9) hk dX2_move_9 0 rfl ?_
    refine V_iload_n (pc := 10) hk dX2_move_10 1 rfl ?_
    refine n_X2_335 (pc := 11) hk (fun b r h => ctX2_isTenth (fl y) (fK y) hk.2.2.2.2.2.2.2.1 b a0 r1.2 r h) ⟨Nat.le_of_ble_eq_true rfl, Nat.le_of_ble_eq_true rfl⟩ (Nat.le_of_ble_eq_true rfl) dX2_move_11 (fun r2 => ?_)
    refine V_if_eq (pc := 14) (tgt := 27) hk dX2_move_14 rfl ?_ ?_
    · refine V_iconst (pc := 27) (v := (-1)) hk dX2_move_27 (by decide +kernel) ?_
      exact V_ireturn (pc := 28) hk hR rfl dX2_move_28
    · refine V_aload_n (pc := 17) hk dX2_move_17 0 rfl ?_
      refine g_X2_7 (pc := 18) hk dX2_move_18 (fun v4 => ?_)
      refine V_bipush (pc := 21) (v := 8) hk dX2_move_21 rfl ?_
      refine V_iaload (pc := 23) hk dX2_move_23 (fun v5 => ?_)
      refine V_goto (pc := 24) (tgt := 28) hk dX2_move_24 rfl ?_
      exact V_ireturn (pc := 28) hk hR rfl dX2_move_28
theorem ctX2_move (l : Launch) (K : Kx) (hI : Ini K) (b : Nat) (a0 : Int32) (w : Wd) : ∀ r, mX2_move b a0 w = some r → Ct l K 8 202 yX2_move (ws_ yX2_move cX2_move 2 (some (.int))) [.ref b, .int a0] w (rvI r.1) r.2 := Ct_of rvI l K hI 8 202 [.ref b, .int a0] w (by decide) (lc0 := [(0, .ref b), (1, .int a0)]) rfl (Nat.le_of_ble_eq_true rfl) (fun y hk hR _ _ hin => eX2_move hk hR b a0 w)
noncomputable def mX2_commandBy_p26 (w : Wd) (t0 : Int32) : Option (Int32 × Wd) :=
if t0 ≤ 0 then (
if 0 ≤ t0 then (
some (0, w))
else (
some ((-1), w)))
else (
some (1, w))
noncomputable def mX2_commandBy (this : Nat) (a0 : Int32) (w : Wd) : Option (Int32 × Wd) :=
(recv w ((some this)) 2).bind fun b2 => (cal w (mX2_clauseOf b2 a0 2 w)).bind fun r1 =>
if 0 ≤ r1.1 then (
(recv r1.2 ((some this)) 2).bind fun b4 => (cal r1.2 (mX2_worked b4 a0 r1.1 r1.2)).bind fun r3 =>
mX2_commandBy_p26 r3.2 r3.1)
else (
(gR r1.2 ((some this)) 2 20).bind fun v5 =>
(ia r1.2 v5 4).bind fun v6 =>
mX2_commandBy_p26 r1.2 v6)
theorem eX2_commandBy_p26 {y : Fx (Int32 × Wd)} (hk : OkF y RX2 cX2_commandBy 4 5 134) (hR : RetM y rvI (some (.int))) (w : Wd) (t0 : Int32) : V y w [] [.int t0] 26 (mX2_commandBy_p26 w t0) := by
  unfold mX2_commandBy_p26
  refine V_istore_n (pc := 26) (lc' := [(3, .int t0)]) (i := 3) hk dX2_commandBy_26 rfl (Nat.le_of_ble_eq_true rfl) rfl ?_
  refine V_iload_n (pc := 27) hk dX2_commandBy_27 0 rfl ?_
  refine V_if_le (pc := 28) (tgt := 35) hk dX2_commandBy_28 rfl ?_ ?_
  · refine V_iload_n (pc := 35) hk dX2_commandBy_35 0 rfl ?_
    refine V_if_ge (pc := 36) (tgt := 43) hk dX2_commandBy_36 rfl ?_ ?_
    · refine V_iconst (pc := 43) (v := 0) hk dX2_commandBy_43 rfl ?_
      exact V_ireturn (pc := 44) hk hR rfl dX2_commandBy_44
    · refine V_iconst (pc := 39) (v := (-1)) hk dX2_commandBy_39 (by decide +kernel) ?_
      refine V_goto (pc := 40) (tgt := 44) hk dX2_commandBy_40 rfl ?_
      exact V_ireturn (pc := 44) hk hR rfl dX2_commandBy_44
  · refine V_iconst (pc := 31) (v := 1) hk dX2_commandBy_31 rfl ?_
    refine V_goto (pc := 32) (tgt := 44) hk dX2_commandBy_32 rfl ?_
    exact V_ireturn (pc := 44) hk hR rfl dX2_commandBy_44
theorem eX2_commandBy {y : Fx (Int32 × Wd)} (hk : OkF y RX2 cX2_commandBy 4 5 134) (hR : RetM y rvI (some (.int))) (this : Nat) (a0 : Int32) (w : Wd) : V y w [(0, va_rf (some this)), (1, .int a0)] [] 0 (mX2_commandBy this a0 w) := by
  unfold mX2_commandBy
  refine V_aload_n (pc := 0) hk dX2_commandBy_0 0 rfl ?_
  refine V_iload_n (pc := 1) hk dX2_commandBy_1 1 rfl ?_
  refine V_iconst (pc := 2) (v := 2) hk dX2_commandBy_2 rfl ?_
  refine n_X2_283 (pc := 3) hk (fun b r h => ctX2_clauseOf (fl y) (fK y) hk.2.2.2.2.2.2.2.1 b a0 2 w r h) ⟨Nat.le_of_ble_eq_true rfl, Nat.le_of_ble_eq_true rfl⟩ (Nat.le_of_ble_eq_true rfl) dX2_commandBy_3 (fun r1 => ?_)
  refine V_istore_n (pc := 6) (lc' := [(2, .int r1.1), (0, va_rf ((some this))), (1, .int a0)]) (i := 2) hk dX2_commandBy_6 rfl (Nat.le_of_ble_eq_true rfl) rfl ?_
  refine V_iload_n (pc := 7) hk dX2_commandBy_7 0 rfl ?_
  refine V_if_ge (pc := 8) (tgt := 20) hk dX2_commandBy_8 rfl ?_ ?_
  · refine V_aload_n (pc := 20) hk dX2_commandBy_20 1 rfl ?_
    refine V_iload_n (pc := 21) hk dX2_commandBy_21 2 rfl ?_
    refine V_iload_n (pc := 22) hk dX2_commandBy_22 0 rfl ?_
    refine n_X2_286 (pc := 23) hk (fun b r h => ctX2_worked (fl y) (fK y) hk.2.2.2.2.2.2.2.1 b a0 r1.1 r1.2 r h) ⟨Nat.le_of_ble_eq_true rfl, Nat.le_of_ble_eq_true rfl⟩ (Nat.le_of_ble_eq_true rfl) dX2_commandBy_23 (fun r3 => ?_)
    refine V_pick (lc' := []) [] rfl ?_
    exact eX2_commandBy_p26 hk hR r3.2 r3.1
  · refine V_aload_n (pc := 11) hk dX2_commandBy_11 1 rfl ?_
    refine g_X2_32 (pc := 12) hk dX2_commandBy_12 (fun v5 => ?_)
    refine V_iconst (pc := 15) (v := 4) hk dX2_commandBy_15 rfl ?_
    refine V_iaload (pc := 16) hk dX2_commandBy_16 (fun v6 => ?_)
    refine V_goto (pc := 17) (tgt := 26) hk dX2_commandBy_17 rfl ?_
    refine V_pick (lc' := []) [] rfl ?_
    exact eX2_commandBy_p26 hk hR r1.2 v6
theorem ctX2_commandBy (l : Launch) (K : Kx) (hI : Ini K) (b : Nat) (a0 : Int32) (w : Wd) : ∀ r, mX2_commandBy b a0 w = some r → Ct l K 5 134 yX2_commandBy (ws_ yX2_commandBy cX2_commandBy 4 (some (.int))) [.ref b, .int a0] w (rvI r.1) r.2 := Ct_of rvI l K hI 5 134 [.ref b, .int a0] w (by decide) (lc0 := [(0, .ref b), (1, .int a0)]) rfl (Nat.le_of_ble_eq_true rfl) (fun y hk hR _ _ hin => eX2_commandBy hk hR b a0 w)
noncomputable def mX2_commandNow (this : Nat) (a0 : Int32) (w : Wd) : Option (Int32 × Wd) :=
(recv w ((some this)) 2).bind fun b2 => (cal w (mX2_nameNow b2 w)).bind fun r1 =>
(recv r1.2 ((some this)) 2).bind fun b4 => (cal r1.2 (mX2_commandBy b4 a0 r1.2)).bind fun r3 =>
some (r3.1, r3.2)
theorem eX2_commandNow {y : Fx (Int32 × Wd)} (hk : OkF y RX2 cX2_commandNow 2 6 157) (hR : RetM y rvI (some (.int))) (this : Nat) (a0 : Int32) (w : Wd) : V y w [(0, va_rf (some this)), (1, .int a0)] [] 0 (mX2_commandNow this a0 w) := by
  unfold mX2_commandNow
  refine V_aload_n (pc := 0) hk dX2_commandNow_0 0 rfl ?_
  refine n_X2_314 (pc := 1) hk (fun b r h => ctX2_nameNow (fl y) (fK y) hk.2.2.2.2.2.2.2.1 b w r h) ⟨Nat.le_of_ble_eq_true rfl, Nat.le_of_ble_eq_true rfl⟩ (Nat.le_of_ble_eq_true rfl) dX2_commandNow_1 (fun r1 => ?_)
  refine V_aload_n (pc := 4) hk dX2_commandNow_4 0 rfl ?_
  refine V_iload_n (pc := 5) hk dX2_commandNow_5 1 rfl ?_
  refine n_X2_326 (pc := 6) hk (fun b r h => ctX2_commandBy (fl y) (fK y) hk.2.2.2.2.2.2.2.1 b a0 r1.2 r h) ⟨Nat.le_of_ble_eq_true rfl, Nat.le_of_ble_eq_true rfl⟩ (Nat.le_of_ble_eq_true rfl) dX2_commandNow_6 (fun r3 => ?_)
  exact V_ireturn (pc := 9) hk hR rfl dX2_commandNow_9
theorem ctX2_commandNow (l : Launch) (K : Kx) (hI : Ini K) (b : Nat) (a0 : Int32) (w : Wd) : ∀ r, mX2_commandNow b a0 w = some r → Ct l K 6 157 yX2_commandNow (ws_ yX2_commandNow cX2_commandNow 2 (some (.int))) [.ref b, .int a0] w (rvI r.1) r.2 := Ct_of rvI l K hI 6 157 [.ref b, .int a0] w (by decide) (lc0 := [(0, .ref b), (1, .int a0)]) rfl (Nat.le_of_ble_eq_true rfl) (fun y hk hR _ _ hin => eX2_commandNow hk hR b a0 w)
noncomputable def mX2_areRun_b2 (k2 : Wd → (Option Nat) → Int32 → Int32 → Option (Int32 × Wd)) (w : Wd) (l0 : Option Nat) (l1 : Int32) (l2 : Int32) : Option (Int32 × Wd) :=
if l1 ≤ l2 then (
(nok (.boolean) 1).bind fun _ => some (1, w))
else (
(gR w l0 2 0).bind fun v1 =>
(ia w v1 4).bind fun v2 =>
(recv w l0 2).bind fun b4 => (cal w (mX2_commandNow b4 v2 w)).bind fun r3 =>
(recv r3.2 l0 2).bind fun b6 => (cal r3.2 (mX2_isTenth b6 r3.1 r3.2)).bind fun r5 =>
if ¬ r5.1 = 0 then (
k2 r5.2 l0 l1 (l2 + 1))
else (
(nok (.boolean) 0).bind fun _ => some (0, r5.2)))
noncomputable def mX2_areRun_l2 : Nat → Wd → (Option Nat) → Int32 → Int32 → Option (Int32 × Wd)
  | 0, _, _, _, _ => none
  | n + 1, w, l0, l1, l2 => mX2_areRun_b2 (mX2_areRun_l2 n) w l0 l1 l2
noncomputable def mX2_areRun (this : Nat) (a0 : Int32) (w : Wd) : Option (Int32 × Wd) :=
mX2_areRun_l2 FU w ((some this)) a0 0
theorem eX2_areRun_b2 {y : Fx (Int32 × Wd)} (hk : OkF y RX2 cX2_areRun 3 8 202) (hR : RetM y rvI (some (.boolean))) {k2 : Wd → (Option Nat) → Int32 → Int32 → Option (Int32 × Wd)} (h2 : ∀ (w : Wd) (l0 : Option Nat) (l1 : Int32) (l2 : Int32), V y w [(0, va_rf l0), (1, .int l1), (2, .int l2)] [] 2 (k2 w l0 l1 l2)) (w : Wd) (l0 : Option Nat) (l1 : Int32) (l2 : Int32) : V y w [(0, va_rf l0), (1, .int l1), (2, .int l2)] [] 2 (mX2_areRun_b2 k2 w l0 l1 l2) := by
  unfold mX2_areRun_b2
  refine V_iload_n (pc := 2) hk dX2_areRun_2 2 rfl ?_
  refine V_iload_n (pc := 3) hk dX2_areRun_3 1 rfl ?_
  refine V_icmp_ge (pc := 4) (tgt := 32) hk dX2_areRun_4 rfl ?_ ?_
  · refine V_iconst (pc := 32) (v := 1) hk dX2_areRun_32 rfl ?_
    exact V_zreturn (pc := 33) hk hR rfl dX2_areRun_33
  · refine V_aload_n (pc := 7) hk dX2_areRun_7 0 rfl ?_
    refine V_aload_n (pc := 8) hk dX2_areRun_8 0 rfl ?_
    refine V_aload_n (pc := 9) hk dX2_areRun_9 0 rfl ?_
    refine g_X2_7 (pc := 10) hk dX2_areRun_10 (fun v1 => ?_)
    refine V_iconst (pc := 13) (v := 4) hk dX2_areRun_13 rfl ?_
    refine V_iaload (pc := 14) hk dX2_areRun_14 (fun v2 => ?_)
    refine n_X2_338 (pc := 15) hk (fun b r h => ctX2_commandNow (fl y) (fK y) hk.2.2.2.2.2.2.2.1 b v2 w r h) ⟨Nat.le_of_ble_eq_true rfl, Nat.le_of_ble_eq_true rfl⟩ (by simp [rf_cat, cat_int, cat_long, cat_ref]) dX2_areRun_15 (fun r3 => ?_)
    refine n_X2_335 (pc := 18) hk (fun b r h => ctX2_isTenth (fl y) (fK y) hk.2.2.2.2.2.2.2.1 b r3.1 r3.2 r h) ⟨Nat.le_of_ble_eq_true rfl, Nat.le_of_ble_eq_true rfl⟩ (Nat.le_of_ble_eq_true rfl) dX2_areRun_18 (fun r5 => ?_)
    refine V_if_ne (pc := 21) (tgt := 26) hk dX2_areRun_21 rfl ?_ ?_
    · refine V_iinc (pc := 26) (v := 1) (lc' := [(2, .int (l2 + 1)), (0, va_rf l0), (1, .int l1)]) hk dX2_areRun_26 2 rfl rfl (Nat.le_of_ble_eq_true rfl) rfl ?_
      refine V_goto (pc := 29) (tgt := 2) hk dX2_areRun_29 rfl ?_
      refine V_pick (lc' := [(0, va_rf l0), (1, .int l1), (2, .int (l2 + 1))]) [1, 2, 0] rfl ?_
      exact h2 r5.2 l0 l1 (l2 + 1)
    · refine V_iconst (pc := 24) (v := 0) hk dX2_areRun_24 rfl ?_
      exact V_zreturn (pc := 25) hk hR rfl dX2_areRun_25
theorem eX2_areRun_l2 {y : Fx (Int32 × Wd)} (hk : OkF y RX2 cX2_areRun 3 8 202) (hR : RetM y rvI (some (.boolean))) : ∀ (n : Nat) (w : Wd) (l0 : Option Nat) (l1 : Int32) (l2 : Int32), V y w [(0, va_rf l0), (1, .int l1), (2, .int l2)] [] 2 (mX2_areRun_l2 n w l0 l1 l2) := by
  intro n
  induction n with
  | zero => intro w l0 l1 l2; exact V_none
  | succ n ih => intro w l0 l1 l2; exact eX2_areRun_b2 hk hR ih w l0 l1 l2
theorem eX2_areRun {y : Fx (Int32 × Wd)} (hk : OkF y RX2 cX2_areRun 3 8 202) (hR : RetM y rvI (some (.boolean))) (this : Nat) (a0 : Int32) (w : Wd) : V y w [(0, va_rf (some this)), (1, .int a0)] [] 0 (mX2_areRun this a0 w) := by
  unfold mX2_areRun
  refine V_iconst (pc := 0) (v := 0) hk dX2_areRun_0 rfl ?_
  refine V_istore_n (pc := 1) (lc' := [(2, .int 0), (0, va_rf ((some this))), (1, .int a0)]) (i := 2) hk dX2_areRun_1 rfl (Nat.le_of_ble_eq_true rfl) rfl ?_
  refine V_pick (lc' := [(0, va_rf ((some this))), (1, .int a0), (2, .int 0)]) [1, 2, 0] rfl ?_
  exact eX2_areRun_l2 hk hR FU w ((some this)) a0 0
theorem ctX2_areRun (l : Launch) (K : Kx) (hI : Ini K) (b : Nat) (a0 : Int32) (w : Wd) : ∀ r, mX2_areRun b a0 w = some r → Ct l K 8 202 yX2_areRun (ws_ yX2_areRun cX2_areRun 3 (some (.boolean))) [.ref b, .int a0] w (rvI r.1) r.2 := Ct_of rvI l K hI 8 202 [.ref b, .int a0] w (by decide) (lc0 := [(0, .ref b), (1, .int a0)]) rfl (Nat.le_of_ble_eq_true rfl) (fun y hk hR _ _ hin => eX2_areRun hk hR b a0 w)
noncomputable def mX2_run (this : Nat) (a0 : Int32) (w : Wd) : Option (Int32 × Wd) :=
(cal w (mX2_isIn a0 1 60 w)).bind fun r1 =>
if r1.1 = 0 then (
some ((-1), r1.2))
else (
(gR r1.2 ((some this)) 2 0).bind fun v2 =>
(ia r1.2 v2 16).bind fun v3 =>
if 9999 < (v3 + a0) then (
some ((-1), r1.2))
else (
(recv r1.2 ((some this)) 2).bind fun b5 => (cal r1.2 (mX2_areRun b5 a0 r1.2)).bind fun r4 =>
if r4.1 = 0 then (
some ((-1), r4.2))
else (
(gR r4.2 ((some this)) 2 0).bind fun v6 =>
(ia r4.2 v6 8).bind fun v7 =>
some (v7, r4.2))))
theorem eX2_run {y : Fx (Int32 × Wd)} (hk : OkF y RX2 cX2_run 2 9 224) (hR : RetM y rvI (some (.int))) (this : Nat) (a0 : Int32) (w : Wd) : V y w [(0, va_rf (some this)), (1, .int a0)] [] 0 (mX2_run this a0 w) := by
  unfold mX2_run
  refine V_iload_n (pc := 0) hk dX2_run_0 1 rfl ?_
  refine V_iconst (pc := 1) (v := 1) hk dX2_run_1 rfl ?_
  refine V_bipush (pc := 2) (v := 60) hk dX2_run_2 rfl ?_
  refine n_X2_71 (pc := 4) hk (fun r h => ctX2_isIn (fl y) (fK y) hk.2.2.2.2.2.2.2.1 a0 1 60 w r h) ⟨Nat.le_of_ble_eq_true rfl, Nat.le_of_ble_eq_true rfl⟩ (Nat.le_of_ble_eq_true rfl) dX2_run_4 (fun r1 => ?_)
  refine V_if_eq (pc := 7) (tgt := 43) hk dX2_run_7 rfl ?_ ?_
  · refine V_iconst (pc := 43) (v := (-1)) hk dX2_run_43 (by decide +kernel) ?_
    exact V_ireturn (pc := 44) hk hR rfl dX2_run_44
  · refine V_aload_n (pc := 10) hk dX2_run_10 0 rfl ?_
    refine g_X2_7 (pc := 11) hk dX2_run_11 (fun v2 => ?_)
    refine V_bipush (pc := 14) (v := 16) hk dX2_run_14 rfl ?_
    refine V_iaload (pc := 16) hk dX2_run_16 (fun v3 => ?_)
    refine V_iload_n (pc := 17) hk dX2_run_17 1 rfl ?_
    refine V_iadd (pc := 18) hk dX2_run_18 ?_
    refine V_sipush (pc := 19) (v := 9999) hk dX2_run_19 rfl ?_
    refine V_icmp_gt (pc := 22) (tgt := 43) hk dX2_run_22 rfl ?_ ?_
    · refine V_iconst (pc := 43) (v := (-1)) hk dX2_run_43 (by decide +kernel) ?_
      exact V_ireturn (pc := 44) hk hR rfl dX2_run_44
    · refine V_aload_n (pc := 25) hk dX2_run_25 0 rfl ?_
      refine V_iload_n (pc := 26) hk dX2_run_26 1 rfl ?_
      refine n_X2_341 (pc := 27) hk (fun b r h => ctX2_areRun (fl y) (fK y) hk.2.2.2.2.2.2.2.1 b a0 r1.2 r h) ⟨Nat.le_of_ble_eq_true rfl, Nat.le_of_ble_eq_true rfl⟩ (Nat.le_of_ble_eq_true rfl) dX2_run_27 (fun r4 => ?_)
      refine V_if_eq (pc := 30) (tgt := 43) hk dX2_run_30 rfl ?_ ?_
      · refine V_iconst (pc := 43) (v := (-1)) hk dX2_run_43 (by decide +kernel) ?_
        exact V_ireturn (pc := 44) hk hR rfl dX2_run_44
      · refine V_aload_n (pc := 33) hk dX2_run_33 0 rfl ?_
        refine g_X2_7 (pc := 34) hk dX2_run_34 (fun v6 => ?_)
        refine V_bipush (pc := 37) (v := 8) hk dX2_run_37 rfl ?_
        refine V_iaload (pc := 39) hk dX2_run_39 (fun v7 => ?_)
        refine V_goto (pc := 40) (tgt := 44) hk dX2_run_40 rfl ?_
        exact V_ireturn (pc := 44) hk hR rfl dX2_run_44
theorem ctX2_run (l : Launch) (K : Kx) (hI : Ini K) (b : Nat) (a0 : Int32) (w : Wd) : ∀ r, mX2_run b a0 w = some r → Ct l K 9 224 yX2_run (ws_ yX2_run cX2_run 2 (some (.int))) [.ref b, .int a0] w (rvI r.1) r.2 := Ct_of rvI l K hI 9 224 [.ref b, .int a0] w (by decide) (lc0 := [(0, .ref b), (1, .int a0)]) rfl (Nat.le_of_ble_eq_true rfl) (fun y hk hR _ _ hin => eX2_run hk hR b a0 w)
noncomputable def mX2_hoist (this : Nat) (a0 : Int32) (w : Wd) : Option (Int32 × Wd) :=
(cal w (mX2_isIn a0 1 24 w)).bind fun r1 =>
if r1.1 = 0 then (
(nok (.boolean) 0).bind fun _ => some (0, r1.2))
else (
(gR r1.2 ((some this)) 2 0).bind fun v2 =>
(ia r1.2 v2 12).bind fun v3 =>
if ¬ v3 = a0 then (
(recv r1.2 ((some this)) 2).bind fun b5 => (cal r1.2 (mX2_keep b5 r1.2)).bind fun r4 =>
(gR r4.2 ((some this)) 2 0).bind fun v6 =>
(ias r4.2 v6 12 a0).bind fun w7 =>
(nok (.boolean) 1).bind fun _ => some (1, w7))
else (
(nok (.boolean) 0).bind fun _ => some (0, r1.2)))
theorem eX2_hoist {y : Fx (Int32 × Wd)} (hk : OkF y RX2 cX2_hoist 2 4 104) (hR : RetM y rvI (some (.boolean))) (this : Nat) (a0 : Int32) (w : Wd) : V y w [(0, va_rf (some this)), (1, .int a0)] [] 0 (mX2_hoist this a0 w) := by
  unfold mX2_hoist
  refine V_iload_n (pc := 0) hk dX2_hoist_0 1 rfl ?_
  refine V_iconst (pc := 1) (v := 1) hk dX2_hoist_1 rfl ?_
  refine V_bipush (pc := 2) (v := 24) hk dX2_hoist_2 rfl ?_
  refine n_X2_71 (pc := 4) hk (fun r h => ctX2_isIn (fl y) (fK y) hk.2.2.2.2.2.2.2.1 a0 1 24 w r h) ⟨Nat.le_of_ble_eq_true rfl, Nat.le_of_ble_eq_true rfl⟩ (Nat.le_of_ble_eq_true rfl) dX2_hoist_4 (fun r1 => ?_)
  refine V_if_eq (pc := 7) (tgt := 21) hk dX2_hoist_7 rfl ?_ ?_
  · refine V_iconst (pc := 21) (v := 0) hk dX2_hoist_21 rfl ?_
    exact V_zreturn (pc := 22) hk hR rfl dX2_hoist_22
  · refine V_aload_n (pc := 10) hk dX2_hoist_10 0 rfl ?_
    refine g_X2_7 (pc := 11) hk dX2_hoist_11 (fun v2 => ?_)
    refine V_bipush (pc := 14) (v := 12) hk dX2_hoist_14 rfl ?_
    refine V_iaload (pc := 16) hk dX2_hoist_16 (fun v3 => ?_)
    refine V_iload_n (pc := 17) hk dX2_hoist_17 1 rfl ?_
    refine V_icmp_ne (pc := 18) (tgt := 23) hk dX2_hoist_18 rfl ?_ ?_
    · refine V_aload_n (pc := 23) hk dX2_hoist_23 0 rfl ?_
      refine n_X2_329 (pc := 24) hk (fun b r h => ctX2_keep (fl y) (fK y) hk.2.2.2.2.2.2.2.1 b r1.2 r h) ⟨Nat.le_of_ble_eq_true rfl, Nat.le_of_ble_eq_true rfl⟩ (Nat.le_of_ble_eq_true rfl) dX2_hoist_24 (fun r4 => ?_)
      refine V_aload_n (pc := 27) hk dX2_hoist_27 0 rfl ?_
      refine g_X2_7 (pc := 28) hk dX2_hoist_28 (fun v6 => ?_)
      refine V_bipush (pc := 31) (v := 12) hk dX2_hoist_31 rfl ?_
      refine V_iload_n (pc := 33) hk dX2_hoist_33 1 rfl ?_
      refine V_iastore (pc := 34) hk dX2_hoist_34 (fun w7 => ?_)
      refine V_iconst (pc := 35) (v := 1) hk dX2_hoist_35 rfl ?_
      exact V_zreturn (pc := 36) hk hR rfl dX2_hoist_36
    · refine V_iconst (pc := 21) (v := 0) hk dX2_hoist_21 rfl ?_
      exact V_zreturn (pc := 22) hk hR rfl dX2_hoist_22
theorem ctX2_hoist (l : Launch) (K : Kx) (hI : Ini K) (b : Nat) (a0 : Int32) (w : Wd) : ∀ r, mX2_hoist b a0 w = some r → Ct l K 4 104 yX2_hoist (ws_ yX2_hoist cX2_hoist 2 (some (.boolean))) [.ref b, .int a0] w (rvI r.1) r.2 := Ct_of rvI l K hI 4 104 [.ref b, .int a0] w (by decide) (lc0 := [(0, .ref b), (1, .int a0)]) rfl (Nat.le_of_ble_eq_true rfl) (fun y hk hR _ _ hin => eX2_hoist hk hR b a0 w)
noncomputable def mX2_aim (this : Nat) (a0 : Int32) (w : Wd) : Option (Int32 × Wd) :=
(cal w (mX2_isIn a0 0 600 w)).bind fun r1 =>
if r1.1 = 0 then (
(nok (.boolean) 0).bind fun _ => some (0, r1.2))
else (
(gR r1.2 ((some this)) 2 0).bind fun v2 =>
(ia r1.2 v2 15).bind fun v3 =>
if ¬ v3 = a0 then (
(recv r1.2 ((some this)) 2).bind fun b5 => (cal r1.2 (mX2_keep b5 r1.2)).bind fun r4 =>
(gR r4.2 ((some this)) 2 0).bind fun v6 =>
(ias r4.2 v6 15 a0).bind fun w7 =>
(nok (.boolean) 1).bind fun _ => some (1, w7))
else (
(nok (.boolean) 0).bind fun _ => some (0, r1.2)))
theorem eX2_aim {y : Fx (Int32 × Wd)} (hk : OkF y RX2 cX2_aim 2 4 104) (hR : RetM y rvI (some (.boolean))) (this : Nat) (a0 : Int32) (w : Wd) : V y w [(0, va_rf (some this)), (1, .int a0)] [] 0 (mX2_aim this a0 w) := by
  unfold mX2_aim
  refine V_iload_n (pc := 0) hk dX2_aim_0 1 rfl ?_
  refine V_iconst (pc := 1) (v := 0) hk dX2_aim_1 rfl ?_
  refine V_sipush (pc := 2) (v := 600) hk dX2_aim_2 rfl ?_
  refine n_X2_71 (pc := 5) hk (fun r h => ctX2_isIn (fl y) (fK y) hk.2.2.2.2.2.2.2.1 a0 0 600 w r h) ⟨Nat.le_of_ble_eq_true rfl, Nat.le_of_ble_eq_true rfl⟩ (Nat.le_of_ble_eq_true rfl) dX2_aim_5 (fun r1 => ?_)
  refine V_if_eq (pc := 8) (tgt := 22) hk dX2_aim_8 rfl ?_ ?_
  · refine V_iconst (pc := 22) (v := 0) hk dX2_aim_22 rfl ?_
    exact V_zreturn (pc := 23) hk hR rfl dX2_aim_23
  · refine V_aload_n (pc := 11) hk dX2_aim_11 0 rfl ?_
    refine g_X2_7 (pc := 12) hk dX2_aim_12 (fun v2 => ?_)
    refine V_bipush (pc := 15) (v := 15) hk dX2_aim_15 rfl ?_
    refine V_iaload (pc := 17) hk dX2_aim_17 (fun v3 => ?_)
    refine V_iload_n (pc := 18) hk dX2_aim_18 1 rfl ?_
    refine V_icmp_ne (pc := 19) (tgt := 24) hk dX2_aim_19 rfl ?_ ?_
    · refine V_aload_n (pc := 24) hk dX2_aim_24 0 rfl ?_
      refine n_X2_329 (pc := 25) hk (fun b r h => ctX2_keep (fl y) (fK y) hk.2.2.2.2.2.2.2.1 b r1.2 r h) ⟨Nat.le_of_ble_eq_true rfl, Nat.le_of_ble_eq_true rfl⟩ (Nat.le_of_ble_eq_true rfl) dX2_aim_25 (fun r4 => ?_)
      refine V_aload_n (pc := 28) hk dX2_aim_28 0 rfl ?_
      refine g_X2_7 (pc := 29) hk dX2_aim_29 (fun v6 => ?_)
      refine V_bipush (pc := 32) (v := 15) hk dX2_aim_32 rfl ?_
      refine V_iload_n (pc := 34) hk dX2_aim_34 1 rfl ?_
      refine V_iastore (pc := 35) hk dX2_aim_35 (fun w7 => ?_)
      refine V_iconst (pc := 36) (v := 1) hk dX2_aim_36 rfl ?_
      exact V_zreturn (pc := 37) hk hR rfl dX2_aim_37
    · refine V_iconst (pc := 22) (v := 0) hk dX2_aim_22 rfl ?_
      exact V_zreturn (pc := 23) hk hR rfl dX2_aim_23
theorem ctX2_aim (l : Launch) (K : Kx) (hI : Ini K) (b : Nat) (a0 : Int32) (w : Wd) : ∀ r, mX2_aim b a0 w = some r → Ct l K 4 104 yX2_aim (ws_ yX2_aim cX2_aim 2 (some (.boolean))) [.ref b, .int a0] w (rvI r.1) r.2 := Ct_of rvI l K hI 4 104 [.ref b, .int a0] w (by decide) (lc0 := [(0, .ref b), (1, .int a0)]) rfl (Nat.le_of_ble_eq_true rfl) (fun y hk hR _ _ hin => eX2_aim hk hR b a0 w)
noncomputable def mX2_isOrder (this : Nat) (a0 : Int32) (w : Wd) : Option (Int32 × Wd) :=
(gR w ((some this)) 2 0).bind fun v1 =>
(ia w v1 0).bind fun v2 =>
(cal w (mX2_isIn a0 0 (v2 - 1) w)).bind fun r3 =>
(nok (.boolean) r3.1).bind fun _ => some (r3.1, r3.2)
theorem eX2_isOrder {y : Fx (Int32 × Wd)} (hk : OkF y RX2 cX2_isOrder 2 3 82) (hR : RetM y rvI (some (.boolean))) (this : Nat) (a0 : Int32) (w : Wd) : V y w [(0, va_rf (some this)), (1, .int a0)] [] 0 (mX2_isOrder this a0 w) := by
  unfold mX2_isOrder
  refine V_iload_n (pc := 0) hk dX2_isOrder_0 1 rfl ?_
  refine V_iconst (pc := 1) (v := 0) hk dX2_isOrder_1 rfl ?_
  refine V_aload_n (pc := 2) hk dX2_isOrder_2 0 rfl ?_
  refine g_X2_7 (pc := 3) hk dX2_isOrder_3 (fun v1 => ?_)
  refine V_iconst (pc := 6) (v := 0) hk dX2_isOrder_6 rfl ?_
  refine V_iaload (pc := 7) hk dX2_isOrder_7 (fun v2 => ?_)
  refine V_iconst (pc := 8) (v := 1) hk dX2_isOrder_8 rfl ?_
  refine V_isub (pc := 9) hk dX2_isOrder_9 ?_
  refine n_X2_71 (pc := 10) hk (fun r h => ctX2_isIn (fl y) (fK y) hk.2.2.2.2.2.2.2.1 a0 0 (v2 - 1) w r h) ⟨Nat.le_of_ble_eq_true rfl, Nat.le_of_ble_eq_true rfl⟩ (Nat.le_of_ble_eq_true rfl) dX2_isOrder_10 (fun r3 => ?_)
  exact V_zreturn (pc := 13) hk hR rfl dX2_isOrder_13
theorem ctX2_isOrder (l : Launch) (K : Kx) (hI : Ini K) (b : Nat) (a0 : Int32) (w : Wd) : ∀ r, mX2_isOrder b a0 w = some r → Ct l K 3 82 yX2_isOrder (ws_ yX2_isOrder cX2_isOrder 2 (some (.boolean))) [.ref b, .int a0] w (rvI r.1) r.2 := Ct_of rvI l K hI 3 82 [.ref b, .int a0] w (by decide) (lc0 := [(0, .ref b), (1, .int a0)]) rfl (Nat.le_of_ble_eq_true rfl) (fun y hk hR _ _ hin => eX2_isOrder hk hR b a0 w)
noncomputable def mX2_hook (this : Nat) (a0 : Int32) (w : Wd) : Option (Int32 × Wd) :=
(recv w ((some this)) 2).bind fun b2 => (cal w (mX2_isOrder b2 a0 w)).bind fun r1 =>
if r1.1 = 0 then (
(nok (.boolean) 0).bind fun _ => some (0, r1.2))
else (
(gR r1.2 ((some this)) 2 0).bind fun v3 =>
(ia r1.2 v3 17).bind fun v4 =>
if ¬ v4 = (-1) then (
(nok (.boolean) 0).bind fun _ => some (0, r1.2))
else (
(recv r1.2 ((some this)) 2).bind fun b6 => (cal r1.2 (mX2_get b6 a0 5 r1.2)).bind fun r5 =>
if ¬ r5.1 = 1 then (
(recv r5.2 ((some this)) 2).bind fun b8 => (cal r5.2 (mX2_keep b8 r5.2)).bind fun r7 =>
(gR r7.2 ((some this)) 2 0).bind fun v9 =>
(ias r7.2 v9 17 a0).bind fun w10 =>
(gR w10 ((some this)) 2 0).bind fun v11 =>
(recv w10 ((some this)) 2).bind fun b13 => (cal w10 (mX2_get b13 a0 0 w10)).bind fun r12 =>
(ias r12.2 v11 13 r12.1).bind fun w14 =>
(gR w14 ((some this)) 2 0).bind fun v15 =>
(recv w14 ((some this)) 2).bind fun b17 => (cal w14 (mX2_get b17 a0 1 w14)).bind fun r16 =>
(ias r16.2 v15 15 (10 * r16.1)).bind fun w18 =>
(nok (.boolean) 1).bind fun _ => some (1, w18))
else (
(nok (.boolean) 0).bind fun _ => some (0, r5.2))))
theorem eX2_hook {y : Fx (Int32 × Wd)} (hk : OkF y RX2 cX2_hook 2 4 104) (hR : RetM y rvI (some (.boolean))) (this : Nat) (a0 : Int32) (w : Wd) : V y w [(0, va_rf (some this)), (1, .int a0)] [] 0 (mX2_hook this a0 w) := by
  unfold mX2_hook
  refine V_aload_n (pc := 0) hk dX2_hook_0 0 rfl ?_
  refine V_iload_n (pc := 1) hk dX2_hook_1 1 rfl ?_
  refine n_X2_344 (pc := 2) hk (fun b r h => ctX2_isOrder (fl y) (fK y) hk.2.2.2.2.2.2.2.1 b a0 w r h) ⟨Nat.le_of_ble_eq_true rfl, Nat.le_of_ble_eq_true rfl⟩ (Nat.le_of_ble_eq_true rfl) dX2_hook_2 (fun r1 => ?_)
  refine V_if_eq (pc := 5) (tgt := 29) hk dX2_hook_5 rfl ?_ ?_
  · refine V_iconst (pc := 29) (v := 0) hk dX2_hook_29 rfl ?_
    exact V_zreturn (pc := 30) hk hR rfl dX2_hook_30
  · refine V_aload_n (pc := 8) hk dX2_hook_8 0 rfl ?_
    refine g_X2_7 (pc := 9) hk dX2_hook_9 (fun v3 => ?_)
    refine V_bipush (pc := 12) (v := 17) hk dX2_hook_12 rfl ?_
    refine V_iaload (pc := 14) hk dX2_hook_14 (fun v4 => ?_)
    refine V_iconst (pc := 15) (v := (-1)) hk dX2_hook_15 (by decide +kernel) ?_
    refine V_icmp_ne (pc := 16) (tgt := 29) hk dX2_hook_16 rfl ?_ ?_
    · refine V_iconst (pc := 29) (v := 0) hk dX2_hook_29 rfl ?_
      exact V_zreturn (pc := 30) hk hR rfl dX2_hook_30
    · refine V_aload_n (pc := 19) hk dX2_hook_19 0 rfl ?_
      refine V_iload_n (pc := 20) hk dX2_hook_20 1 rfl ?_
      refine V_iconst (pc := 21) (v := 5) hk dX2_hook_21 rfl ?_
      refine n_X2_295 (pc := 22) hk (fun b r h => ctX2_get (fl y) (fK y) hk.2.2.2.2.2.2.2.1 b a0 5 r1.2 r h) ⟨Nat.le_of_ble_eq_true rfl, Nat.le_of_ble_eq_true rfl⟩ (Nat.le_of_ble_eq_true rfl) dX2_hook_22 (fun r5 => ?_)
      refine V_iconst (pc := 25) (v := 1) hk dX2_hook_25 rfl ?_
      refine V_icmp_ne (pc := 26) (tgt := 31) hk dX2_hook_26 rfl ?_ ?_
      · refine V_aload_n (pc := 31) hk dX2_hook_31 0 rfl ?_
        refine n_X2_329 (pc := 32) hk (fun b r h => ctX2_keep (fl y) (fK y) hk.2.2.2.2.2.2.2.1 b r5.2 r h) ⟨Nat.le_of_ble_eq_true rfl, Nat.le_of_ble_eq_true rfl⟩ (Nat.le_of_ble_eq_true rfl) dX2_hook_32 (fun r7 => ?_)
        refine V_aload_n (pc := 35) hk dX2_hook_35 0 rfl ?_
        refine g_X2_7 (pc := 36) hk dX2_hook_36 (fun v9 => ?_)
        refine V_bipush (pc := 39) (v := 17) hk dX2_hook_39 rfl ?_
        refine V_iload_n (pc := 41) hk dX2_hook_41 1 rfl ?_
        refine V_iastore (pc := 42) hk dX2_hook_42 (fun w10 => ?_)
        refine V_aload_n (pc := 43) hk dX2_hook_43 0 rfl ?_
        refine g_X2_7 (pc := 44) hk dX2_hook_44 (fun v11 => ?_)
        refine V_bipush (pc := 47) (v := 13) hk dX2_hook_47 rfl ?_
        refine V_aload_n (pc := 49) hk dX2_hook_49 0 rfl ?_
        refine V_iload_n (pc := 50) hk dX2_hook_50 1 rfl ?_
        refine V_iconst (pc := 51) (v := 0) hk dX2_hook_51 rfl ?_
        refine n_X2_295 (pc := 52) hk (fun b r h => ctX2_get (fl y) (fK y) hk.2.2.2.2.2.2.2.1 b a0 0 w10 r h) ⟨Nat.le_of_ble_eq_true rfl, Nat.le_of_ble_eq_true rfl⟩ (by simp [rf_cat, cat_int, cat_long, cat_ref]) dX2_hook_52 (fun r12 => ?_)
        refine V_iastore (pc := 55) hk dX2_hook_55 (fun w14 => ?_)
        refine V_aload_n (pc := 56) hk dX2_hook_56 0 rfl ?_
        refine g_X2_7 (pc := 57) hk dX2_hook_57 (fun v15 => ?_)
        refine V_bipush (pc := 60) (v := 15) hk dX2_hook_60 rfl ?_
        refine V_bipush (pc := 62) (v := 10) hk dX2_hook_62 rfl ?_
        refine V_aload_n (pc := 64) hk dX2_hook_64 0 rfl ?_
        refine V_iload_n (pc := 65) hk dX2_hook_65 1 rfl ?_
        refine V_iconst (pc := 66) (v := 1) hk dX2_hook_66 rfl ?_
        refine n_X2_295 (pc := 67) hk (fun b r h => ctX2_get (fl y) (fK y) hk.2.2.2.2.2.2.2.1 b a0 1 w14 r h) ⟨Nat.le_of_ble_eq_true rfl, Nat.le_of_ble_eq_true rfl⟩ (by simp [rf_cat, cat_int, cat_long, cat_ref]) dX2_hook_67 (fun r16 => ?_)
        refine V_imul (pc := 70) hk dX2_hook_70 ?_
        refine V_iastore (pc := 71) hk dX2_hook_71 (fun w18 => ?_)
        refine V_iconst (pc := 72) (v := 1) hk dX2_hook_72 rfl ?_
        exact V_zreturn (pc := 73) hk hR rfl dX2_hook_73
      · refine V_iconst (pc := 29) (v := 0) hk dX2_hook_29 rfl ?_
        exact V_zreturn (pc := 30) hk hR rfl dX2_hook_30
theorem ctX2_hook (l : Launch) (K : Kx) (hI : Ini K) (b : Nat) (a0 : Int32) (w : Wd) : ∀ r, mX2_hook b a0 w = some r → Ct l K 4 104 yX2_hook (ws_ yX2_hook cX2_hook 2 (some (.boolean))) [.ref b, .int a0] w (rvI r.1) r.2 := Ct_of rvI l K hI 4 104 [.ref b, .int a0] w (by decide) (lc0 := [(0, .ref b), (1, .int a0)]) rfl (Nat.le_of_ble_eq_true rfl) (fun y hk hR _ _ hin => eX2_hook hk hR b a0 w)
noncomputable def mX2_sizeOf (a0 : Int32) (w : Wd) : Option (Int32 × Wd) :=
if 0 ≤ a0 then (
some (a0, w))
else (
some (-a0, w))
theorem eX2_sizeOf {y : Fx (Int32 × Wd)} (hk : OkF y RX2 cX2_sizeOf 1 2 60) (hR : RetM y rvI (some (.int))) (a0 : Int32) (w : Wd) : V y w [(0, .int a0)] [] 0 (mX2_sizeOf a0 w) := by
  unfold mX2_sizeOf
  refine V_iload_n (pc := 0) hk dX2_sizeOf_0 0 rfl ?_
  refine V_if_ge (pc := 1) (tgt := 9) hk dX2_sizeOf_1 rfl ?_ ?_
  · refine V_iload_n (pc := 9) hk dX2_sizeOf_9 0 rfl ?_
    exact V_ireturn (pc := 10) hk hR rfl dX2_sizeOf_10
  · refine V_iload_n (pc := 4) hk dX2_sizeOf_4 0 rfl ?_
    refine V_ineg (pc := 5) hk dX2_sizeOf_5 ?_
    refine V_goto (pc := 6) (tgt := 10) hk dX2_sizeOf_6 rfl ?_
    exact V_ireturn (pc := 10) hk hR rfl dX2_sizeOf_10
theorem ctX2_sizeOf (l : Launch) (K : Kx) (hI : Ini K) (a0 : Int32) (w : Wd) : ∀ r, mX2_sizeOf a0 w = some r → Ct l K 2 60 yX2_sizeOf (ws_ yX2_sizeOf cX2_sizeOf 1 (some (.int))) [.int a0] w (rvI r.1) r.2 := Ct_of rvI l K hI 2 60 [.int a0] w (by decide) (lc0 := [(0, .int a0)]) rfl (Nat.le_of_ble_eq_true rfl) (fun y hk hR _ _ hin => eX2_sizeOf hk hR a0 w)
noncomputable def mX2_hangsStill (this : Nat) (w : Wd) : Option (Int32 × Wd) :=
(gR w ((some this)) 2 0).bind fun v1 =>
(ia w v1 9).bind fun v2 =>
if ¬ v2 = 0 then (
(nok (.boolean) 0).bind fun _ => some (0, w))
else (
(gR w ((some this)) 2 0).bind fun v3 =>
(ia w v3 8).bind fun v4 =>
(gR w ((some this)) 2 0).bind fun v5 =>
(ia w v5 15).bind fun v6 =>
(cal w (mX2_sizeOf (v4 - v6) w)).bind fun r7 =>
(gR r7.2 ((some this)) 2 0).bind fun v8 =>
(ia r7.2 v8 1).bind fun v9 =>
if v9 < r7.1 then (
(nok (.boolean) 0).bind fun _ => some (0, r7.2))
else (
(recv r7.2 ((some this)) 2).bind fun b11 => (cal r7.2 (mX2_away b11 r7.2)).bind fun r10 =>
(cal r10.2 (mX2_sizeOf r10.1 r10.2)).bind fun r12 =>
(gR r12.2 ((some this)) 2 0).bind fun v13 =>
(ia r12.2 v13 1).bind fun v14 =>
if v14 < r12.1 then (
(nok (.boolean) 0).bind fun _ => some (0, r12.2))
else (
(gR r12.2 ((some this)) 2 0).bind fun v15 =>
(ia r12.2 v15 11).bind fun v16 =>
(cal r12.2 (mX2_sizeOf v16 r12.2)).bind fun r17 =>
if 1 < r17.1 then (
(nok (.boolean) 0).bind fun _ => some (0, r17.2))
else (
(nok (.boolean) 1).bind fun _ => some (1, r17.2)))))
theorem eX2_hangsStill {y : Fx (Int32 × Wd)} (hk : OkF y RX2 cX2_hangsStill 1 3 80) (hR : RetM y rvI (some (.boolean))) (this : Nat) (w : Wd) : V y w [(0, va_rf (some this))] [] 0 (mX2_hangsStill this w) := by
  unfold mX2_hangsStill
  refine V_aload_n (pc := 0) hk dX2_hangsStill_0 0 rfl ?_
  refine g_X2_7 (pc := 1) hk dX2_hangsStill_1 (fun v1 => ?_)
  refine V_bipush (pc := 4) (v := 9) hk dX2_hangsStill_4 rfl ?_
  refine V_iaload (pc := 6) hk dX2_hangsStill_6 (fun v2 => ?_)
  refine V_if_ne (pc := 7) (tgt := 71) hk dX2_hangsStill_7 rfl ?_ ?_
  · refine V_iconst (pc := 71) (v := 0) hk dX2_hangsStill_71 rfl ?_
    exact V_zreturn (pc := 72) hk hR rfl dX2_hangsStill_72
  · refine V_aload_n (pc := 10) hk dX2_hangsStill_10 0 rfl ?_
    refine g_X2_7 (pc := 11) hk dX2_hangsStill_11 (fun v3 => ?_)
    refine V_bipush (pc := 14) (v := 8) hk dX2_hangsStill_14 rfl ?_
    refine V_iaload (pc := 16) hk dX2_hangsStill_16 (fun v4 => ?_)
    refine V_aload_n (pc := 17) hk dX2_hangsStill_17 0 rfl ?_
    refine g_X2_7 (pc := 18) hk dX2_hangsStill_18 (fun v5 => ?_)
    refine V_bipush (pc := 21) (v := 15) hk dX2_hangsStill_21 rfl ?_
    refine V_iaload (pc := 23) hk dX2_hangsStill_23 (fun v6 => ?_)
    refine V_isub (pc := 24) hk dX2_hangsStill_24 ?_
    refine n_X2_323 (pc := 25) hk (fun r h => ctX2_sizeOf (fl y) (fK y) hk.2.2.2.2.2.2.2.1 (v4 - v6) w r h) ⟨Nat.le_of_ble_eq_true rfl, Nat.le_of_ble_eq_true rfl⟩ (Nat.le_of_ble_eq_true rfl) dX2_hangsStill_25 (fun r7 => ?_)
    refine V_aload_n (pc := 28) hk dX2_hangsStill_28 0 rfl ?_
    refine g_X2_7 (pc := 29) hk dX2_hangsStill_29 (fun v8 => ?_)
    refine V_iconst (pc := 32) (v := 1) hk dX2_hangsStill_32 rfl ?_
    refine V_iaload (pc := 33) hk dX2_hangsStill_33 (fun v9 => ?_)
    refine V_icmp_gt (pc := 34) (tgt := 71) hk dX2_hangsStill_34 rfl ?_ ?_
    · refine V_iconst (pc := 71) (v := 0) hk dX2_hangsStill_71 rfl ?_
      exact V_zreturn (pc := 72) hk hR rfl dX2_hangsStill_72
    · refine V_aload_n (pc := 37) hk dX2_hangsStill_37 0 rfl ?_
      refine n_X2_292 (pc := 38) hk (fun b r h => ctX2_away (fl y) (fK y) hk.2.2.2.2.2.2.2.1 b r7.2 r h) ⟨Nat.le_of_ble_eq_true rfl, Nat.le_of_ble_eq_true rfl⟩ (Nat.le_of_ble_eq_true rfl) dX2_hangsStill_38 (fun r10 => ?_)
      refine n_X2_323 (pc := 41) hk (fun r h => ctX2_sizeOf (fl y) (fK y) hk.2.2.2.2.2.2.2.1 r10.1 r10.2 r h) ⟨Nat.le_of_ble_eq_true rfl, Nat.le_of_ble_eq_true rfl⟩ (Nat.le_of_ble_eq_true rfl) dX2_hangsStill_41 (fun r12 => ?_)
      refine V_aload_n (pc := 44) hk dX2_hangsStill_44 0 rfl ?_
      refine g_X2_7 (pc := 45) hk dX2_hangsStill_45 (fun v13 => ?_)
      refine V_iconst (pc := 48) (v := 1) hk dX2_hangsStill_48 rfl ?_
      refine V_iaload (pc := 49) hk dX2_hangsStill_49 (fun v14 => ?_)
      refine V_icmp_gt (pc := 50) (tgt := 71) hk dX2_hangsStill_50 rfl ?_ ?_
      · refine V_iconst (pc := 71) (v := 0) hk dX2_hangsStill_71 rfl ?_
        exact V_zreturn (pc := 72) hk hR rfl dX2_hangsStill_72
      · refine V_aload_n (pc := 53) hk dX2_hangsStill_53 0 rfl ?_
        refine g_X2_7 (pc := 54) hk dX2_hangsStill_54 (fun v15 => ?_)
        refine V_bipush (pc := 57) (v := 11) hk dX2_hangsStill_57 rfl ?_
        refine V_iaload (pc := 59) hk dX2_hangsStill_59 (fun v16 => ?_)
        refine n_X2_323 (pc := 60) hk (fun r h => ctX2_sizeOf (fl y) (fK y) hk.2.2.2.2.2.2.2.1 v16 r12.2 r h) ⟨Nat.le_of_ble_eq_true rfl, Nat.le_of_ble_eq_true rfl⟩ (Nat.le_of_ble_eq_true rfl) dX2_hangsStill_60 (fun r17 => ?_)
        refine V_iconst (pc := 63) (v := 1) hk dX2_hangsStill_63 rfl ?_
        refine V_icmp_gt (pc := 64) (tgt := 71) hk dX2_hangsStill_64 rfl ?_ ?_
        · refine V_iconst (pc := 71) (v := 0) hk dX2_hangsStill_71 rfl ?_
          exact V_zreturn (pc := 72) hk hR rfl dX2_hangsStill_72
        · refine V_iconst (pc := 67) (v := 1) hk dX2_hangsStill_67 rfl ?_
          refine V_goto (pc := 68) (tgt := 72) hk dX2_hangsStill_68 rfl ?_
          exact V_zreturn (pc := 72) hk hR rfl dX2_hangsStill_72
theorem ctX2_hangsStill (l : Launch) (K : Kx) (hI : Ini K) (b : Nat) (w : Wd) : ∀ r, mX2_hangsStill b w = some r → Ct l K 3 80 yX2_hangsStill (ws_ yX2_hangsStill cX2_hangsStill 1 (some (.boolean))) [.ref b] w (rvI r.1) r.2 := Ct_of rvI l K hI 3 80 [.ref b] w (by decide) (lc0 := [(0, .ref b)]) rfl (Nat.le_of_ble_eq_true rfl) (fun y hk hR _ _ hin => eX2_hangsStill hk hR b w)
noncomputable def mX2_land (this : Nat) (w : Wd) : Option (Int32 × Wd) :=
(gR w ((some this)) 2 0).bind fun v1 =>
(ia w v1 17).bind fun v2 =>
if v2 = (-1) then (
some ((-1), w))
else (
(recv w ((some this)) 2).bind fun b4 => (cal w (mX2_hangsStill b4 w)).bind fun r3 =>
if ¬ r3.1 = 0 then (
(recv r3.2 ((some this)) 2).bind fun b6 => (cal r3.2 (mX2_keep b6 r3.2)).bind fun r5 =>
(gR r5.2 ((some this)) 2 0).bind fun v7 =>
(gR r5.2 ((some this)) 2 0).bind fun v8 =>
(ia r5.2 v8 7).bind fun v9 =>
(irm v9 64).bind fun v10 =>
(ias r5.2 v7 (474 + (2 * v10)) v2).bind fun w11 =>
(gR w11 ((some this)) 2 0).bind fun v12 =>
(gR w11 ((some this)) 2 0).bind fun v13 =>
(ia w11 v13 7).bind fun v14 =>
(irm v14 64).bind fun v15 =>
(gR w11 ((some this)) 2 0).bind fun v16 =>
(ia w11 v16 16).bind fun v17 =>
(ias w11 v12 ((474 + (2 * v15)) + 1) v17).bind fun w18 =>
(gR w18 ((some this)) 2 0).bind fun v19 =>
(ia w18 v19 7).bind fun v20 =>
(ias w18 v19 7 (v20 + 1)).bind fun w21 =>
(gR w21 ((some this)) 2 0).bind fun v22 =>
(ias w21 v22 ((20 + (6 * v2)) + 5) 1).bind fun w23 =>
(gR w23 ((some this)) 2 0).bind fun v24 =>
(ias w23 v24 17 (-1)).bind fun w25 =>
(gR w25 ((some this)) 2 0).bind fun v26 =>
(ias w25 v26 13 0).bind fun w27 =>
some (v2, w27))
else (
some ((-1), r3.2)))
theorem eX2_land {y : Fx (Int32 × Wd)} (hk : OkF y RX2 cX2_land 2 4 104) (hR : RetM y rvI (some (.int))) (this : Nat) (w : Wd) : V y w [(0, va_rf (some this))] [] 0 (mX2_land this w) := by
  unfold mX2_land
  refine V_aload_n (pc := 0) hk dX2_land_0 0 rfl ?_
  refine g_X2_7 (pc := 1) hk dX2_land_1 (fun v1 => ?_)
  refine V_bipush (pc := 4) (v := 17) hk dX2_land_4 rfl ?_
  refine V_iaload (pc := 6) hk dX2_land_6 (fun v2 => ?_)
  refine V_istore_n (pc := 7) (lc' := [(1, .int v2), (0, va_rf ((some this)))]) (i := 1) hk dX2_land_7 rfl (Nat.le_of_ble_eq_true rfl) (by simp [rf_cat, cat_int, cat_long, cat_ref]) ?_
  refine V_iload_n (pc := 8) hk dX2_land_8 0 rfl ?_
  refine V_iconst (pc := 9) (v := (-1)) hk dX2_land_9 (by decide +kernel) ?_
  refine V_icmp_eq (pc := 10) (tgt := 20) hk dX2_land_10 rfl ?_ ?_
  · refine V_iconst (pc := 20) (v := (-1)) hk dX2_land_20 (by decide +kernel) ?_
    exact V_ireturn (pc := 21) hk hR rfl dX2_land_21
  · refine V_aload_n (pc := 13) hk dX2_land_13 1 rfl ?_
    refine n_X2_347 (pc := 14) hk (fun b r h => ctX2_hangsStill (fl y) (fK y) hk.2.2.2.2.2.2.2.1 b w r h) ⟨Nat.le_of_ble_eq_true rfl, Nat.le_of_ble_eq_true rfl⟩ (Nat.le_of_ble_eq_true rfl) dX2_land_14 (fun r3 => ?_)
    refine V_if_ne (pc := 17) (tgt := 22) hk dX2_land_17 rfl ?_ ?_
    · refine V_aload_n (pc := 22) hk dX2_land_22 1 rfl ?_
      refine n_X2_329 (pc := 23) hk (fun b r h => ctX2_keep (fl y) (fK y) hk.2.2.2.2.2.2.2.1 b r3.2 r h) ⟨Nat.le_of_ble_eq_true rfl, Nat.le_of_ble_eq_true rfl⟩ (Nat.le_of_ble_eq_true rfl) dX2_land_23 (fun r5 => ?_)
      refine V_aload_n (pc := 26) hk dX2_land_26 1 rfl ?_
      refine g_X2_7 (pc := 27) hk dX2_land_27 (fun v7 => ?_)
      refine V_sipush (pc := 30) (v := 474) hk dX2_land_30 rfl ?_
      refine V_iconst (pc := 33) (v := 2) hk dX2_land_33 rfl ?_
      refine V_aload_n (pc := 34) hk dX2_land_34 1 rfl ?_
      refine g_X2_7 (pc := 35) hk dX2_land_35 (fun v8 => ?_)
      refine V_bipush (pc := 38) (v := 7) hk dX2_land_38 rfl ?_
      refine V_iaload (pc := 40) hk dX2_land_40 (fun v9 => ?_)
      refine V_bipush (pc := 41) (v := 64) hk dX2_land_41 rfl ?_
      refine V_irem (pc := 43) hk dX2_land_43 (fun v10 => ?_)
      refine V_imul (pc := 44) hk dX2_land_44 ?_
      refine V_iadd (pc := 45) hk dX2_land_45 ?_
      refine V_iload_n (pc := 46) hk dX2_land_46 0 rfl ?_
      refine V_iastore (pc := 47) hk dX2_land_47 (fun w11 => ?_)
      refine V_aload_n (pc := 48) hk dX2_land_48 1 rfl ?_
      refine g_X2_7 (pc := 49) hk dX2_land_49 (fun v12 => ?_)
      refine V_sipush (pc := 52) (v := 474) hk dX2_land_52 rfl ?_
      refine V_iconst (pc := 55) (v := 2) hk dX2_land_55 rfl ?_
      refine V_aload_n (pc := 56) hk dX2_land_56 1 rfl ?_
      refine g_X2_7 (pc := 57) hk dX2_land_57 (fun v13 => ?_)
      refine V_bipush (pc := 60) (v := 7) hk dX2_land_60 rfl ?_
      refine V_iaload (pc := 62) hk dX2_land_62 (fun v14 => ?_)
      refine V_bipush (pc := 63) (v := 64) hk dX2_land_63 rfl ?_
      refine V_irem (pc := 65) hk dX2_land_65 (fun v15 => ?_)
      refine V_imul (pc := 66) hk dX2_land_66 ?_
      refine V_iadd (pc := 67) hk dX2_land_67 ?_
      refine V_iconst (pc := 68) (v := 1) hk dX2_land_68 rfl ?_
      refine V_iadd (pc := 69) hk dX2_land_69 ?_
      refine V_aload_n (pc := 70) hk dX2_land_70 1 rfl ?_
      refine g_X2_7 (pc := 71) hk dX2_land_71 (fun v16 => ?_)
      refine V_bipush (pc := 74) (v := 16) hk dX2_land_74 rfl ?_
      refine V_iaload (pc := 76) hk dX2_land_76 (fun v17 => ?_)
      refine V_iastore (pc := 77) hk dX2_land_77 (fun w18 => ?_)
      refine V_aload_n (pc := 78) hk dX2_land_78 1 rfl ?_
      refine g_X2_7 (pc := 79) hk dX2_land_79 (fun v19 => ?_)
      refine V_bipush (pc := 82) (v := 7) hk dX2_land_82 rfl ?_
      refine V_dup2 (pc := 84) hk dX2_land_84 rfl (rf_cat _) ?_
      refine V_iaload (pc := 85) hk dX2_land_85 (fun v20 => ?_)
      refine V_iconst (pc := 86) (v := 1) hk dX2_land_86 rfl ?_
      refine V_iadd (pc := 87) hk dX2_land_87 ?_
      refine V_iastore (pc := 88) hk dX2_land_88 (fun w21 => ?_)
      refine V_aload_n (pc := 89) hk dX2_land_89 1 rfl ?_
      refine g_X2_7 (pc := 90) hk dX2_land_90 (fun v22 => ?_)
      refine V_bipush (pc := 93) (v := 20) hk dX2_land_93 rfl ?_
      refine V_bipush (pc := 95) (v := 6) hk dX2_land_95 rfl ?_
      refine V_iload_n (pc := 97) hk dX2_land_97 0 rfl ?_
      refine V_imul (pc := 98) hk dX2_land_98 ?_
      refine V_iadd (pc := 99) hk dX2_land_99 ?_
      refine V_iconst (pc := 100) (v := 5) hk dX2_land_100 rfl ?_
      refine V_iadd (pc := 101) hk dX2_land_101 ?_
      refine V_iconst (pc := 102) (v := 1) hk dX2_land_102 rfl ?_
      refine V_iastore (pc := 103) hk dX2_land_103 (fun w23 => ?_)
      refine V_aload_n (pc := 104) hk dX2_land_104 1 rfl ?_
      refine g_X2_7 (pc := 105) hk dX2_land_105 (fun v24 => ?_)
      refine V_bipush (pc := 108) (v := 17) hk dX2_land_108 rfl ?_
      refine V_iconst (pc := 110) (v := (-1)) hk dX2_land_110 (by decide +kernel) ?_
      refine V_iastore (pc := 111) hk dX2_land_111 (fun w25 => ?_)
      refine V_aload_n (pc := 112) hk dX2_land_112 1 rfl ?_
      refine g_X2_7 (pc := 113) hk dX2_land_113 (fun v26 => ?_)
      refine V_bipush (pc := 116) (v := 13) hk dX2_land_116 rfl ?_
      refine V_iconst (pc := 118) (v := 0) hk dX2_land_118 rfl ?_
      refine V_iastore (pc := 119) hk dX2_land_119 (fun w27 => ?_)
      refine V_iload_n (pc := 120) hk dX2_land_120 0 rfl ?_
      exact V_ireturn (pc := 121) hk hR rfl dX2_land_121
    · refine V_iconst (pc := 20) (v := (-1)) hk dX2_land_20 (by decide +kernel) ?_
      exact V_ireturn (pc := 21) hk hR rfl dX2_land_21
theorem ctX2_land (l : Launch) (K : Kx) (hI : Ini K) (b : Nat) (w : Wd) : ∀ r, mX2_land b w = some r → Ct l K 4 104 yX2_land (ws_ yX2_land cX2_land 2 (some (.int))) [.ref b] w (rvI r.1) r.2 := Ct_of rvI l K hI 4 104 [.ref b] w (by decide) (lc0 := [(0, .ref b)]) rfl (Nat.le_of_ble_eq_true rfl) (fun y hk hR _ _ hin => eX2_land hk hR b w)
noncomputable def mX2_isPlayed (this : Nat) (a0 : Int32) (w : Wd) : Option (Int32 × Wd) :=
(gR w ((some this)) 2 2).bind fun v1 =>
(ia w v1 (a0 + 1)).bind fun v2 =>
(gR w ((some this)) 2 2).bind fun v3 =>
(ia w v3 a0).bind fun v4 =>
if v4 = 5 then (
(gR w ((some this)) 2 2).bind fun v5 =>
(ia w v5 (a0 + 2)).bind fun v6 =>
(gR w ((some this)) 2 2).bind fun v7 =>
(ia w v7 (a0 + 3)).bind fun v8 =>
(gR w ((some this)) 2 2).bind fun v9 =>
(ia w v9 (a0 + 4)).bind fun v10 =>
(gR w ((some this)) 2 2).bind fun v11 =>
(ia w v11 (a0 + 5)).bind fun v12 =>
(recv w ((some this)) 2).bind fun b14 => (cal w (mX2_order b14 v2 v6 v8 v10 v12 w)).bind fun r13 =>
if r13.1 < 0 then (
(nok (.boolean) 0).bind fun _ => some (0, r13.2))
else (
(nok (.boolean) 1).bind fun _ => some (1, r13.2)))
else (
if v4 = 6 then (
(recv w ((some this)) 2).bind fun b16 => (cal w (mX2_isTenth b16 v2 w)).bind fun r15 =>
(nok (.boolean) r15.1).bind fun _ => some (r15.1, r15.2))
else (
if v4 = 7 then (
(recv w ((some this)) 2).bind fun b18 => (cal w (mX2_areRun b18 v2 w)).bind fun r17 =>
(nok (.boolean) r17.1).bind fun _ => some (r17.1, r17.2))
else (
if v4 = 8 then (
(recv w ((some this)) 2).bind fun b20 => (cal w (mX2_hoist b20 v2 w)).bind fun r19 =>
(nok (.boolean) r19.1).bind fun _ => some (r19.1, r19.2))
else (
if v4 = 9 then (
(recv w ((some this)) 2).bind fun b22 => (cal w (mX2_aim b22 v2 w)).bind fun r21 =>
(nok (.boolean) r21.1).bind fun _ => some (r21.1, r21.2))
else (
if v4 = 10 then (
(recv w ((some this)) 2).bind fun b24 => (cal w (mX2_hook b24 v2 w)).bind fun r23 =>
(nok (.boolean) r23.1).bind fun _ => some (r23.1, r23.2))
else (
if v4 = 11 then (
(recv w ((some this)) 2).bind fun b26 => (cal w (mX2_land b26 w)).bind fun r25 =>
if r25.1 < 0 then (
(nok (.boolean) 0).bind fun _ => some (0, r25.2))
else (
(nok (.boolean) 1).bind fun _ => some (1, r25.2)))
else (
(nok (.boolean) 1).bind fun _ => some (1, w))))))))
theorem eX2_isPlayed {y : Fx (Int32 × Wd)} (hk : OkF y RX2 cX2_isPlayed 3 9 224) (hR : RetM y rvI (some (.boolean))) (this : Nat) (a0 : Int32) (w : Wd) : V y w [(0, va_rf (some this)), (1, .int a0)] [] 0 (mX2_isPlayed this a0 w) := by
  unfold mX2_isPlayed
  refine V_aload_n (pc := 0) hk dX2_isPlayed_0 0 rfl ?_
  refine g_X2_16 (pc := 1) hk dX2_isPlayed_1 (fun v1 => ?_)
  refine V_iload_n (pc := 4) hk dX2_isPlayed_4 1 rfl ?_
  refine V_iconst (pc := 5) (v := 1) hk dX2_isPlayed_5 rfl ?_
  refine V_iadd (pc := 6) hk dX2_isPlayed_6 ?_
  refine V_iaload (pc := 7) hk dX2_isPlayed_7 (fun v2 => ?_)
  refine V_istore_n (pc := 8) (lc' := [(2, .int v2), (0, va_rf ((some this))), (1, .int a0)]) (i := 2) hk dX2_isPlayed_8 rfl (Nat.le_of_ble_eq_true rfl) rfl ?_
  refine V_aload_n (pc := 9) hk dX2_isPlayed_9 1 rfl ?_
  refine g_X2_16 (pc := 10) hk dX2_isPlayed_10 (fun v3 => ?_)
  refine V_iload_n (pc := 13) hk dX2_isPlayed_13 2 rfl ?_
  refine V_iaload (pc := 14) hk dX2_isPlayed_14 (fun v4 => ?_)
  refine V_if (fun hx => ?_) (fun hn5 => ?_)
  · refine V_tblIn (pc := 15) (tgt := 56) (off := 41) hk 5 hx dX2_isPlayed_15 (by decide) (by decide) (by decide +kernel) rfl ?_
    refine V_aload_n (pc := 56) hk dX2_isPlayed_56 1 rfl ?_
    refine V_iload_n (pc := 57) hk dX2_isPlayed_57 0 rfl ?_
    refine V_aload_n (pc := 58) hk dX2_isPlayed_58 1 rfl ?_
    refine g_X2_16 (pc := 59) hk dX2_isPlayed_59 (fun v5 => ?_)
    refine V_iload_n (pc := 62) hk dX2_isPlayed_62 2 rfl ?_
    refine V_iconst (pc := 63) (v := 2) hk dX2_isPlayed_63 rfl ?_
    refine V_iadd (pc := 64) hk dX2_isPlayed_64 ?_
    refine V_iaload (pc := 65) hk dX2_isPlayed_65 (fun v6 => ?_)
    refine V_aload_n (pc := 66) hk dX2_isPlayed_66 1 rfl ?_
    refine g_X2_16 (pc := 67) hk dX2_isPlayed_67 (fun v7 => ?_)
    refine V_iload_n (pc := 70) hk dX2_isPlayed_70 2 rfl ?_
    refine V_iconst (pc := 71) (v := 3) hk dX2_isPlayed_71 rfl ?_
    refine V_iadd (pc := 72) hk dX2_isPlayed_72 ?_
    refine V_iaload (pc := 73) hk dX2_isPlayed_73 (fun v8 => ?_)
    refine V_aload_n (pc := 74) hk dX2_isPlayed_74 1 rfl ?_
    refine g_X2_16 (pc := 75) hk dX2_isPlayed_75 (fun v9 => ?_)
    refine V_iload_n (pc := 78) hk dX2_isPlayed_78 2 rfl ?_
    refine V_iconst (pc := 79) (v := 4) hk dX2_isPlayed_79 rfl ?_
    refine V_iadd (pc := 80) hk dX2_isPlayed_80 ?_
    refine V_iaload (pc := 81) hk dX2_isPlayed_81 (fun v10 => ?_)
    refine V_aload_n (pc := 82) hk dX2_isPlayed_82 1 rfl ?_
    refine g_X2_16 (pc := 83) hk dX2_isPlayed_83 (fun v11 => ?_)
    refine V_iload_n (pc := 86) hk dX2_isPlayed_86 2 rfl ?_
    refine V_iconst (pc := 87) (v := 5) hk dX2_isPlayed_87 rfl ?_
    refine V_iadd (pc := 88) hk dX2_isPlayed_88 ?_
    refine V_iaload (pc := 89) hk dX2_isPlayed_89 (fun v12 => ?_)
    refine n_X2_350 (pc := 90) hk (fun b r h => ctX2_order (fl y) (fK y) hk.2.2.2.2.2.2.2.1 b v2 v6 v8 v10 v12 w r h) ⟨Nat.le_of_ble_eq_true rfl, Nat.le_of_ble_eq_true rfl⟩ (Nat.le_of_ble_eq_true rfl) dX2_isPlayed_90 (fun r13 => ?_)
    refine V_if_lt (pc := 93) (tgt := 100) hk dX2_isPlayed_93 rfl ?_ ?_
    · refine V_iconst (pc := 100) (v := 0) hk dX2_isPlayed_100 rfl ?_
      exact V_zreturn (pc := 101) hk hR rfl dX2_isPlayed_101
    · refine V_iconst (pc := 96) (v := 1) hk dX2_isPlayed_96 rfl ?_
      refine V_goto (pc := 97) (tgt := 101) hk dX2_isPlayed_97 rfl ?_
      exact V_zreturn (pc := 101) hk hR rfl dX2_isPlayed_101
  refine V_if (fun hx => ?_) (fun hn6 => ?_)
  · refine V_tblIn (pc := 15) (tgt := 102) (off := 87) hk 6 hx dX2_isPlayed_15 (by decide) (by decide) (by decide +kernel) rfl ?_
    refine V_aload_n (pc := 102) hk dX2_isPlayed_102 1 rfl ?_
    refine V_iload_n (pc := 103) hk dX2_isPlayed_103 0 rfl ?_
    refine n_X2_335 (pc := 104) hk (fun b r h => ctX2_isTenth (fl y) (fK y) hk.2.2.2.2.2.2.2.1 b v2 w r h) ⟨Nat.le_of_ble_eq_true rfl, Nat.le_of_ble_eq_true rfl⟩ (Nat.le_of_ble_eq_true rfl) dX2_isPlayed_104 (fun r15 => ?_)
    exact V_zreturn (pc := 107) hk hR rfl dX2_isPlayed_107
  refine V_if (fun hx => ?_) (fun hn7 => ?_)
  · refine V_tblIn (pc := 15) (tgt := 108) (off := 93) hk 7 hx dX2_isPlayed_15 (by decide) (by decide) (by decide +kernel) rfl ?_
    refine V_aload_n (pc := 108) hk dX2_isPlayed_108 1 rfl ?_
    refine V_iload_n (pc := 109) hk dX2_isPlayed_109 0 rfl ?_
    refine n_X2_341 (pc := 110) hk (fun b r h => ctX2_areRun (fl y) (fK y) hk.2.2.2.2.2.2.2.1 b v2 w r h) ⟨Nat.le_of_ble_eq_true rfl, Nat.le_of_ble_eq_true rfl⟩ (Nat.le_of_ble_eq_true rfl) dX2_isPlayed_110 (fun r17 => ?_)
    exact V_zreturn (pc := 113) hk hR rfl dX2_isPlayed_113
  refine V_if (fun hx => ?_) (fun hn8 => ?_)
  · refine V_tblIn (pc := 15) (tgt := 114) (off := 99) hk 8 hx dX2_isPlayed_15 (by decide) (by decide) (by decide +kernel) rfl ?_
    refine V_aload_n (pc := 114) hk dX2_isPlayed_114 1 rfl ?_
    refine V_iload_n (pc := 115) hk dX2_isPlayed_115 0 rfl ?_
    refine n_X2_354 (pc := 116) hk (fun b r h => ctX2_hoist (fl y) (fK y) hk.2.2.2.2.2.2.2.1 b v2 w r h) ⟨Nat.le_of_ble_eq_true rfl, Nat.le_of_ble_eq_true rfl⟩ (Nat.le_of_ble_eq_true rfl) dX2_isPlayed_116 (fun r19 => ?_)
    exact V_zreturn (pc := 119) hk hR rfl dX2_isPlayed_119
  refine V_if (fun hx => ?_) (fun hn9 => ?_)
  · refine V_tblIn (pc := 15) (tgt := 120) (off := 105) hk 9 hx dX2_isPlayed_15 (by decide) (by decide) (by decide +kernel) rfl ?_
    refine V_aload_n (pc := 120) hk dX2_isPlayed_120 1 rfl ?_
    refine V_iload_n (pc := 121) hk dX2_isPlayed_121 0 rfl ?_
    refine n_X2_357 (pc := 122) hk (fun b r h => ctX2_aim (fl y) (fK y) hk.2.2.2.2.2.2.2.1 b v2 w r h) ⟨Nat.le_of_ble_eq_true rfl, Nat.le_of_ble_eq_true rfl⟩ (Nat.le_of_ble_eq_true rfl) dX2_isPlayed_122 (fun r21 => ?_)
    exact V_zreturn (pc := 125) hk hR rfl dX2_isPlayed_125
  refine V_if (fun hx => ?_) (fun hn10 => ?_)
  · refine V_tblIn (pc := 15) (tgt := 126) (off := 111) hk 10 hx dX2_isPlayed_15 (by decide) (by decide) (by decide +kernel) rfl ?_
    refine V_aload_n (pc := 126) hk dX2_isPlayed_126 1 rfl ?_
    refine V_iload_n (pc := 127) hk dX2_isPlayed_127 0 rfl ?_
    refine n_X2_360 (pc := 128) hk (fun b r h => ctX2_hook (fl y) (fK y) hk.2.2.2.2.2.2.2.1 b v2 w r h) ⟨Nat.le_of_ble_eq_true rfl, Nat.le_of_ble_eq_true rfl⟩ (Nat.le_of_ble_eq_true rfl) dX2_isPlayed_128 (fun r23 => ?_)
    exact V_zreturn (pc := 131) hk hR rfl dX2_isPlayed_131
  refine V_if (fun hx => ?_) (fun hn11 => ?_)
  · refine V_tblIn (pc := 15) (tgt := 132) (off := 117) hk 11 hx dX2_isPlayed_15 (by decide) (by decide) (by decide +kernel) rfl ?_
    refine V_aload_n (pc := 132) hk dX2_isPlayed_132 1 rfl ?_
    refine n_X2_363 (pc := 133) hk (fun b r h => ctX2_land (fl y) (fK y) hk.2.2.2.2.2.2.2.1 b w r h) ⟨Nat.le_of_ble_eq_true rfl, Nat.le_of_ble_eq_true rfl⟩ (Nat.le_of_ble_eq_true rfl) dX2_isPlayed_133 (fun r25 => ?_)
    refine V_if_lt (pc := 136) (tgt := 143) hk dX2_isPlayed_136 rfl ?_ ?_
    · refine V_iconst (pc := 143) (v := 0) hk dX2_isPlayed_143 rfl ?_
      exact V_zreturn (pc := 144) hk hR rfl dX2_isPlayed_144
    · refine V_iconst (pc := 139) (v := 1) hk dX2_isPlayed_139 rfl ?_
      refine V_goto (pc := 140) (tgt := 144) hk dX2_isPlayed_140 rfl ?_
      exact V_zreturn (pc := 144) hk hR rfl dX2_isPlayed_144
  refine V_tblOut (pc := 15) (tgt := 145) hk dX2_isPlayed_15 (tbl_out 5 11 (by intro k h1 h2; obtain rfl | rfl | rfl | rfl | rfl | rfl | rfl : k = 5 ∨ k = 6 ∨ k = 7 ∨ k = 8 ∨ k = 9 ∨ k = 10 ∨ k = 11 := (by omega); exact hn5; exact hn6; exact hn7; exact hn8; exact hn9; exact hn10; exact hn11)) rfl ?_
  refine V_iconst (pc := 145) (v := 1) hk dX2_isPlayed_145 rfl ?_
  exact V_zreturn (pc := 146) hk hR rfl dX2_isPlayed_146
theorem ctX2_isPlayed (l : Launch) (K : Kx) (hI : Ini K) (b : Nat) (a0 : Int32) (w : Wd) : ∀ r, mX2_isPlayed b a0 w = some r → Ct l K 9 224 yX2_isPlayed (ws_ yX2_isPlayed cX2_isPlayed 3 (some (.boolean))) [.ref b, .int a0] w (rvI r.1) r.2 := Ct_of rvI l K hI 9 224 [.ref b, .int a0] w (by decide) (lc0 := [(0, .ref b), (1, .int a0)]) rfl (Nat.le_of_ble_eq_true rfl) (fun y hk hR _ _ hin => eX2_isPlayed hk hR b a0 w)
noncomputable def mX2_played_b21 (k21 : Wd → (Option Nat) → Int32 → Int32 → Option (Int32 × Wd)) (w : Wd) (l0 : Option Nat) (l1 : Int32) (l2 : Int32) : Option (Int32 × Wd) :=
(gR w l0 2 2).bind fun v1 =>
(ia w v1 (753 * l1)).bind fun v2 =>
if v2 ≤ l2 then (
some ((-1), w))
else (
(recv w l0 2).bind fun b4 => (cal w (mX2_isPlayed b4 (((753 * l1) + 1) + (6 * l2)) w)).bind fun r3 =>
if ¬ r3.1 = 0 then (
k21 r3.2 l0 l1 (l2 + 1))
else (
some (l2, r3.2)))
noncomputable def mX2_played_l21 : Nat → Wd → (Option Nat) → Int32 → Int32 → Option (Int32 × Wd)
  | 0, _, _, _, _ => none
  | n + 1, w, l0, l1, l2 => mX2_played_b21 (mX2_played_l21 n) w l0 l1 l2
noncomputable def mX2_played (this : Nat) (a0 : Int32) (w : Wd) : Option (Int32 × Wd) :=
(gR w ((some this)) 2 0).bind fun v1 =>
(ia w v1 3).bind fun v2 =>
(cal w (mX2_isIn a0 0 (v2 - 1) w)).bind fun r3 =>
if ¬ r3.1 = 0 then (
mX2_played_l21 FU r3.2 ((some this)) a0 0)
else (
some ((-2), r3.2))
theorem eX2_played_b21 {y : Fx (Int32 × Wd)} (hk : OkF y RX2 cX2_played 3 10 246) (hR : RetM y rvI (some (.int))) {k21 : Wd → (Option Nat) → Int32 → Int32 → Option (Int32 × Wd)} (h21 : ∀ (w : Wd) (l0 : Option Nat) (l1 : Int32) (l2 : Int32), V y w [(0, va_rf l0), (1, .int l1), (2, .int l2)] [] 21 (k21 w l0 l1 l2)) (w : Wd) (l0 : Option Nat) (l1 : Int32) (l2 : Int32) : V y w [(0, va_rf l0), (1, .int l1), (2, .int l2)] [] 21 (mX2_played_b21 k21 w l0 l1 l2) := by
  unfold mX2_played_b21
  refine V_iload_n (pc := 21) hk dX2_played_21 2 rfl ?_
  refine V_aload_n (pc := 22) hk dX2_played_22 0 rfl ?_
  refine g_X2_16 (pc := 23) hk dX2_played_23 (fun v1 => ?_)
  refine V_sipush (pc := 26) (v := 753) hk dX2_played_26 rfl ?_
  refine V_iload_n (pc := 29) hk dX2_played_29 1 rfl ?_
  refine V_imul (pc := 30) hk dX2_played_30 ?_
  refine V_iaload (pc := 31) hk dX2_played_31 (fun v2 => ?_)
  refine V_icmp_ge (pc := 32) (tgt := 62) hk dX2_played_32 rfl ?_ ?_
  · refine V_iconst (pc := 62) (v := (-1)) hk dX2_played_62 (by decide +kernel) ?_
    exact V_ireturn (pc := 63) hk hR rfl dX2_played_63
  · refine V_aload_n (pc := 35) hk dX2_played_35 0 rfl ?_
    refine V_sipush (pc := 36) (v := 753) hk dX2_played_36 rfl ?_
    refine V_iload_n (pc := 39) hk dX2_played_39 1 rfl ?_
    refine V_imul (pc := 40) hk dX2_played_40 ?_
    refine V_iconst (pc := 41) (v := 1) hk dX2_played_41 rfl ?_
    refine V_iadd (pc := 42) hk dX2_played_42 ?_
    refine V_bipush (pc := 43) (v := 6) hk dX2_played_43 rfl ?_
    refine V_iload_n (pc := 45) hk dX2_played_45 2 rfl ?_
    refine V_imul (pc := 46) hk dX2_played_46 ?_
    refine V_iadd (pc := 47) hk dX2_played_47 ?_
    refine n_X2_366 (pc := 48) hk (fun b r h => ctX2_isPlayed (fl y) (fK y) hk.2.2.2.2.2.2.2.1 b (((753 * l1) + 1) + (6 * l2)) w r h) ⟨Nat.le_of_ble_eq_true rfl, Nat.le_of_ble_eq_true rfl⟩ (Nat.le_of_ble_eq_true rfl) dX2_played_48 (fun r3 => ?_)
    refine V_if_ne (pc := 51) (tgt := 56) hk dX2_played_51 rfl ?_ ?_
    · refine V_iinc (pc := 56) (v := 1) (lc' := [(2, .int (l2 + 1)), (0, va_rf l0), (1, .int l1)]) hk dX2_played_56 2 rfl rfl (Nat.le_of_ble_eq_true rfl) rfl ?_
      refine V_goto (pc := 59) (tgt := 21) hk dX2_played_59 rfl ?_
      refine V_pick (lc' := [(0, va_rf l0), (1, .int l1), (2, .int (l2 + 1))]) [1, 2, 0] rfl ?_
      exact h21 r3.2 l0 l1 (l2 + 1)
    · refine V_iload_n (pc := 54) hk dX2_played_54 2 rfl ?_
      exact V_ireturn (pc := 55) hk hR rfl dX2_played_55
theorem eX2_played_l21 {y : Fx (Int32 × Wd)} (hk : OkF y RX2 cX2_played 3 10 246) (hR : RetM y rvI (some (.int))) : ∀ (n : Nat) (w : Wd) (l0 : Option Nat) (l1 : Int32) (l2 : Int32), V y w [(0, va_rf l0), (1, .int l1), (2, .int l2)] [] 21 (mX2_played_l21 n w l0 l1 l2) := by
  intro n
  induction n with
  | zero => intro w l0 l1 l2; exact V_none
  | succ n ih => intro w l0 l1 l2; exact eX2_played_b21 hk hR ih w l0 l1 l2
theorem eX2_played {y : Fx (Int32 × Wd)} (hk : OkF y RX2 cX2_played 3 10 246) (hR : RetM y rvI (some (.int))) (this : Nat) (a0 : Int32) (w : Wd) : V y w [(0, va_rf (some this)), (1, .int a0)] [] 0 (mX2_played this a0 w) := by
  unfold mX2_played
  refine V_iload_n (pc := 0) hk dX2_played_0 1 rfl ?_
  refine V_iconst (pc := 1) (v := 0) hk dX2_played_1 rfl ?_
  refine V_aload_n (pc := 2) hk dX2_played_2 0 rfl ?_
  refine g_X2_7 (pc := 3) hk dX2_played_3 (fun v1 => ?_)
  refine V_iconst (pc := 6) (v := 3) hk dX2_played_6 rfl ?_
  refine V_iaload (pc := 7) hk dX2_played_7 (fun v2 => ?_)
  refine V_iconst (pc := 8) (v := 1) hk dX2_played_8 rfl ?_
  refine V_isub (pc := 9) hk dX2_played_9 ?_
  refine n_X2_71 (pc := 10) hk (fun r h => ctX2_isIn (fl y) (fK y) hk.2.2.2.2.2.2.2.1 a0 0 (v2 - 1) w r h) ⟨Nat.le_of_ble_eq_true rfl, Nat.le_of_ble_eq_true rfl⟩ (Nat.le_of_ble_eq_true rfl) dX2_played_10 (fun r3 => ?_)
  refine V_if_ne (pc := 13) (tgt := 19) hk dX2_played_13 rfl ?_ ?_
  · refine V_iconst (pc := 19) (v := 0) hk dX2_played_19 rfl ?_
    refine V_istore_n (pc := 20) (lc' := [(2, .int 0), (0, va_rf ((some this))), (1, .int a0)]) (i := 2) hk dX2_played_20 rfl (Nat.le_of_ble_eq_true rfl) rfl ?_
    refine V_pick (lc' := [(0, va_rf ((some this))), (1, .int a0), (2, .int 0)]) [1, 2, 0] rfl ?_
    exact eX2_played_l21 hk hR FU r3.2 ((some this)) a0 0
  · refine V_bipush (pc := 16) (v := (-2)) hk dX2_played_16 (by decide +kernel) ?_
    exact V_ireturn (pc := 18) hk hR rfl dX2_played_18
theorem ctX2_played (l : Launch) (K : Kx) (hI : Ini K) (b : Nat) (a0 : Int32) (w : Wd) : ∀ r, mX2_played b a0 w = some r → Ct l K 10 246 yX2_played (ws_ yX2_played cX2_played 3 (some (.int))) [.ref b, .int a0] w (rvI r.1) r.2 := Ct_of rvI l K hI 10 246 [.ref b, .int a0] w (by decide) (lc0 := [(0, .ref b), (1, .int a0)]) rfl (Nat.le_of_ble_eq_true rfl) (fun y hk hR _ _ hin => eX2_played hk hR b a0 w)
noncomputable def mX2_storm_b56 (k56 : Wd → (Option Nat) → Int32 → Int32 → Option (Int32 × Wd)) (w : Wd) (l0 : Option Nat) (l2 : Int32) (l3 : Int32) : Option (Int32 × Wd) :=
if l2 ≤ l3 then (
(gR w l0 2 0).bind fun v1 =>
(ia w v1 8).bind fun v2 =>
some (v2, w))
else (
(gR w l0 2 0).bind fun v3 =>
(gR w l0 2 0).bind fun v4 =>
(ia w v4 2).bind fun v5 =>
(irm v5 10).bind fun v6 =>
(ias w v3 14 v6).bind fun w7 =>
(recv w7 l0 2).bind fun b9 => (cal w7 (mX2_anew b9 w7)).bind fun r8 =>
(gR r8.2 l0 2 0).bind fun v10 =>
(ia r8.2 v10 2).bind fun v11 =>
(irm v11 3).bind fun v12 =>
(recv r8.2 l0 2).bind fun b14 => (cal r8.2 (mX2_pass b14 (v12 - 1) r8.2)).bind fun r13 =>
(recv r13.2 l0 2).bind fun b16 => (cal r13.2 (mX2_anew b16 r13.2)).bind fun r15 =>
k56 r15.2 l0 l2 (l3 + 1))
noncomputable def mX2_storm_l56 : Nat → Wd → (Option Nat) → Int32 → Int32 → Option (Int32 × Wd)
  | 0, _, _, _, _ => none
  | n + 1, w, l0, l2, l3 => mX2_storm_b56 (mX2_storm_l56 n) w l0 l2 l3
noncomputable def mX2_storm (this : Nat) (a0 : Int32) (a1 : Int32) (w : Wd) : Option (Int32 × Wd) :=
(cal w (mX2_isIn a0 0 9999 w)).bind fun r1 =>
if r1.1 = 0 then (
some ((-1), r1.2))
else (
(cal r1.2 (mX2_isIn a1 1 40 r1.2)).bind fun r2 =>
if r2.1 = 0 then (
some ((-1), r2.2))
else (
(gR r2.2 ((some this)) 2 0).bind fun v3 =>
(ia r2.2 v3 16).bind fun v4 =>
if (v4 + a1) ≤ 9999 then (
(recv r2.2 ((some this)) 2).bind fun b6 => (cal r2.2 (mX2_keep b6 r2.2)).bind fun r5 =>
(gR r5.2 ((some this)) 2 0).bind fun v7 =>
(ias r5.2 v7 2 ((a0 * 3) + 59)).bind fun w8 =>
mX2_storm_l56 FU w8 ((some this)) a1 0)
else (
some ((-1), r2.2))))
theorem eX2_storm_b56 {y : Fx (Int32 × Wd)} (hk : OkF y RX2 cX2_storm 4 7 181) (hR : RetM y rvI (some (.int))) {k56 : Wd → (Option Nat) → Int32 → Int32 → Option (Int32 × Wd)} (h56 : ∀ (w : Wd) (l0 : Option Nat) (l2 : Int32) (l3 : Int32), V y w [(0, va_rf l0), (2, .int l2), (3, .int l3)] [] 56 (k56 w l0 l2 l3)) (w : Wd) (l0 : Option Nat) (l2 : Int32) (l3 : Int32) : V y w [(0, va_rf l0), (2, .int l2), (3, .int l3)] [] 56 (mX2_storm_b56 k56 w l0 l2 l3) := by
  unfold mX2_storm_b56
  refine V_iload_n (pc := 56) hk dX2_storm_56 2 rfl ?_
  refine V_iload_n (pc := 57) hk dX2_storm_57 1 rfl ?_
  refine V_icmp_ge (pc := 58) (tgt := 105) hk dX2_storm_58 rfl ?_ ?_
  · refine V_aload_n (pc := 105) hk dX2_storm_105 0 rfl ?_
    refine g_X2_7 (pc := 106) hk dX2_storm_106 (fun v1 => ?_)
    refine V_bipush (pc := 109) (v := 8) hk dX2_storm_109 rfl ?_
    refine V_iaload (pc := 111) hk dX2_storm_111 (fun v2 => ?_)
    exact V_ireturn (pc := 112) hk hR rfl dX2_storm_112
  · refine V_aload_n (pc := 61) hk dX2_storm_61 0 rfl ?_
    refine g_X2_7 (pc := 62) hk dX2_storm_62 (fun v3 => ?_)
    refine V_bipush (pc := 65) (v := 14) hk dX2_storm_65 rfl ?_
    refine V_aload_n (pc := 67) hk dX2_storm_67 0 rfl ?_
    refine g_X2_7 (pc := 68) hk dX2_storm_68 (fun v4 => ?_)
    refine V_iconst (pc := 71) (v := 2) hk dX2_storm_71 rfl ?_
    refine V_iaload (pc := 72) hk dX2_storm_72 (fun v5 => ?_)
    refine V_bipush (pc := 73) (v := 10) hk dX2_storm_73 rfl ?_
    refine V_irem (pc := 75) hk dX2_storm_75 (fun v6 => ?_)
    refine V_iastore (pc := 76) hk dX2_storm_76 (fun w7 => ?_)
    refine V_aload_n (pc := 77) hk dX2_storm_77 0 rfl ?_
    refine n_X2_302 (pc := 78) hk (fun b r h => ctX2_anew (fl y) (fK y) hk.2.2.2.2.2.2.2.1 b w7 r h) ⟨Nat.le_of_ble_eq_true rfl, Nat.le_of_ble_eq_true rfl⟩ (Nat.le_of_ble_eq_true rfl) dX2_storm_78 (fun r8 => ?_)
    refine V_aload_n (pc := 81) hk dX2_storm_81 0 rfl ?_
    refine V_aload_n (pc := 82) hk dX2_storm_82 0 rfl ?_
    refine g_X2_7 (pc := 83) hk dX2_storm_83 (fun v10 => ?_)
    refine V_iconst (pc := 86) (v := 2) hk dX2_storm_86 rfl ?_
    refine V_iaload (pc := 87) hk dX2_storm_87 (fun v11 => ?_)
    refine V_iconst (pc := 88) (v := 3) hk dX2_storm_88 rfl ?_
    refine V_irem (pc := 89) hk dX2_storm_89 (fun v12 => ?_)
    refine V_iconst (pc := 90) (v := 1) hk dX2_storm_90 rfl ?_
    refine V_isub (pc := 91) hk dX2_storm_91 ?_
    refine n_X2_332 (pc := 92) hk (fun b r h => ctX2_pass (fl y) (fK y) hk.2.2.2.2.2.2.2.1 b (v12 - 1) r8.2 r h) ⟨Nat.le_of_ble_eq_true rfl, Nat.le_of_ble_eq_true rfl⟩ (Nat.le_of_ble_eq_true rfl) dX2_storm_92 (fun r13 => ?_)
    refine V_aload_n (pc := 95) hk dX2_storm_95 0 rfl ?_
    refine n_X2_302 (pc := 96) hk (fun b r h => ctX2_anew (fl y) (fK y) hk.2.2.2.2.2.2.2.1 b r13.2 r h) ⟨Nat.le_of_ble_eq_true rfl, Nat.le_of_ble_eq_true rfl⟩ (Nat.le_of_ble_eq_true rfl) dX2_storm_96 (fun r15 => ?_)
    refine V_iinc (pc := 99) (v := 1) (lc' := [(3, .int (l3 + 1)), (0, va_rf l0), (2, .int l2)]) hk dX2_storm_99 2 rfl rfl (Nat.le_of_ble_eq_true rfl) rfl ?_
    refine V_goto (pc := 102) (tgt := 56) hk dX2_storm_102 rfl ?_
    refine V_pick (lc' := [(0, va_rf l0), (2, .int l2), (3, .int (l3 + 1))]) [1, 2, 0] rfl ?_
    exact h56 r15.2 l0 l2 (l3 + 1)
theorem eX2_storm_l56 {y : Fx (Int32 × Wd)} (hk : OkF y RX2 cX2_storm 4 7 181) (hR : RetM y rvI (some (.int))) : ∀ (n : Nat) (w : Wd) (l0 : Option Nat) (l2 : Int32) (l3 : Int32), V y w [(0, va_rf l0), (2, .int l2), (3, .int l3)] [] 56 (mX2_storm_l56 n w l0 l2 l3) := by
  intro n
  induction n with
  | zero => intro w l0 l2 l3; exact V_none
  | succ n ih => intro w l0 l2 l3; exact eX2_storm_b56 hk hR ih w l0 l2 l3
theorem eX2_storm {y : Fx (Int32 × Wd)} (hk : OkF y RX2 cX2_storm 4 7 181) (hR : RetM y rvI (some (.int))) (this : Nat) (a0 : Int32) (a1 : Int32) (w : Wd) : V y w [(0, va_rf (some this)), (1, .int a0), (2, .int a1)] [] 0 (mX2_storm this a0 a1 w) := by
  unfold mX2_storm
  refine V_iload_n (pc := 0) hk dX2_storm_0 1 rfl ?_
  refine V_iconst (pc := 1) (v := 0) hk dX2_storm_1 rfl ?_
  refine V_sipush (pc := 2) (v := 9999) hk dX2_storm_2 rfl ?_
  refine n_X2_71 (pc := 5) hk (fun r h => ctX2_isIn (fl y) (fK y) hk.2.2.2.2.2.2.2.1 a0 0 9999 w r h) ⟨Nat.le_of_ble_eq_true rfl, Nat.le_of_ble_eq_true rfl⟩ (Nat.le_of_ble_eq_true rfl) dX2_storm_5 (fun r1 => ?_)
  refine V_if_eq (pc := 8) (tgt := 36) hk dX2_storm_8 rfl ?_ ?_
  · refine V_iconst (pc := 36) (v := (-1)) hk dX2_storm_36 (by decide +kernel) ?_
    exact V_ireturn (pc := 37) hk hR rfl dX2_storm_37
  · refine V_iload_n (pc := 11) hk dX2_storm_11 2 rfl ?_
    refine V_iconst (pc := 12) (v := 1) hk dX2_storm_12 rfl ?_
    refine V_bipush (pc := 13) (v := 40) hk dX2_storm_13 rfl ?_
    refine n_X2_71 (pc := 15) hk (fun r h => ctX2_isIn (fl y) (fK y) hk.2.2.2.2.2.2.2.1 a1 1 40 r1.2 r h) ⟨Nat.le_of_ble_eq_true rfl, Nat.le_of_ble_eq_true rfl⟩ (Nat.le_of_ble_eq_true rfl) dX2_storm_15 (fun r2 => ?_)
    refine V_if_eq (pc := 18) (tgt := 36) hk dX2_storm_18 rfl ?_ ?_
    · refine V_iconst (pc := 36) (v := (-1)) hk dX2_storm_36 (by decide +kernel) ?_
      exact V_ireturn (pc := 37) hk hR rfl dX2_storm_37
    · refine V_aload_n (pc := 21) hk dX2_storm_21 0 rfl ?_
      refine g_X2_7 (pc := 22) hk dX2_storm_22 (fun v3 => ?_)
      refine V_bipush (pc := 25) (v := 16) hk dX2_storm_25 rfl ?_
      refine V_iaload (pc := 27) hk dX2_storm_27 (fun v4 => ?_)
      refine V_iload_n (pc := 28) hk dX2_storm_28 2 rfl ?_
      refine V_iadd (pc := 29) hk dX2_storm_29 ?_
      refine V_sipush (pc := 30) (v := 9999) hk dX2_storm_30 rfl ?_
      refine V_icmp_le (pc := 33) (tgt := 38) hk dX2_storm_33 rfl ?_ ?_
      · refine V_aload_n (pc := 38) hk dX2_storm_38 0 rfl ?_
        refine n_X2_329 (pc := 39) hk (fun b r h => ctX2_keep (fl y) (fK y) hk.2.2.2.2.2.2.2.1 b r2.2 r h) ⟨Nat.le_of_ble_eq_true rfl, Nat.le_of_ble_eq_true rfl⟩ (Nat.le_of_ble_eq_true rfl) dX2_storm_39 (fun r5 => ?_)
        refine V_aload_n (pc := 42) hk dX2_storm_42 0 rfl ?_
        refine g_X2_7 (pc := 43) hk dX2_storm_43 (fun v7 => ?_)
        refine V_iconst (pc := 46) (v := 2) hk dX2_storm_46 rfl ?_
        refine V_iload_n (pc := 47) hk dX2_storm_47 1 rfl ?_
        refine V_iconst (pc := 48) (v := 3) hk dX2_storm_48 rfl ?_
        refine V_imul (pc := 49) hk dX2_storm_49 ?_
        refine V_bipush (pc := 50) (v := 59) hk dX2_storm_50 rfl ?_
        refine V_iadd (pc := 52) hk dX2_storm_52 ?_
        refine V_iastore (pc := 53) hk dX2_storm_53 (fun w8 => ?_)
        refine V_iconst (pc := 54) (v := 0) hk dX2_storm_54 rfl ?_
        refine V_istore_n (pc := 55) (lc' := [(3, .int 0), (0, va_rf ((some this))), (1, .int a0), (2, .int a1)]) (i := 3) hk dX2_storm_55 rfl (Nat.le_of_ble_eq_true rfl) rfl ?_
        refine V_pick (lc' := [(0, va_rf ((some this))), (2, .int a1), (3, .int 0)]) [1, 3, 0] rfl ?_
        exact eX2_storm_l56 hk hR FU w8 ((some this)) a1 0
      · refine V_iconst (pc := 36) (v := (-1)) hk dX2_storm_36 (by decide +kernel) ?_
        exact V_ireturn (pc := 37) hk hR rfl dX2_storm_37
theorem ctX2_storm (l : Launch) (K : Kx) (hI : Ini K) (b : Nat) (a0 : Int32) (a1 : Int32) (w : Wd) : ∀ r, mX2_storm b a0 a1 w = some r → Ct l K 7 181 yX2_storm (ws_ yX2_storm cX2_storm 4 (some (.int))) [.ref b, .int a0, .int a1] w (rvI r.1) r.2 := Ct_of rvI l K hI 7 181 [.ref b, .int a0, .int a1] w (by decide) (lc0 := [(0, .ref b), (1, .int a0), (2, .int a1)]) rfl (Nat.le_of_ble_eq_true rfl) (fun y hk hR _ _ hin => eX2_storm hk hR b a0 a1 w)
noncomputable def mX2_jib (this : Nat) (a0 : Int32) (w : Wd) : Option (Int32 × Wd) :=
if a0 = 0 then (
(gR w ((some this)) 2 0).bind fun v1 =>
(ia w v1 8).bind fun v2 =>
some (v2, w))
else (
if a0 = 1 then (
(gR w ((some this)) 2 0).bind fun v3 =>
(ia w v3 9).bind fun v4 =>
some (v4, w))
else (
if a0 = 2 then (
(gR w ((some this)) 2 0).bind fun v5 =>
(ia w v5 10).bind fun v6 =>
some (v6, w))
else (
if a0 = 3 then (
(gR w ((some this)) 2 0).bind fun v7 =>
(ia w v7 11).bind fun v8 =>
some (v8, w))
else (
if a0 = 4 then (
(recv w ((some this)) 2).bind fun b10 => (cal w (mX2_away b10 w)).bind fun r9 =>
some (r9.1, r9.2))
else (
if a0 = 5 then (
(gR w ((some this)) 2 0).bind fun v11 =>
(ia w v11 12).bind fun v12 =>
some (v12, w))
else (
if a0 = 6 then (
(gR w ((some this)) 2 0).bind fun v13 =>
(ia w v13 13).bind fun v14 =>
some (v14, w))
else (
if a0 = 7 then (
(gR w ((some this)) 2 0).bind fun v15 =>
(ia w v15 14).bind fun v16 =>
some (v16, w))
else (
if a0 = 8 then (
(gR w ((some this)) 2 0).bind fun v17 =>
(ia w v17 15).bind fun v18 =>
some (v18, w))
else (
if a0 = 9 then (
(gR w ((some this)) 2 0).bind fun v19 =>
(ia w v19 16).bind fun v20 =>
some (v20, w))
else (
if a0 = 10 then (
(recv w ((some this)) 2).bind fun b22 => (cal w (mX2_hangsStill b22 w)).bind fun r21 =>
if r21.1 = 0 then (
some (0, r21.2))
else (
some (1, r21.2)))
else (
if a0 = 11 then (
(gR w ((some this)) 2 0).bind fun v23 =>
(ia w v23 17).bind fun v24 =>
some (v24, w))
else (
if a0 = 12 then (
(gR w ((some this)) 2 0).bind fun v25 =>
(ia w v25 4).bind fun v26 =>
(recv w ((some this)) 2).bind fun b28 => (cal w (mX2_commandNow b28 v26 w)).bind fun r27 =>
some (r27.1, r27.2))
else (
some ((-100000), w))))))))))))))
theorem eX2_jib {y : Fx (Int32 × Wd)} (hk : OkF y RX2 cX2_jib 2 7 178) (hR : RetM y rvI (some (.int))) (this : Nat) (a0 : Int32) (w : Wd) : V y w [(0, va_rf (some this)), (1, .int a0)] [] 0 (mX2_jib this a0 w) := by
  unfold mX2_jib
  refine V_iload_n (pc := 0) hk dX2_jib_0 1 rfl ?_
  refine V_if (fun hx => ?_) (fun hn0 => ?_)
  · refine V_tblIn (pc := 1) (tgt := 68) (off := 67) hk 0 hx dX2_jib_1 (by decide) (by decide) (by decide +kernel) rfl ?_
    refine V_aload_n (pc := 68) hk dX2_jib_68 0 rfl ?_
    refine g_X2_7 (pc := 69) hk dX2_jib_69 (fun v1 => ?_)
    refine V_bipush (pc := 72) (v := 8) hk dX2_jib_72 rfl ?_
    refine V_iaload (pc := 74) hk dX2_jib_74 (fun v2 => ?_)
    exact V_ireturn (pc := 75) hk hR rfl dX2_jib_75
  refine V_if (fun hx => ?_) (fun hn1 => ?_)
  · refine V_tblIn (pc := 1) (tgt := 76) (off := 75) hk 1 hx dX2_jib_1 (by decide) (by decide) (by decide +kernel) rfl ?_
    refine V_aload_n (pc := 76) hk dX2_jib_76 0 rfl ?_
    refine g_X2_7 (pc := 77) hk dX2_jib_77 (fun v3 => ?_)
    refine V_bipush (pc := 80) (v := 9) hk dX2_jib_80 rfl ?_
    refine V_iaload (pc := 82) hk dX2_jib_82 (fun v4 => ?_)
    exact V_ireturn (pc := 83) hk hR rfl dX2_jib_83
  refine V_if (fun hx => ?_) (fun hn2 => ?_)
  · refine V_tblIn (pc := 1) (tgt := 84) (off := 83) hk 2 hx dX2_jib_1 (by decide) (by decide) (by decide +kernel) rfl ?_
    refine V_aload_n (pc := 84) hk dX2_jib_84 0 rfl ?_
    refine g_X2_7 (pc := 85) hk dX2_jib_85 (fun v5 => ?_)
    refine V_bipush (pc := 88) (v := 10) hk dX2_jib_88 rfl ?_
    refine V_iaload (pc := 90) hk dX2_jib_90 (fun v6 => ?_)
    exact V_ireturn (pc := 91) hk hR rfl dX2_jib_91
  refine V_if (fun hx => ?_) (fun hn3 => ?_)
  · refine V_tblIn (pc := 1) (tgt := 92) (off := 91) hk 3 hx dX2_jib_1 (by decide) (by decide) (by decide +kernel) rfl ?_
    refine V_aload_n (pc := 92) hk dX2_jib_92 0 rfl ?_
    refine g_X2_7 (pc := 93) hk dX2_jib_93 (fun v7 => ?_)
    refine V_bipush (pc := 96) (v := 11) hk dX2_jib_96 rfl ?_
    refine V_iaload (pc := 98) hk dX2_jib_98 (fun v8 => ?_)
    exact V_ireturn (pc := 99) hk hR rfl dX2_jib_99
  refine V_if (fun hx => ?_) (fun hn4 => ?_)
  · refine V_tblIn (pc := 1) (tgt := 100) (off := 99) hk 4 hx dX2_jib_1 (by decide) (by decide) (by decide +kernel) rfl ?_
    refine V_aload_n (pc := 100) hk dX2_jib_100 0 rfl ?_
    refine n_X2_292 (pc := 101) hk (fun b r h => ctX2_away (fl y) (fK y) hk.2.2.2.2.2.2.2.1 b w r h) ⟨Nat.le_of_ble_eq_true rfl, Nat.le_of_ble_eq_true rfl⟩ (Nat.le_of_ble_eq_true rfl) dX2_jib_101 (fun r9 => ?_)
    exact V_ireturn (pc := 104) hk hR rfl dX2_jib_104
  refine V_if (fun hx => ?_) (fun hn5 => ?_)
  · refine V_tblIn (pc := 1) (tgt := 105) (off := 104) hk 5 hx dX2_jib_1 (by decide) (by decide) (by decide +kernel) rfl ?_
    refine V_aload_n (pc := 105) hk dX2_jib_105 0 rfl ?_
    refine g_X2_7 (pc := 106) hk dX2_jib_106 (fun v11 => ?_)
    refine V_bipush (pc := 109) (v := 12) hk dX2_jib_109 rfl ?_
    refine V_iaload (pc := 111) hk dX2_jib_111 (fun v12 => ?_)
    exact V_ireturn (pc := 112) hk hR rfl dX2_jib_112
  refine V_if (fun hx => ?_) (fun hn6 => ?_)
  · refine V_tblIn (pc := 1) (tgt := 113) (off := 112) hk 6 hx dX2_jib_1 (by decide) (by decide) (by decide +kernel) rfl ?_
    refine V_aload_n (pc := 113) hk dX2_jib_113 0 rfl ?_
    refine g_X2_7 (pc := 114) hk dX2_jib_114 (fun v13 => ?_)
    refine V_bipush (pc := 117) (v := 13) hk dX2_jib_117 rfl ?_
    refine V_iaload (pc := 119) hk dX2_jib_119 (fun v14 => ?_)
    exact V_ireturn (pc := 120) hk hR rfl dX2_jib_120
  refine V_if (fun hx => ?_) (fun hn7 => ?_)
  · refine V_tblIn (pc := 1) (tgt := 121) (off := 120) hk 7 hx dX2_jib_1 (by decide) (by decide) (by decide +kernel) rfl ?_
    refine V_aload_n (pc := 121) hk dX2_jib_121 0 rfl ?_
    refine g_X2_7 (pc := 122) hk dX2_jib_122 (fun v15 => ?_)
    refine V_bipush (pc := 125) (v := 14) hk dX2_jib_125 rfl ?_
    refine V_iaload (pc := 127) hk dX2_jib_127 (fun v16 => ?_)
    exact V_ireturn (pc := 128) hk hR rfl dX2_jib_128
  refine V_if (fun hx => ?_) (fun hn8 => ?_)
  · refine V_tblIn (pc := 1) (tgt := 129) (off := 128) hk 8 hx dX2_jib_1 (by decide) (by decide) (by decide +kernel) rfl ?_
    refine V_aload_n (pc := 129) hk dX2_jib_129 0 rfl ?_
    refine g_X2_7 (pc := 130) hk dX2_jib_130 (fun v17 => ?_)
    refine V_bipush (pc := 133) (v := 15) hk dX2_jib_133 rfl ?_
    refine V_iaload (pc := 135) hk dX2_jib_135 (fun v18 => ?_)
    exact V_ireturn (pc := 136) hk hR rfl dX2_jib_136
  refine V_if (fun hx => ?_) (fun hn9 => ?_)
  · refine V_tblIn (pc := 1) (tgt := 137) (off := 136) hk 9 hx dX2_jib_1 (by decide) (by decide) (by decide +kernel) rfl ?_
    refine V_aload_n (pc := 137) hk dX2_jib_137 0 rfl ?_
    refine g_X2_7 (pc := 138) hk dX2_jib_138 (fun v19 => ?_)
    refine V_bipush (pc := 141) (v := 16) hk dX2_jib_141 rfl ?_
    refine V_iaload (pc := 143) hk dX2_jib_143 (fun v20 => ?_)
    exact V_ireturn (pc := 144) hk hR rfl dX2_jib_144
  refine V_if (fun hx => ?_) (fun hn10 => ?_)
  · refine V_tblIn (pc := 1) (tgt := 145) (off := 144) hk 10 hx dX2_jib_1 (by decide) (by decide) (by decide +kernel) rfl ?_
    refine V_aload_n (pc := 145) hk dX2_jib_145 0 rfl ?_
    refine n_X2_347 (pc := 146) hk (fun b r h => ctX2_hangsStill (fl y) (fK y) hk.2.2.2.2.2.2.2.1 b w r h) ⟨Nat.le_of_ble_eq_true rfl, Nat.le_of_ble_eq_true rfl⟩ (Nat.le_of_ble_eq_true rfl) dX2_jib_146 (fun r21 => ?_)
    refine V_if_eq (pc := 149) (tgt := 156) hk dX2_jib_149 rfl ?_ ?_
    · refine V_iconst (pc := 156) (v := 0) hk dX2_jib_156 rfl ?_
      exact V_ireturn (pc := 157) hk hR rfl dX2_jib_157
    · refine V_iconst (pc := 152) (v := 1) hk dX2_jib_152 rfl ?_
      refine V_goto (pc := 153) (tgt := 157) hk dX2_jib_153 rfl ?_
      exact V_ireturn (pc := 157) hk hR rfl dX2_jib_157
  refine V_if (fun hx => ?_) (fun hn11 => ?_)
  · refine V_tblIn (pc := 1) (tgt := 158) (off := 157) hk 11 hx dX2_jib_1 (by decide) (by decide) (by decide +kernel) rfl ?_
    refine V_aload_n (pc := 158) hk dX2_jib_158 0 rfl ?_
    refine g_X2_7 (pc := 159) hk dX2_jib_159 (fun v23 => ?_)
    refine V_bipush (pc := 162) (v := 17) hk dX2_jib_162 rfl ?_
    refine V_iaload (pc := 164) hk dX2_jib_164 (fun v24 => ?_)
    exact V_ireturn (pc := 165) hk hR rfl dX2_jib_165
  refine V_if (fun hx => ?_) (fun hn12 => ?_)
  · refine V_tblIn (pc := 1) (tgt := 166) (off := 165) hk 12 hx dX2_jib_1 (by decide) (by decide) (by decide +kernel) rfl ?_
    refine V_aload_n (pc := 166) hk dX2_jib_166 0 rfl ?_
    refine V_aload_n (pc := 167) hk dX2_jib_167 0 rfl ?_
    refine g_X2_7 (pc := 168) hk dX2_jib_168 (fun v25 => ?_)
    refine V_iconst (pc := 171) (v := 4) hk dX2_jib_171 rfl ?_
    refine V_iaload (pc := 172) hk dX2_jib_172 (fun v26 => ?_)
    refine n_X2_338 (pc := 173) hk (fun b r h => ctX2_commandNow (fl y) (fK y) hk.2.2.2.2.2.2.2.1 b v26 w r h) ⟨Nat.le_of_ble_eq_true rfl, Nat.le_of_ble_eq_true rfl⟩ (Nat.le_of_ble_eq_true rfl) dX2_jib_173 (fun r27 => ?_)
    exact V_ireturn (pc := 176) hk hR rfl dX2_jib_176
  refine V_tblOut (pc := 1) (tgt := 177) hk dX2_jib_1 (tbl_out 0 12 (by intro k h1 h2; obtain rfl | rfl | rfl | rfl | rfl | rfl | rfl | rfl | rfl | rfl | rfl | rfl | rfl : k = 0 ∨ k = 1 ∨ k = 2 ∨ k = 3 ∨ k = 4 ∨ k = 5 ∨ k = 6 ∨ k = 7 ∨ k = 8 ∨ k = 9 ∨ k = 10 ∨ k = 11 ∨ k = 12 := (by omega); exact hn0; exact hn1; exact hn2; exact hn3; exact hn4; exact hn5; exact hn6; exact hn7; exact hn8; exact hn9; exact hn10; exact hn11; exact hn12)) rfl ?_
  refine V_ldcw (pc := 177) (v := (-100000)) hk dX2_jib_177 q1791 ?_
  exact V_ireturn (pc := 180) hk hR rfl dX2_jib_180
theorem ctX2_jib (l : Launch) (K : Kx) (hI : Ini K) (b : Nat) (a0 : Int32) (w : Wd) : ∀ r, mX2_jib b a0 w = some r → Ct l K 7 178 yX2_jib (ws_ yX2_jib cX2_jib 2 (some (.int))) [.ref b, .int a0] w (rvI r.1) r.2 := Ct_of rvI l K hI 7 178 [.ref b, .int a0] w (by decide) (lc0 := [(0, .ref b), (1, .int a0)]) rfl (Nat.le_of_ble_eq_true rfl) (fun y hk hR _ _ hin => eX2_jib hk hR b a0 w)
noncomputable def mX2_lastsOf (this : Nat) (a0 : Int32) (w : Wd) : Option (Int32 × Wd) :=
(gR w ((some this)) 2 20).bind fun v1 =>
(gR w ((some this)) 2 0).bind fun v2 =>
(ia w v2 12).bind fun v3 =>
(ias w v1 5 v3).bind fun w4 =>
(gR w4 ((some this)) 2 20).bind fun v5 =>
(recv w4 ((some this)) 2).bind fun b7 => (cal w4 (mX2_get b7 a0 0 w4)).bind fun r6 =>
(ias r6.2 v5 6 r6.1).bind fun w8 =>
(gR w8 ((some this)) 2 20).bind fun v9 =>
(recv w8 ((some this)) 2).bind fun b11 => (cal w8 (mX2_get b11 a0 1 w8)).bind fun r10 =>
(ias r10.2 v9 7 r10.1).bind fun w12 =>
(recv w12 ((some this)) 2).bind fun b14 => (cal w12 (mX2_get b14 a0 1 w12)).bind fun r13 =>
(idv r13.1 10).bind fun v15 =>
(recv r13.2 ((some this)) 2).bind fun b17 => (cal r13.2 (mX2_says b17 4 (v15 + 1) 1 99 r13.2)).bind fun r16 =>
some (r16.1, r16.2)
theorem eX2_lastsOf {y : Fx (Int32 × Wd)} (hk : OkF y RX2 cX2_lastsOf 2 6 159) (hR : RetM y rvI (some (.int))) (this : Nat) (a0 : Int32) (w : Wd) : V y w [(0, va_rf (some this)), (1, .int a0)] [] 0 (mX2_lastsOf this a0 w) := by
  unfold mX2_lastsOf
  refine V_aload_n (pc := 0) hk dX2_lastsOf_0 0 rfl ?_
  refine g_X2_32 (pc := 1) hk dX2_lastsOf_1 (fun v1 => ?_)
  refine V_iconst (pc := 4) (v := 5) hk dX2_lastsOf_4 rfl ?_
  refine V_aload_n (pc := 5) hk dX2_lastsOf_5 0 rfl ?_
  refine g_X2_7 (pc := 6) hk dX2_lastsOf_6 (fun v2 => ?_)
  refine V_bipush (pc := 9) (v := 12) hk dX2_lastsOf_9 rfl ?_
  refine V_iaload (pc := 11) hk dX2_lastsOf_11 (fun v3 => ?_)
  refine V_iastore (pc := 12) hk dX2_lastsOf_12 (fun w4 => ?_)
  refine V_aload_n (pc := 13) hk dX2_lastsOf_13 0 rfl ?_
  refine g_X2_32 (pc := 14) hk dX2_lastsOf_14 (fun v5 => ?_)
  refine V_bipush (pc := 17) (v := 6) hk dX2_lastsOf_17 rfl ?_
  refine V_aload_n (pc := 19) hk dX2_lastsOf_19 0 rfl ?_
  refine V_iload_n (pc := 20) hk dX2_lastsOf_20 1 rfl ?_
  refine V_iconst (pc := 21) (v := 0) hk dX2_lastsOf_21 rfl ?_
  refine n_X2_295 (pc := 22) hk (fun b r h => ctX2_get (fl y) (fK y) hk.2.2.2.2.2.2.2.1 b a0 0 w4 r h) ⟨Nat.le_of_ble_eq_true rfl, Nat.le_of_ble_eq_true rfl⟩ (by simp [rf_cat, cat_int, cat_long, cat_ref]) dX2_lastsOf_22 (fun r6 => ?_)
  refine V_iastore (pc := 25) hk dX2_lastsOf_25 (fun w8 => ?_)
  refine V_aload_n (pc := 26) hk dX2_lastsOf_26 0 rfl ?_
  refine g_X2_32 (pc := 27) hk dX2_lastsOf_27 (fun v9 => ?_)
  refine V_bipush (pc := 30) (v := 7) hk dX2_lastsOf_30 rfl ?_
  refine V_aload_n (pc := 32) hk dX2_lastsOf_32 0 rfl ?_
  refine V_iload_n (pc := 33) hk dX2_lastsOf_33 1 rfl ?_
  refine V_iconst (pc := 34) (v := 1) hk dX2_lastsOf_34 rfl ?_
  refine n_X2_295 (pc := 35) hk (fun b r h => ctX2_get (fl y) (fK y) hk.2.2.2.2.2.2.2.1 b a0 1 w8 r h) ⟨Nat.le_of_ble_eq_true rfl, Nat.le_of_ble_eq_true rfl⟩ (by simp [rf_cat, cat_int, cat_long, cat_ref]) dX2_lastsOf_35 (fun r10 => ?_)
  refine V_iastore (pc := 38) hk dX2_lastsOf_38 (fun w12 => ?_)
  refine V_aload_n (pc := 39) hk dX2_lastsOf_39 0 rfl ?_
  refine V_iconst (pc := 40) (v := 4) hk dX2_lastsOf_40 rfl ?_
  refine V_aload_n (pc := 41) hk dX2_lastsOf_41 0 rfl ?_
  refine V_iload_n (pc := 42) hk dX2_lastsOf_42 1 rfl ?_
  refine V_iconst (pc := 43) (v := 1) hk dX2_lastsOf_43 rfl ?_
  refine n_X2_295 (pc := 44) hk (fun b r h => ctX2_get (fl y) (fK y) hk.2.2.2.2.2.2.2.1 b a0 1 w12 r h) ⟨Nat.le_of_ble_eq_true rfl, Nat.le_of_ble_eq_true rfl⟩ (by simp [rf_cat, cat_int, cat_long, cat_ref]) dX2_lastsOf_44 (fun r13 => ?_)
  refine V_bipush (pc := 47) (v := 10) hk dX2_lastsOf_47 rfl ?_
  refine V_idiv (pc := 49) hk dX2_lastsOf_49 (fun v15 => ?_)
  refine V_iconst (pc := 50) (v := 1) hk dX2_lastsOf_50 rfl ?_
  refine V_iadd (pc := 51) hk dX2_lastsOf_51 ?_
  refine V_iconst (pc := 52) (v := 1) hk dX2_lastsOf_52 rfl ?_
  refine V_bipush (pc := 53) (v := 99) hk dX2_lastsOf_53 rfl ?_
  refine n_X2_298 (pc := 55) hk (fun b r h => ctX2_says (fl y) (fK y) hk.2.2.2.2.2.2.2.1 b 4 (v15 + 1) 1 99 r13.2 r h) ⟨Nat.le_of_ble_eq_true rfl, Nat.le_of_ble_eq_true rfl⟩ (Nat.le_of_ble_eq_true rfl) dX2_lastsOf_55 (fun r16 => ?_)
  exact V_ireturn (pc := 58) hk hR rfl dX2_lastsOf_58
theorem ctX2_lastsOf (l : Launch) (K : Kx) (hI : Ini K) (b : Nat) (a0 : Int32) (w : Wd) : ∀ r, mX2_lastsOf b a0 w = some r → Ct l K 6 159 yX2_lastsOf (ws_ yX2_lastsOf cX2_lastsOf 2 (some (.int))) [.ref b, .int a0] w (rvI r.1) r.2 := Ct_of rvI l K hI 6 159 [.ref b, .int a0] w (by decide) (lc0 := [(0, .ref b), (1, .int a0)]) rfl (Nat.le_of_ble_eq_true rfl) (fun y hk hR _ _ hin => eX2_lastsOf hk hR b a0 w)
noncomputable def mX2_holdsAt (this : Nat) (a0 : Int32) (w : Wd) : Option (Int32 × Wd) :=
(gR w ((some this)) 2 20).bind fun v1 =>
(ias w v1 7 a0).bind fun w2 =>
(recv w2 ((some this)) 2).bind fun b4 => (cal w2 (mX2_says b4 3 (60 - a0) 0 99 w2)).bind fun r3 =>
some (r3.1, r3.2)
theorem eX2_holdsAt {y : Fx (Int32 × Wd)} (hk : OkF y RX2 cX2_holdsAt 2 6 159) (hR : RetM y rvI (some (.int))) (this : Nat) (a0 : Int32) (w : Wd) : V y w [(0, va_rf (some this)), (1, .int a0)] [] 0 (mX2_holdsAt this a0 w) := by
  unfold mX2_holdsAt
  refine V_aload_n (pc := 0) hk dX2_holdsAt_0 0 rfl ?_
  refine g_X2_32 (pc := 1) hk dX2_holdsAt_1 (fun v1 => ?_)
  refine V_bipush (pc := 4) (v := 7) hk dX2_holdsAt_4 rfl ?_
  refine V_iload_n (pc := 6) hk dX2_holdsAt_6 1 rfl ?_
  refine V_iastore (pc := 7) hk dX2_holdsAt_7 (fun w2 => ?_)
  refine V_aload_n (pc := 8) hk dX2_holdsAt_8 0 rfl ?_
  refine V_iconst (pc := 9) (v := 3) hk dX2_holdsAt_9 rfl ?_
  refine V_bipush (pc := 10) (v := 60) hk dX2_holdsAt_10 rfl ?_
  refine V_iload_n (pc := 12) hk dX2_holdsAt_12 1 rfl ?_
  refine V_isub (pc := 13) hk dX2_holdsAt_13 ?_
  refine V_iconst (pc := 14) (v := 0) hk dX2_holdsAt_14 rfl ?_
  refine V_bipush (pc := 15) (v := 99) hk dX2_holdsAt_15 rfl ?_
  refine n_X2_298 (pc := 17) hk (fun b r h => ctX2_says (fl y) (fK y) hk.2.2.2.2.2.2.2.1 b 3 (60 - a0) 0 99 w2 r h) ⟨Nat.le_of_ble_eq_true rfl, Nat.le_of_ble_eq_true rfl⟩ (Nat.le_of_ble_eq_true rfl) dX2_holdsAt_17 (fun r3 => ?_)
  exact V_ireturn (pc := 20) hk hR rfl dX2_holdsAt_20
theorem ctX2_holdsAt (l : Launch) (K : Kx) (hI : Ini K) (b : Nat) (a0 : Int32) (w : Wd) : ∀ r, mX2_holdsAt b a0 w = some r → Ct l K 6 159 yX2_holdsAt (ws_ yX2_holdsAt cX2_holdsAt 2 (some (.int))) [.ref b, .int a0] w (rvI r.1) r.2 := Ct_of rvI l K hI 6 159 [.ref b, .int a0] w (by decide) (lc0 := [(0, .ref b), (1, .int a0)]) rfl (Nat.le_of_ble_eq_true rfl) (fun y hk hR _ _ hin => eX2_holdsAt hk hR b a0 w)
noncomputable def mX2_ofOrder (this : Nat) (a0 : Int32) (a1 : Int32) (w : Wd) : Option (Int32 × Wd) :=
(recv w ((some this)) 2).bind fun b2 => (cal w (mX2_isOrder b2 a0 w)).bind fun r1 =>
if r1.1 = 0 then (
some ((-1), r1.2))
else (
(cal r1.2 (mX2_isIn a1 0 7 r1.2)).bind fun r3 =>
if ¬ r3.1 = 0 then (
if ¬ a1 = 6 then (
if ¬ a1 = 7 then (
(recv r3.2 ((some this)) 2).bind fun b5 => (cal r3.2 (mX2_get b5 a0 a1 r3.2)).bind fun r4 =>
some (r4.1, r4.2))
else (
(recv r3.2 ((some this)) 2).bind fun b7 => (cal r3.2 (mX2_get b7 a0 1 r3.2)).bind fun r6 =>
(recv r6.2 ((some this)) 2).bind fun b9 => (cal r6.2 (mX2_holdsAt b9 r6.1 r6.2)).bind fun r8 =>
some (r8.1, r8.2)))
else (
(recv r3.2 ((some this)) 2).bind fun b11 => (cal r3.2 (mX2_lastsOf b11 a0 r3.2)).bind fun r10 =>
some (r10.1, r10.2)))
else (
some ((-1), r3.2)))
theorem eX2_ofOrder {y : Fx (Int32 × Wd)} (hk : OkF y RX2 cX2_ofOrder 3 7 180) (hR : RetM y rvI (some (.int))) (this : Nat) (a0 : Int32) (a1 : Int32) (w : Wd) : V y w [(0, va_rf (some this)), (1, .int a0), (2, .int a1)] [] 0 (mX2_ofOrder this a0 a1 w) := by
  unfold mX2_ofOrder
  refine V_aload_n (pc := 0) hk dX2_ofOrder_0 0 rfl ?_
  refine V_iload_n (pc := 1) hk dX2_ofOrder_1 1 rfl ?_
  refine n_X2_344 (pc := 2) hk (fun b r h => ctX2_isOrder (fl y) (fK y) hk.2.2.2.2.2.2.2.1 b a0 w r h) ⟨Nat.le_of_ble_eq_true rfl, Nat.le_of_ble_eq_true rfl⟩ (Nat.le_of_ble_eq_true rfl) dX2_ofOrder_2 (fun r1 => ?_)
  refine V_if_eq (pc := 5) (tgt := 18) hk dX2_ofOrder_5 rfl ?_ ?_
  · refine V_iconst (pc := 18) (v := (-1)) hk dX2_ofOrder_18 (by decide +kernel) ?_
    exact V_ireturn (pc := 19) hk hR rfl dX2_ofOrder_19
  · refine V_iload_n (pc := 8) hk dX2_ofOrder_8 2 rfl ?_
    refine V_iconst (pc := 9) (v := 0) hk dX2_ofOrder_9 rfl ?_
    refine V_bipush (pc := 10) (v := 7) hk dX2_ofOrder_10 rfl ?_
    refine n_X2_71 (pc := 12) hk (fun r h => ctX2_isIn (fl y) (fK y) hk.2.2.2.2.2.2.2.1 a1 0 7 r1.2 r h) ⟨Nat.le_of_ble_eq_true rfl, Nat.le_of_ble_eq_true rfl⟩ (Nat.le_of_ble_eq_true rfl) dX2_ofOrder_12 (fun r3 => ?_)
    refine V_if_ne (pc := 15) (tgt := 20) hk dX2_ofOrder_15 rfl ?_ ?_
    · refine V_iload_n (pc := 20) hk dX2_ofOrder_20 2 rfl ?_
      refine V_bipush (pc := 21) (v := 6) hk dX2_ofOrder_21 rfl ?_
      refine V_icmp_ne (pc := 23) (tgt := 34) hk dX2_ofOrder_23 rfl ?_ ?_
      · refine V_iload_n (pc := 34) hk dX2_ofOrder_34 2 rfl ?_
        refine V_bipush (pc := 35) (v := 7) hk dX2_ofOrder_35 rfl ?_
        refine V_icmp_ne (pc := 37) (tgt := 53) hk dX2_ofOrder_37 rfl ?_ ?_
        · refine V_aload_n (pc := 53) hk dX2_ofOrder_53 0 rfl ?_
          refine V_iload_n (pc := 54) hk dX2_ofOrder_54 1 rfl ?_
          refine V_iload_n (pc := 55) hk dX2_ofOrder_55 2 rfl ?_
          refine n_X2_295 (pc := 56) hk (fun b r h => ctX2_get (fl y) (fK y) hk.2.2.2.2.2.2.2.1 b a0 a1 r3.2 r h) ⟨Nat.le_of_ble_eq_true rfl, Nat.le_of_ble_eq_true rfl⟩ (Nat.le_of_ble_eq_true rfl) dX2_ofOrder_56 (fun r4 => ?_)
          exact V_ireturn (pc := 59) hk hR rfl dX2_ofOrder_59
        · refine V_aload_n (pc := 40) hk dX2_ofOrder_40 0 rfl ?_
          refine V_aload_n (pc := 41) hk dX2_ofOrder_41 0 rfl ?_
          refine V_iload_n (pc := 42) hk dX2_ofOrder_42 1 rfl ?_
          refine V_iconst (pc := 43) (v := 1) hk dX2_ofOrder_43 rfl ?_
          refine n_X2_295 (pc := 44) hk (fun b r h => ctX2_get (fl y) (fK y) hk.2.2.2.2.2.2.2.1 b a0 1 r3.2 r h) ⟨Nat.le_of_ble_eq_true rfl, Nat.le_of_ble_eq_true rfl⟩ (by simp [rf_cat, cat_int, cat_long, cat_ref]) dX2_ofOrder_44 (fun r6 => ?_)
          refine n_X2_373 (pc := 47) hk (fun b r h => ctX2_holdsAt (fl y) (fK y) hk.2.2.2.2.2.2.2.1 b r6.1 r6.2 r h) ⟨Nat.le_of_ble_eq_true rfl, Nat.le_of_ble_eq_true rfl⟩ (Nat.le_of_ble_eq_true rfl) dX2_ofOrder_47 (fun r8 => ?_)
          refine V_goto (pc := 50) (tgt := 59) hk dX2_ofOrder_50 rfl ?_
          exact V_ireturn (pc := 59) hk hR rfl dX2_ofOrder_59
      · refine V_aload_n (pc := 26) hk dX2_ofOrder_26 0 rfl ?_
        refine V_iload_n (pc := 27) hk dX2_ofOrder_27 1 rfl ?_
        refine n_X2_370 (pc := 28) hk (fun b r h => ctX2_lastsOf (fl y) (fK y) hk.2.2.2.2.2.2.2.1 b a0 r3.2 r h) ⟨Nat.le_of_ble_eq_true rfl, Nat.le_of_ble_eq_true rfl⟩ (Nat.le_of_ble_eq_true rfl) dX2_ofOrder_28 (fun r10 => ?_)
        refine V_goto (pc := 31) (tgt := 59) hk dX2_ofOrder_31 rfl ?_
        exact V_ireturn (pc := 59) hk hR rfl dX2_ofOrder_59
    · refine V_iconst (pc := 18) (v := (-1)) hk dX2_ofOrder_18 (by decide +kernel) ?_
      exact V_ireturn (pc := 19) hk hR rfl dX2_ofOrder_19
theorem ctX2_ofOrder (l : Launch) (K : Kx) (hI : Ini K) (b : Nat) (a0 : Int32) (a1 : Int32) (w : Wd) : ∀ r, mX2_ofOrder b a0 a1 w = some r → Ct l K 7 180 yX2_ofOrder (ws_ yX2_ofOrder cX2_ofOrder 3 (some (.int))) [.ref b, .int a0, .int a1] w (rvI r.1) r.2 := Ct_of rvI l K hI 7 180 [.ref b, .int a0, .int a1] w (by decide) (lc0 := [(0, .ref b), (1, .int a0), (2, .int a1)]) rfl (Nat.le_of_ble_eq_true rfl) (fun y hk hR _ _ hin => eX2_ofOrder hk hR b a0 a1 w)
noncomputable def mX2_held (this : Nat) (w : Wd) : Option (Int32 × Wd) :=
(gR w ((some this)) 2 0).bind fun v1 =>
(ia w v1 16).bind fun v2 =>
if 60 ≤ v2 then (
some (60, w))
else (
(gR w ((some this)) 2 0).bind fun v3 =>
(ia w v3 16).bind fun v4 =>
some (v4, w))
theorem eX2_held {y : Fx (Int32 × Wd)} (hk : OkF y RX2 cX2_held 1 2 60) (hR : RetM y rvI (some (.int))) (this : Nat) (w : Wd) : V y w [(0, va_rf (some this))] [] 0 (mX2_held this w) := by
  unfold mX2_held
  refine V_aload_n (pc := 0) hk dX2_held_0 0 rfl ?_
  refine g_X2_7 (pc := 1) hk dX2_held_1 (fun v1 => ?_)
  refine V_bipush (pc := 4) (v := 16) hk dX2_held_4 rfl ?_
  refine V_iaload (pc := 6) hk dX2_held_6 (fun v2 => ?_)
  refine V_bipush (pc := 7) (v := 60) hk dX2_held_7 rfl ?_
  refine V_icmp_ge (pc := 9) (tgt := 22) hk dX2_held_9 rfl ?_ ?_
  · refine V_bipush (pc := 22) (v := 60) hk dX2_held_22 rfl ?_
    exact V_ireturn (pc := 24) hk hR rfl dX2_held_24
  · refine V_aload_n (pc := 12) hk dX2_held_12 0 rfl ?_
    refine g_X2_7 (pc := 13) hk dX2_held_13 (fun v3 => ?_)
    refine V_bipush (pc := 16) (v := 16) hk dX2_held_16 rfl ?_
    refine V_iaload (pc := 18) hk dX2_held_18 (fun v4 => ?_)
    refine V_goto (pc := 19) (tgt := 24) hk dX2_held_19 rfl ?_
    exact V_ireturn (pc := 24) hk hR rfl dX2_held_24
theorem ctX2_held (l : Launch) (K : Kx) (hI : Ini K) (b : Nat) (w : Wd) : ∀ r, mX2_held b w = some r → Ct l K 2 60 yX2_held (ws_ yX2_held cX2_held 1 (some (.int))) [.ref b] w (rvI r.1) r.2 := Ct_of rvI l K hI 2 60 [.ref b] w (by decide) (lc0 := [(0, .ref b)]) rfl (Nat.le_of_ble_eq_true rfl) (fun y hk hR _ _ hin => eX2_held hk hR b w)
noncomputable def mX2_ago (this : Nat) (a0 : Int32) (a1 : Int32) (w : Wd) : Option (Int32 × Wd) :=
(recv w ((some this)) 2).bind fun b2 => (cal w (mX2_held b2 w)).bind fun r1 =>
(cal r1.2 (mX2_isIn a0 1 r1.1 r1.2)).bind fun r3 =>
if r3.1 = 0 then (
some ((-100000), r3.2))
else (
(cal r3.2 (mX2_isIn a1 0 5 r3.2)).bind fun r4 =>
if r4.1 = 0 then (
some ((-100000), r4.2))
else (
(gR r4.2 ((some this)) 2 0).bind fun v5 =>
(ia r4.2 v5 16).bind fun v6 =>
(recv r4.2 ((some this)) 2).bind fun b8 => (cal r4.2 (mX2_pastOf b8 (v6 - a0) a1 r4.2)).bind fun r7 =>
some (r7.1, r7.2)))
theorem eX2_ago {y : Fx (Int32 × Wd)} (hk : OkF y RX2 cX2_ago 3 3 82) (hR : RetM y rvI (some (.int))) (this : Nat) (a0 : Int32) (a1 : Int32) (w : Wd) : V y w [(0, va_rf (some this)), (1, .int a0), (2, .int a1)] [] 0 (mX2_ago this a0 a1 w) := by
  unfold mX2_ago
  refine V_iload_n (pc := 0) hk dX2_ago_0 1 rfl ?_
  refine V_iconst (pc := 1) (v := 1) hk dX2_ago_1 rfl ?_
  refine V_aload_n (pc := 2) hk dX2_ago_2 0 rfl ?_
  refine n_X2_376 (pc := 3) hk (fun b r h => ctX2_held (fl y) (fK y) hk.2.2.2.2.2.2.2.1 b w r h) ⟨Nat.le_of_ble_eq_true rfl, Nat.le_of_ble_eq_true rfl⟩ (Nat.le_of_ble_eq_true rfl) dX2_ago_3 (fun r1 => ?_)
  refine n_X2_71 (pc := 6) hk (fun r h => ctX2_isIn (fl y) (fK y) hk.2.2.2.2.2.2.2.1 a0 1 r1.1 r1.2 r h) ⟨Nat.le_of_ble_eq_true rfl, Nat.le_of_ble_eq_true rfl⟩ (Nat.le_of_ble_eq_true rfl) dX2_ago_6 (fun r3 => ?_)
  refine V_if_eq (pc := 9) (tgt := 38) hk dX2_ago_9 rfl ?_ ?_
  · refine V_ldcw (pc := 38) (v := (-100000)) hk dX2_ago_38 q1791 ?_
    exact V_ireturn (pc := 41) hk hR rfl dX2_ago_41
  · refine V_iload_n (pc := 12) hk dX2_ago_12 2 rfl ?_
    refine V_iconst (pc := 13) (v := 0) hk dX2_ago_13 rfl ?_
    refine V_iconst (pc := 14) (v := 5) hk dX2_ago_14 rfl ?_
    refine n_X2_71 (pc := 15) hk (fun r h => ctX2_isIn (fl y) (fK y) hk.2.2.2.2.2.2.2.1 a1 0 5 r3.2 r h) ⟨Nat.le_of_ble_eq_true rfl, Nat.le_of_ble_eq_true rfl⟩ (Nat.le_of_ble_eq_true rfl) dX2_ago_15 (fun r4 => ?_)
    refine V_if_eq (pc := 18) (tgt := 38) hk dX2_ago_18 rfl ?_ ?_
    · refine V_ldcw (pc := 38) (v := (-100000)) hk dX2_ago_38 q1791 ?_
      exact V_ireturn (pc := 41) hk hR rfl dX2_ago_41
    · refine V_aload_n (pc := 21) hk dX2_ago_21 0 rfl ?_
      refine V_aload_n (pc := 22) hk dX2_ago_22 0 rfl ?_
      refine g_X2_7 (pc := 23) hk dX2_ago_23 (fun v5 => ?_)
      refine V_bipush (pc := 26) (v := 16) hk dX2_ago_26 rfl ?_
      refine V_iaload (pc := 28) hk dX2_ago_28 (fun v6 => ?_)
      refine V_iload_n (pc := 29) hk dX2_ago_29 1 rfl ?_
      refine V_isub (pc := 30) hk dX2_ago_30 ?_
      refine V_iload_n (pc := 31) hk dX2_ago_31 2 rfl ?_
      refine n_X2_269 (pc := 32) hk (fun b r h => ctX2_pastOf (fl y) (fK y) hk.2.2.2.2.2.2.2.1 b (v6 - a0) a1 r4.2 r h) ⟨Nat.le_of_ble_eq_true rfl, Nat.le_of_ble_eq_true rfl⟩ (Nat.le_of_ble_eq_true rfl) dX2_ago_32 (fun r7 => ?_)
      refine V_goto (pc := 35) (tgt := 41) hk dX2_ago_35 rfl ?_
      exact V_ireturn (pc := 41) hk hR rfl dX2_ago_41
theorem ctX2_ago (l : Launch) (K : Kx) (hI : Ini K) (b : Nat) (a0 : Int32) (a1 : Int32) (w : Wd) : ∀ r, mX2_ago b a0 a1 w = some r → Ct l K 3 82 yX2_ago (ws_ yX2_ago cX2_ago 3 (some (.int))) [.ref b, .int a0, .int a1] w (rvI r.1) r.2 := Ct_of rvI l K hI 3 82 [.ref b, .int a0, .int a1] w (by decide) (lc0 := [(0, .ref b), (1, .int a0), (2, .int a1)]) rfl (Nat.le_of_ble_eq_true rfl) (fun y hk hR _ _ hin => eX2_ago hk hR b a0 a1 w)
noncomputable def mX2_begin_b2 (k2 : Wd → (Option Nat) → Int32 → Option (Unit × Wd)) (w : Wd) (l0 : Option Nat) (l1 : Int32) : Option (Unit × Wd) :=
if 18 ≤ l1 then (
some ((), w))
else (
(gR w l0 2 26).bind fun v1 =>
(gR w l0 2 0).bind fun v2 =>
(ia w v2 l1).bind fun v3 =>
(ias w v1 l1 v3).bind fun w4 =>
k2 w4 l0 (l1 + 1))
noncomputable def mX2_begin_l2 : Nat → Wd → (Option Nat) → Int32 → Option (Unit × Wd)
  | 0, _, _, _ => none
  | n + 1, w, l0, l1 => mX2_begin_b2 (mX2_begin_l2 n) w l0 l1
noncomputable def mX2_begin (this : Nat) (w : Wd) : Option (Unit × Wd) :=
mX2_begin_l2 FU w ((some this)) 0
theorem eX2_begin_b2 {y : Fx (Unit × Wd)} (hk : OkF y RX2 cX2_begin 2 2 60) (hR : RetM y rvV none) {k2 : Wd → (Option Nat) → Int32 → Option (Unit × Wd)} (h2 : ∀ (w : Wd) (l0 : Option Nat) (l1 : Int32), V y w [(0, va_rf l0), (1, .int l1)] [] 2 (k2 w l0 l1)) (w : Wd) (l0 : Option Nat) (l1 : Int32) : V y w [(0, va_rf l0), (1, .int l1)] [] 2 (mX2_begin_b2 k2 w l0 l1) := by
  unfold mX2_begin_b2
  refine V_iload_n (pc := 2) hk dX2_begin_2 1 rfl ?_
  refine V_bipush (pc := 3) (v := 18) hk dX2_begin_3 rfl ?_
  refine V_icmp_ge (pc := 5) (tgt := 26) hk dX2_begin_5 rfl ?_ ?_
  · exact V_return (pc := 26) hk hR rfl dX2_begin_26
  · refine V_aload_n (pc := 8) hk dX2_begin_8 0 rfl ?_
    refine g_X2_43 (pc := 9) hk dX2_begin_9 (fun v1 => ?_)
    refine V_iload_n (pc := 12) hk dX2_begin_12 1 rfl ?_
    refine V_aload_n (pc := 13) hk dX2_begin_13 0 rfl ?_
    refine g_X2_7 (pc := 14) hk dX2_begin_14 (fun v2 => ?_)
    refine V_iload_n (pc := 17) hk dX2_begin_17 1 rfl ?_
    refine V_iaload (pc := 18) hk dX2_begin_18 (fun v3 => ?_)
    refine V_iastore (pc := 19) hk dX2_begin_19 (fun w4 => ?_)
    refine V_iinc (pc := 20) (v := 1) (lc' := [(1, .int (l1 + 1)), (0, va_rf l0)]) hk dX2_begin_20 1 rfl rfl (Nat.le_of_ble_eq_true rfl) (by simp [rf_cat, cat_int, cat_long, cat_ref]) ?_
    refine V_goto (pc := 23) (tgt := 2) hk dX2_begin_23 rfl ?_
    refine V_pick (lc' := [(0, va_rf l0), (1, .int (l1 + 1))]) [1, 0] rfl ?_
    exact h2 w4 l0 (l1 + 1)
theorem eX2_begin_l2 {y : Fx (Unit × Wd)} (hk : OkF y RX2 cX2_begin 2 2 60) (hR : RetM y rvV none) : ∀ (n : Nat) (w : Wd) (l0 : Option Nat) (l1 : Int32), V y w [(0, va_rf l0), (1, .int l1)] [] 2 (mX2_begin_l2 n w l0 l1) := by
  intro n
  induction n with
  | zero => intro w l0 l1; exact V_none
  | succ n ih => intro w l0 l1; exact eX2_begin_b2 hk hR ih w l0 l1
theorem eX2_begin {y : Fx (Unit × Wd)} (hk : OkF y RX2 cX2_begin 2 2 60) (hR : RetM y rvV none) (this : Nat) (w : Wd) : V y w [(0, va_rf (some this))] [] 0 (mX2_begin this w) := by
  unfold mX2_begin
  refine V_iconst (pc := 0) (v := 0) hk dX2_begin_0 rfl ?_
  refine V_istore_n (pc := 1) (lc' := [(1, .int 0), (0, va_rf ((some this)))]) (i := 1) hk dX2_begin_1 rfl (Nat.le_of_ble_eq_true rfl) (by simp [rf_cat, cat_int, cat_long, cat_ref]) ?_
  refine V_pick (lc' := [(0, va_rf ((some this))), (1, .int 0)]) [1, 0] rfl ?_
  exact eX2_begin_l2 hk hR FU w ((some this)) 0
theorem ctX2_begin (l : Launch) (K : Kx) (hI : Ini K) (b : Nat) (w : Wd) : ∀ r, mX2_begin b w = some r → Ct l K 2 60 yX2_begin (ws_ yX2_begin cX2_begin 2 none) [.ref b] w (rvV r.1) r.2 := Ct_of rvV l K hI 2 60 [.ref b] w (by decide) (lc0 := [(0, .ref b)]) rfl (Nat.le_of_ble_eq_true rfl) (fun y hk hR _ _ hin => eX2_begin hk hR b w)
noncomputable def mX2_putBack_b2 (k2 : Wd → (Option Nat) → Int32 → Option (Unit × Wd)) (w : Wd) (l0 : Option Nat) (l1 : Int32) : Option (Unit × Wd) :=
if 18 ≤ l1 then (
(zok 0).bind fun _ => (pf w l0 2 25 (.int 0)).bind fun w1 =>
some ((), w1))
else (
(gR w l0 2 0).bind fun v2 =>
(gR w l0 2 26).bind fun v3 =>
(ia w v3 l1).bind fun v4 =>
(ias w v2 l1 v4).bind fun w5 =>
k2 w5 l0 (l1 + 1))
noncomputable def mX2_putBack_l2 : Nat → Wd → (Option Nat) → Int32 → Option (Unit × Wd)
  | 0, _, _, _ => none
  | n + 1, w, l0, l1 => mX2_putBack_b2 (mX2_putBack_l2 n) w l0 l1
noncomputable def mX2_putBack (this : Nat) (w : Wd) : Option (Unit × Wd) :=
mX2_putBack_l2 FU w ((some this)) 0
theorem eX2_putBack_b2 {y : Fx (Unit × Wd)} (hk : OkF y RX2 cX2_putBack 2 2 60) (hR : RetM y rvV none) {k2 : Wd → (Option Nat) → Int32 → Option (Unit × Wd)} (h2 : ∀ (w : Wd) (l0 : Option Nat) (l1 : Int32), V y w [(0, va_rf l0), (1, .int l1)] [] 2 (k2 w l0 l1)) (w : Wd) (l0 : Option Nat) (l1 : Int32) : V y w [(0, va_rf l0), (1, .int l1)] [] 2 (mX2_putBack_b2 k2 w l0 l1) := by
  unfold mX2_putBack_b2
  refine V_iload_n (pc := 2) hk dX2_putBack_2 1 rfl ?_
  refine V_bipush (pc := 3) (v := 18) hk dX2_putBack_3 rfl ?_
  refine V_icmp_ge (pc := 5) (tgt := 26) hk dX2_putBack_5 rfl ?_ ?_
  · refine V_aload_n (pc := 26) hk dX2_putBack_26 0 rfl ?_
    refine V_iconst (pc := 27) (v := 0) hk dX2_putBack_27 rfl ?_
    refine p_X2_317 (pc := 28) hk dX2_putBack_28 (fun w1 => ?_)
    exact V_return (pc := 31) hk hR rfl dX2_putBack_31
  · refine V_aload_n (pc := 8) hk dX2_putBack_8 0 rfl ?_
    refine g_X2_7 (pc := 9) hk dX2_putBack_9 (fun v2 => ?_)
    refine V_iload_n (pc := 12) hk dX2_putBack_12 1 rfl ?_
    refine V_aload_n (pc := 13) hk dX2_putBack_13 0 rfl ?_
    refine g_X2_43 (pc := 14) hk dX2_putBack_14 (fun v3 => ?_)
    refine V_iload_n (pc := 17) hk dX2_putBack_17 1 rfl ?_
    refine V_iaload (pc := 18) hk dX2_putBack_18 (fun v4 => ?_)
    refine V_iastore (pc := 19) hk dX2_putBack_19 (fun w5 => ?_)
    refine V_iinc (pc := 20) (v := 1) (lc' := [(1, .int (l1 + 1)), (0, va_rf l0)]) hk dX2_putBack_20 1 rfl rfl (Nat.le_of_ble_eq_true rfl) (by simp [rf_cat, cat_int, cat_long, cat_ref]) ?_
    refine V_goto (pc := 23) (tgt := 2) hk dX2_putBack_23 rfl ?_
    refine V_pick (lc' := [(0, va_rf l0), (1, .int (l1 + 1))]) [1, 0] rfl ?_
    exact h2 w5 l0 (l1 + 1)
theorem eX2_putBack_l2 {y : Fx (Unit × Wd)} (hk : OkF y RX2 cX2_putBack 2 2 60) (hR : RetM y rvV none) : ∀ (n : Nat) (w : Wd) (l0 : Option Nat) (l1 : Int32), V y w [(0, va_rf l0), (1, .int l1)] [] 2 (mX2_putBack_l2 n w l0 l1) := by
  intro n
  induction n with
  | zero => intro w l0 l1; exact V_none
  | succ n ih => intro w l0 l1; exact eX2_putBack_b2 hk hR ih w l0 l1
theorem eX2_putBack {y : Fx (Unit × Wd)} (hk : OkF y RX2 cX2_putBack 2 2 60) (hR : RetM y rvV none) (this : Nat) (w : Wd) : V y w [(0, va_rf (some this))] [] 0 (mX2_putBack this w) := by
  unfold mX2_putBack
  refine V_iconst (pc := 0) (v := 0) hk dX2_putBack_0 rfl ?_
  refine V_istore_n (pc := 1) (lc' := [(1, .int 0), (0, va_rf ((some this)))]) (i := 1) hk dX2_putBack_1 rfl (Nat.le_of_ble_eq_true rfl) (by simp [rf_cat, cat_int, cat_long, cat_ref]) ?_
  refine V_pick (lc' := [(0, va_rf ((some this))), (1, .int 0)]) [1, 0] rfl ?_
  exact eX2_putBack_l2 hk hR FU w ((some this)) 0
theorem ctX2_putBack (l : Launch) (K : Kx) (hI : Ini K) (b : Nat) (w : Wd) : ∀ r, mX2_putBack b w = some r → Ct l K 2 60 yX2_putBack (ws_ yX2_putBack cX2_putBack 2 none) [.ref b] w (rvV r.1) r.2 := Ct_of rvV l K hI 2 60 [.ref b] w (by decide) (lc0 := [(0, .ref b)]) rfl (Nat.le_of_ble_eq_true rfl) (fun y hk hR _ _ hin => eX2_putBack hk hR b w)
noncomputable def mX2_foretold_p155 (w : Wd) (l0 : Option Nat) (t0 : Int32) : Option (Int32 × Wd) :=
(recv w l0 2).bind fun b2 => (cal w (mX2_putBack b2 w)).bind fun r1 =>
some (t0, r1.2)
noncomputable def mX2_foretold_p89 (k37 : Wd → (Option Nat) → Int32 → Int32 → Int32 → Int32 → Int32 → Int32 → Option (Int32 × Wd)) (w : Wd) (l0 : Option Nat) (l1 : Int32) (l2 : Int32) (l3 : Int32) (l5 : Int32) (l6 : Int32) (t0 : Int32) : Option (Int32 × Wd) :=
if ¬ l5 = (-1) then (
k37 w l0 l1 l2 l3 t0 l5 (l6 + 1))
else (
(recv w l0 2).bind fun b2 => (cal w (mX2_hangsStill b2 w)).bind fun r1 =>
if r1.1 = 0 then (
k37 r1.2 l0 l1 l2 l3 t0 l5 (l6 + 1))
else (
k37 r1.2 l0 l1 l2 l3 t0 l6 (l6 + 1)))
noncomputable def mX2_foretold_p62 (k37 : Wd → (Option Nat) → Int32 → Int32 → Int32 → Int32 → Int32 → Int32 → Option (Int32 × Wd)) (w : Wd) (l0 : Option Nat) (l1 : Int32) (l2 : Int32) (l3 : Int32) (l4 : Int32) (l5 : Int32) (l6 : Int32) (t0 : Int32) (t1 : Option Nat) : Option (Int32 × Wd) :=
(recv w t1 2).bind fun b2 => (cal w (mX2_pass b2 t0 w)).bind fun r1 =>
(recv r1.2 l0 2).bind fun b4 => (cal r1.2 (mX2_away b4 r1.2)).bind fun r3 =>
(cal r3.2 (mX2_sizeOf r3.1 r3.2)).bind fun r5 =>
if r5.1 ≤ l4 then (
mX2_foretold_p89 k37 r5.2 l0 l1 l2 l3 l5 l6 l4)
else (
(recv r5.2 l0 2).bind fun b7 => (cal r5.2 (mX2_away b7 r5.2)).bind fun r6 =>
(cal r6.2 (mX2_sizeOf r6.1 r6.2)).bind fun r8 =>
mX2_foretold_p89 k37 r8.2 l0 l1 l2 l3 l5 l6 r8.1)
noncomputable def mX2_foretold_b37 (k37 : Wd → (Option Nat) → Int32 → Int32 → Int32 → Int32 → Int32 → Int32 → Option (Int32 × Wd)) (w : Wd) (l0 : Option Nat) (l1 : Int32) (l2 : Int32) (l3 : Int32) (l4 : Int32) (l5 : Int32) (l6 : Int32) : Option (Int32 × Wd) :=
if l1 < l6 then (
if ¬ l3 = 0 then (
if ¬ l3 = 1 then (
if ¬ l3 = 2 then (
mX2_foretold_p155 w l0 l5)
else (
mX2_foretold_p155 w l0 l4))
else (
(gR w l0 2 0).bind fun v1 =>
(ia w v1 10).bind fun v2 =>
mX2_foretold_p155 w l0 v2))
else (
(gR w l0 2 0).bind fun v3 =>
(ia w v3 8).bind fun v4 =>
mX2_foretold_p155 w l0 v4))
else (
if l2 = 0 then (
mX2_foretold_p62 k37 w l0 l1 l2 l3 l4 l5 l6 0 l0)
else (
(gR w l0 2 0).bind fun v5 =>
(ia w v5 4).bind fun v6 =>
(recv w l0 2).bind fun b8 => (cal w (mX2_commandNow b8 v6 w)).bind fun r7 =>
mX2_foretold_p62 k37 r7.2 l0 l1 l2 l3 l4 l5 l6 r7.1 l0))
noncomputable def mX2_foretold_l37 : Nat → Wd → (Option Nat) → Int32 → Int32 → Int32 → Int32 → Int32 → Int32 → Option (Int32 × Wd)
  | 0, _, _, _, _, _, _, _, _ => none
  | n + 1, w, l0, l1, l2, l3, l4, l5, l6 => mX2_foretold_b37 (mX2_foretold_l37 n) w l0 l1 l2 l3 l4 l5 l6
noncomputable def mX2_foretold (this : Nat) (a0 : Int32) (a1 : Int32) (a2 : Int32) (w : Wd) : Option (Int32 × Wd) :=
(cal w (mX2_isIn a0 1 200 w)).bind fun r1 =>
if r1.1 = 0 then (
some ((-100000), r1.2))
else (
(cal r1.2 (mX2_isIn a2 0 3 r1.2)).bind fun r2 =>
if ¬ r2.1 = 0 then (
(recv r2.2 ((some this)) 2).bind fun b4 => (cal r2.2 (mX2_begin b4 r2.2)).bind fun r3 =>
mX2_foretold_l37 FU r3.2 ((some this)) a0 a1 a2 0 (-1) 1)
else (
some ((-100000), r2.2)))
theorem eX2_foretold_p155 {y : Fx (Int32 × Wd)} (hk : OkF y RX2 cX2_foretold 7 7 181) (hR : RetM y rvI (some (.int))) (w : Wd) (l0 : Option Nat) (t0 : Int32) : V y w [(0, va_rf l0)] [.int t0] 155 (mX2_foretold_p155 w l0 t0) := by
  unfold mX2_foretold_p155
  refine V_istore (pc := 155) (lc' := [(6, .int t0), (0, va_rf l0)]) (i := 6) hk dX2_foretold_155 (Nat.le_of_ble_eq_true rfl) rfl ?_
  refine V_aload_n (pc := 157) hk dX2_foretold_157 1 rfl ?_
  refine n_X2_382 (pc := 158) hk (fun b r h => ctX2_putBack (fl y) (fK y) hk.2.2.2.2.2.2.2.1 b w r h) ⟨Nat.le_of_ble_eq_true rfl, Nat.le_of_ble_eq_true rfl⟩ (Nat.le_of_ble_eq_true rfl) dX2_foretold_158 (fun r1 => ?_)
  refine V_iload (pc := 161) hk dX2_foretold_161 0 rfl ?_
  exact V_ireturn (pc := 163) hk hR rfl dX2_foretold_163
theorem eX2_foretold_p89 {y : Fx (Int32 × Wd)} (hk : OkF y RX2 cX2_foretold 7 7 181) (hR : RetM y rvI (some (.int))) {k37 : Wd → (Option Nat) → Int32 → Int32 → Int32 → Int32 → Int32 → Int32 → Option (Int32 × Wd)} (h37 : ∀ (w : Wd) (l0 : Option Nat) (l1 : Int32) (l2 : Int32) (l3 : Int32) (l4 : Int32) (l5 : Int32) (l6 : Int32), V y w [(0, va_rf l0), (1, .int l1), (2, .int l2), (3, .int l3), (4, .int l4), (5, .int l5), (6, .int l6)] [] 37 (k37 w l0 l1 l2 l3 l4 l5 l6)) (w : Wd) (l0 : Option Nat) (l1 : Int32) (l2 : Int32) (l3 : Int32) (l5 : Int32) (l6 : Int32) (t0 : Int32) : V y w [(0, va_rf l0), (1, .int l1), (2, .int l2), (3, .int l3), (5, .int l5), (6, .int l6)] [.int t0] 89 (mX2_foretold_p89 k37 w l0 l1 l2 l3 l5 l6 t0) := by
  unfold mX2_foretold_p89
  refine V_istore (pc := 89) (lc' := [(4, .int t0), (0, va_rf l0), (1, .int l1), (2, .int l2), (3, .int l3), (5, .int l5), (6, .int l6)]) (i := 4) hk dX2_foretold_89 (Nat.le_of_ble_eq_true rfl) rfl ?_
  refine V_iload (pc := 91) hk dX2_foretold_91 5 rfl ?_
  refine V_iconst (pc := 93) (v := (-1)) hk dX2_foretold_93 (by decide +kernel) ?_
  refine V_icmp_ne (pc := 94) (tgt := 108) hk dX2_foretold_94 rfl ?_ ?_
  · refine V_iinc (pc := 108) (v := 1) (lc' := [(6, .int (l6 + 1)), (4, .int t0), (0, va_rf l0), (1, .int l1), (2, .int l2), (3, .int l3), (5, .int l5)]) hk dX2_foretold_108 6 rfl rfl (Nat.le_of_ble_eq_true rfl) rfl ?_
    refine V_goto (pc := 111) (tgt := 37) hk dX2_foretold_111 rfl ?_
    refine V_pick (lc' := [(0, va_rf l0), (1, .int l1), (2, .int l2), (3, .int l3), (4, .int t0), (5, .int l5), (6, .int (l6 + 1))]) [2, 3, 4, 5, 1, 6, 0] rfl ?_
    exact h37 w l0 l1 l2 l3 t0 l5 (l6 + 1)
  · refine V_aload_n (pc := 97) hk dX2_foretold_97 1 rfl ?_
    refine n_X2_347 (pc := 98) hk (fun b r h => ctX2_hangsStill (fl y) (fK y) hk.2.2.2.2.2.2.2.1 b w r h) ⟨Nat.le_of_ble_eq_true rfl, Nat.le_of_ble_eq_true rfl⟩ (Nat.le_of_ble_eq_true rfl) dX2_foretold_98 (fun r1 => ?_)
    refine V_if_eq (pc := 101) (tgt := 108) hk dX2_foretold_101 rfl ?_ ?_
    · refine V_iinc (pc := 108) (v := 1) (lc' := [(6, .int (l6 + 1)), (4, .int t0), (0, va_rf l0), (1, .int l1), (2, .int l2), (3, .int l3), (5, .int l5)]) hk dX2_foretold_108 6 rfl rfl (Nat.le_of_ble_eq_true rfl) rfl ?_
      refine V_goto (pc := 111) (tgt := 37) hk dX2_foretold_111 rfl ?_
      refine V_pick (lc' := [(0, va_rf l0), (1, .int l1), (2, .int l2), (3, .int l3), (4, .int t0), (5, .int l5), (6, .int (l6 + 1))]) [2, 3, 4, 5, 1, 6, 0] rfl ?_
      exact h37 r1.2 l0 l1 l2 l3 t0 l5 (l6 + 1)
    · refine V_iload (pc := 104) hk dX2_foretold_104 6 rfl ?_
      refine V_istore (pc := 106) (lc' := [(5, .int l6), (4, .int t0), (0, va_rf l0), (1, .int l1), (2, .int l2), (3, .int l3), (6, .int l6)]) (i := 5) hk dX2_foretold_106 (Nat.le_of_ble_eq_true rfl) rfl ?_
      refine V_iinc (pc := 108) (v := 1) (lc' := [(6, .int (l6 + 1)), (5, .int l6), (4, .int t0), (0, va_rf l0), (1, .int l1), (2, .int l2), (3, .int l3)]) hk dX2_foretold_108 6 rfl rfl (Nat.le_of_ble_eq_true rfl) rfl ?_
      refine V_goto (pc := 111) (tgt := 37) hk dX2_foretold_111 rfl ?_
      refine V_pick (lc' := [(0, va_rf l0), (1, .int l1), (2, .int l2), (3, .int l3), (4, .int t0), (5, .int l6), (6, .int (l6 + 1))]) [3, 4, 5, 6, 2, 1, 0] rfl ?_
      exact h37 r1.2 l0 l1 l2 l3 t0 l6 (l6 + 1)
theorem eX2_foretold_p62 {y : Fx (Int32 × Wd)} (hk : OkF y RX2 cX2_foretold 7 7 181) (hR : RetM y rvI (some (.int))) {k37 : Wd → (Option Nat) → Int32 → Int32 → Int32 → Int32 → Int32 → Int32 → Option (Int32 × Wd)} (h37 : ∀ (w : Wd) (l0 : Option Nat) (l1 : Int32) (l2 : Int32) (l3 : Int32) (l4 : Int32) (l5 : Int32) (l6 : Int32), V y w [(0, va_rf l0), (1, .int l1), (2, .int l2), (3, .int l3), (4, .int l4), (5, .int l5), (6, .int l6)] [] 37 (k37 w l0 l1 l2 l3 l4 l5 l6)) (w : Wd) (l0 : Option Nat) (l1 : Int32) (l2 : Int32) (l3 : Int32) (l4 : Int32) (l5 : Int32) (l6 : Int32) (t0 : Int32) (t1 : Option Nat) : V y w [(0, va_rf l0), (1, .int l1), (2, .int l2), (3, .int l3), (4, .int l4), (5, .int l5), (6, .int l6)] [.int t0, va_rf t1] 62 (mX2_foretold_p62 k37 w l0 l1 l2 l3 l4 l5 l6 t0 t1) := by
  unfold mX2_foretold_p62
  refine n_X2_332 (pc := 62) hk (fun b r h => ctX2_pass (fl y) (fK y) hk.2.2.2.2.2.2.2.1 b t0 w r h) ⟨Nat.le_of_ble_eq_true rfl, Nat.le_of_ble_eq_true rfl⟩ (Nat.le_of_ble_eq_true rfl) dX2_foretold_62 (fun r1 => ?_)
  refine V_aload_n (pc := 65) hk dX2_foretold_65 0 rfl ?_
  refine n_X2_292 (pc := 66) hk (fun b r h => ctX2_away (fl y) (fK y) hk.2.2.2.2.2.2.2.1 b r1.2 r h) ⟨Nat.le_of_ble_eq_true rfl, Nat.le_of_ble_eq_true rfl⟩ (Nat.le_of_ble_eq_true rfl) dX2_foretold_66 (fun r3 => ?_)
  refine n_X2_323 (pc := 69) hk (fun r h => ctX2_sizeOf (fl y) (fK y) hk.2.2.2.2.2.2.2.1 r3.1 r3.2 r h) ⟨Nat.le_of_ble_eq_true rfl, Nat.le_of_ble_eq_true rfl⟩ (Nat.le_of_ble_eq_true rfl) dX2_foretold_69 (fun r5 => ?_)
  refine V_iload (pc := 72) hk dX2_foretold_72 4 rfl ?_
  refine V_icmp_le (pc := 74) (tgt := 87) hk dX2_foretold_74 rfl ?_ ?_
  · refine V_iload (pc := 87) hk dX2_foretold_87 4 rfl ?_
    refine V_pick (lc' := [(0, va_rf l0), (1, .int l1), (2, .int l2), (3, .int l3), (5, .int l5), (6, .int l6)]) [0, 1, 2, 3, 5, 6] rfl ?_
    exact eX2_foretold_p89 hk hR h37 r5.2 l0 l1 l2 l3 l5 l6 l4
  · refine V_aload_n (pc := 77) hk dX2_foretold_77 0 rfl ?_
    refine n_X2_292 (pc := 78) hk (fun b r h => ctX2_away (fl y) (fK y) hk.2.2.2.2.2.2.2.1 b r5.2 r h) ⟨Nat.le_of_ble_eq_true rfl, Nat.le_of_ble_eq_true rfl⟩ (Nat.le_of_ble_eq_true rfl) dX2_foretold_78 (fun r6 => ?_)
    refine n_X2_323 (pc := 81) hk (fun r h => ctX2_sizeOf (fl y) (fK y) hk.2.2.2.2.2.2.2.1 r6.1 r6.2 r h) ⟨Nat.le_of_ble_eq_true rfl, Nat.le_of_ble_eq_true rfl⟩ (Nat.le_of_ble_eq_true rfl) dX2_foretold_81 (fun r8 => ?_)
    refine V_goto (pc := 84) (tgt := 89) hk dX2_foretold_84 rfl ?_
    refine V_pick (lc' := [(0, va_rf l0), (1, .int l1), (2, .int l2), (3, .int l3), (5, .int l5), (6, .int l6)]) [0, 1, 2, 3, 5, 6] rfl ?_
    exact eX2_foretold_p89 hk hR h37 r8.2 l0 l1 l2 l3 l5 l6 r8.1
theorem eX2_foretold_b37 {y : Fx (Int32 × Wd)} (hk : OkF y RX2 cX2_foretold 7 7 181) (hR : RetM y rvI (some (.int))) {k37 : Wd → (Option Nat) → Int32 → Int32 → Int32 → Int32 → Int32 → Int32 → Option (Int32 × Wd)} (h37 : ∀ (w : Wd) (l0 : Option Nat) (l1 : Int32) (l2 : Int32) (l3 : Int32) (l4 : Int32) (l5 : Int32) (l6 : Int32), V y w [(0, va_rf l0), (1, .int l1), (2, .int l2), (3, .int l3), (4, .int l4), (5, .int l5), (6, .int l6)] [] 37 (k37 w l0 l1 l2 l3 l4 l5 l6)) (w : Wd) (l0 : Option Nat) (l1 : Int32) (l2 : Int32) (l3 : Int32) (l4 : Int32) (l5 : Int32) (l6 : Int32) : V y w [(0, va_rf l0), (1, .int l1), (2, .int l2), (3, .int l3), (4, .int l4), (5, .int l5), (6, .int l6)] [] 37 (mX2_foretold_b37 k37 w l0 l1 l2 l3 l4 l5 l6) := by
  unfold mX2_foretold_b37
  refine V_iload (pc := 37) hk dX2_foretold_37 6 rfl ?_
  refine V_iload_n (pc := 39) hk dX2_foretold_39 1 rfl ?_
  refine V_icmp_gt (pc := 40) (tgt := 114) hk dX2_foretold_40 rfl ?_ ?_
  · refine V_iload_n (pc := 114) hk dX2_foretold_114 3 rfl ?_
    refine V_if_ne (pc := 115) (tgt := 128) hk dX2_foretold_115 rfl ?_ ?_
    · refine V_iload_n (pc := 128) hk dX2_foretold_128 3 rfl ?_
      refine V_iconst (pc := 129) (v := 1) hk dX2_foretold_129 rfl ?_
      refine V_icmp_ne (pc := 130) (tgt := 143) hk dX2_foretold_130 rfl ?_ ?_
      · refine V_iload_n (pc := 143) hk dX2_foretold_143 3 rfl ?_
        refine V_iconst (pc := 144) (v := 2) hk dX2_foretold_144 rfl ?_
        refine V_icmp_ne (pc := 145) (tgt := 153) hk dX2_foretold_145 rfl ?_ ?_
        · refine V_iload (pc := 153) hk dX2_foretold_153 5 rfl ?_
          refine V_pick (lc' := [(0, va_rf l0)]) [0] rfl ?_
          exact eX2_foretold_p155 hk hR w l0 l5
        · refine V_iload (pc := 148) hk dX2_foretold_148 4 rfl ?_
          refine V_goto (pc := 150) (tgt := 155) hk dX2_foretold_150 rfl ?_
          refine V_pick (lc' := [(0, va_rf l0)]) [0] rfl ?_
          exact eX2_foretold_p155 hk hR w l0 l4
      · refine V_aload_n (pc := 133) hk dX2_foretold_133 0 rfl ?_
        refine g_X2_7 (pc := 134) hk dX2_foretold_134 (fun v1 => ?_)
        refine V_bipush (pc := 137) (v := 10) hk dX2_foretold_137 rfl ?_
        refine V_iaload (pc := 139) hk dX2_foretold_139 (fun v2 => ?_)
        refine V_goto (pc := 140) (tgt := 155) hk dX2_foretold_140 rfl ?_
        refine V_pick (lc' := [(0, va_rf l0)]) [0] rfl ?_
        exact eX2_foretold_p155 hk hR w l0 v2
    · refine V_aload_n (pc := 118) hk dX2_foretold_118 0 rfl ?_
      refine g_X2_7 (pc := 119) hk dX2_foretold_119 (fun v3 => ?_)
      refine V_bipush (pc := 122) (v := 8) hk dX2_foretold_122 rfl ?_
      refine V_iaload (pc := 124) hk dX2_foretold_124 (fun v4 => ?_)
      refine V_goto (pc := 125) (tgt := 155) hk dX2_foretold_125 rfl ?_
      refine V_pick (lc' := [(0, va_rf l0)]) [0] rfl ?_
      exact eX2_foretold_p155 hk hR w l0 v4
  · refine V_aload_n (pc := 43) hk dX2_foretold_43 0 rfl ?_
    refine V_iload_n (pc := 44) hk dX2_foretold_44 2 rfl ?_
    refine V_if_eq (pc := 45) (tgt := 61) hk dX2_foretold_45 rfl ?_ ?_
    · refine V_iconst (pc := 61) (v := 0) hk dX2_foretold_61 rfl ?_
      exact eX2_foretold_p62 hk hR h37 w l0 l1 l2 l3 l4 l5 l6 0 l0
    · refine V_aload_n (pc := 48) hk dX2_foretold_48 0 rfl ?_
      refine V_aload_n (pc := 49) hk dX2_foretold_49 0 rfl ?_
      refine g_X2_7 (pc := 50) hk dX2_foretold_50 (fun v5 => ?_)
      refine V_iconst (pc := 53) (v := 4) hk dX2_foretold_53 rfl ?_
      refine V_iaload (pc := 54) hk dX2_foretold_54 (fun v6 => ?_)
      refine n_X2_338 (pc := 55) hk (fun b r h => ctX2_commandNow (fl y) (fK y) hk.2.2.2.2.2.2.2.1 b v6 w r h) ⟨Nat.le_of_ble_eq_true rfl, Nat.le_of_ble_eq_true rfl⟩ (by simp [rf_cat, cat_int, cat_long, cat_ref]) dX2_foretold_55 (fun r7 => ?_)
      refine V_goto (pc := 58) (tgt := 62) hk dX2_foretold_58 rfl ?_
      exact eX2_foretold_p62 hk hR h37 r7.2 l0 l1 l2 l3 l4 l5 l6 r7.1 l0
theorem eX2_foretold_l37 {y : Fx (Int32 × Wd)} (hk : OkF y RX2 cX2_foretold 7 7 181) (hR : RetM y rvI (some (.int))) : ∀ (n : Nat) (w : Wd) (l0 : Option Nat) (l1 : Int32) (l2 : Int32) (l3 : Int32) (l4 : Int32) (l5 : Int32) (l6 : Int32), V y w [(0, va_rf l0), (1, .int l1), (2, .int l2), (3, .int l3), (4, .int l4), (5, .int l5), (6, .int l6)] [] 37 (mX2_foretold_l37 n w l0 l1 l2 l3 l4 l5 l6) := by
  intro n
  induction n with
  | zero => intro w l0 l1 l2 l3 l4 l5 l6; exact V_none
  | succ n ih => intro w l0 l1 l2 l3 l4 l5 l6; exact eX2_foretold_b37 hk hR ih w l0 l1 l2 l3 l4 l5 l6
theorem eX2_foretold {y : Fx (Int32 × Wd)} (hk : OkF y RX2 cX2_foretold 7 7 181) (hR : RetM y rvI (some (.int))) (this : Nat) (a0 : Int32) (a1 : Int32) (a2 : Int32) (w : Wd) : V y w [(0, va_rf (some this)), (1, .int a0), (2, .int a1), (3, .int a2)] [] 0 (mX2_foretold this a0 a1 a2 w) := by
  unfold mX2_foretold
  refine V_iload_n (pc := 0) hk dX2_foretold_0 1 rfl ?_
  refine V_iconst (pc := 1) (v := 1) hk dX2_foretold_1 rfl ?_
  refine V_sipush (pc := 2) (v := 200) hk dX2_foretold_2 rfl ?_
  refine n_X2_71 (pc := 5) hk (fun r h => ctX2_isIn (fl y) (fK y) hk.2.2.2.2.2.2.2.1 a0 1 200 w r h) ⟨Nat.le_of_ble_eq_true rfl, Nat.le_of_ble_eq_true rfl⟩ (Nat.le_of_ble_eq_true rfl) dX2_foretold_5 (fun r1 => ?_)
  refine V_if_eq (pc := 8) (tgt := 20) hk dX2_foretold_8 rfl ?_ ?_
  · refine V_ldcw (pc := 20) (v := (-100000)) hk dX2_foretold_20 q1791 ?_
    exact V_ireturn (pc := 23) hk hR rfl dX2_foretold_23
  · refine V_iload_n (pc := 11) hk dX2_foretold_11 3 rfl ?_
    refine V_iconst (pc := 12) (v := 0) hk dX2_foretold_12 rfl ?_
    refine V_iconst (pc := 13) (v := 3) hk dX2_foretold_13 rfl ?_
    refine n_X2_71 (pc := 14) hk (fun r h => ctX2_isIn (fl y) (fK y) hk.2.2.2.2.2.2.2.1 a2 0 3 r1.2 r h) ⟨Nat.le_of_ble_eq_true rfl, Nat.le_of_ble_eq_true rfl⟩ (Nat.le_of_ble_eq_true rfl) dX2_foretold_14 (fun r2 => ?_)
    refine V_if_ne (pc := 17) (tgt := 24) hk dX2_foretold_17 rfl ?_ ?_
    · refine V_aload_n (pc := 24) hk dX2_foretold_24 0 rfl ?_
      refine n_X2_379 (pc := 25) hk (fun b r h => ctX2_begin (fl y) (fK y) hk.2.2.2.2.2.2.2.1 b r2.2 r h) ⟨Nat.le_of_ble_eq_true rfl, Nat.le_of_ble_eq_true rfl⟩ (Nat.le_of_ble_eq_true rfl) dX2_foretold_25 (fun r3 => ?_)
      refine V_iconst (pc := 28) (v := 0) hk dX2_foretold_28 rfl ?_
      refine V_istore (pc := 29) (lc' := [(4, .int 0), (0, va_rf ((some this))), (1, .int a0), (2, .int a1), (3, .int a2)]) (i := 4) hk dX2_foretold_29 (Nat.le_of_ble_eq_true rfl) rfl ?_
      refine V_iconst (pc := 31) (v := (-1)) hk dX2_foretold_31 (by decide +kernel) ?_
      refine V_istore (pc := 32) (lc' := [(5, .int (-1)), (4, .int 0), (0, va_rf ((some this))), (1, .int a0), (2, .int a1), (3, .int a2)]) (i := 5) hk dX2_foretold_32 (Nat.le_of_ble_eq_true rfl) rfl ?_
      refine V_iconst (pc := 34) (v := 1) hk dX2_foretold_34 rfl ?_
      refine V_istore (pc := 35) (lc' := [(6, .int 1), (5, .int (-1)), (4, .int 0), (0, va_rf ((some this))), (1, .int a0), (2, .int a1), (3, .int a2)]) (i := 6) hk dX2_foretold_35 (Nat.le_of_ble_eq_true rfl) rfl ?_
      refine V_pick (lc' := [(0, va_rf ((some this))), (1, .int a0), (2, .int a1), (3, .int a2), (4, .int 0), (5, .int (-1)), (6, .int 1)]) [3, 4, 5, 6, 2, 1, 0] rfl ?_
      exact eX2_foretold_l37 hk hR FU r3.2 ((some this)) a0 a1 a2 0 (-1) 1
    · refine V_ldcw (pc := 20) (v := (-100000)) hk dX2_foretold_20 q1791 ?_
      exact V_ireturn (pc := 23) hk hR rfl dX2_foretold_23
theorem ctX2_foretold (l : Launch) (K : Kx) (hI : Ini K) (b : Nat) (a0 : Int32) (a1 : Int32) (a2 : Int32) (w : Wd) : ∀ r, mX2_foretold b a0 a1 a2 w = some r → Ct l K 7 181 yX2_foretold (ws_ yX2_foretold cX2_foretold 7 (some (.int))) [.ref b, .int a0, .int a1, .int a2] w (rvI r.1) r.2 := Ct_of rvI l K hI 7 181 [.ref b, .int a0, .int a1, .int a2] w (by decide) (lc0 := [(0, .ref b), (1, .int a0), (2, .int a1), (3, .int a2)]) rfl (Nat.le_of_ble_eq_true rfl) (fun y hk hR _ _ hin => eX2_foretold hk hR b a0 a1 a2 w)
noncomputable def mX2_digitOf_b7 (k7 : Wd → Int32 → Int32 → Int32 → Option (Int32 × Wd)) (w : Wd) (l2 : Int32) (l3 : Int32) (l4 : Int32) : Option (Int32 × Wd) :=
if l4 ≤ l2 then (
(irm l3 3).bind fun v1 =>
some (v1 - 1, w))
else (
(idv l3 3).bind fun v2 =>
k7 w l2 v2 (l4 + (-1)))
noncomputable def mX2_digitOf_l7 : Nat → Wd → Int32 → Int32 → Int32 → Option (Int32 × Wd)
  | 0, _, _, _, _ => none
  | n + 1, w, l2, l3, l4 => mX2_digitOf_b7 (mX2_digitOf_l7 n) w l2 l3 l4
noncomputable def mX2_digitOf (a0 : Int32) (a1 : Int32) (a2 : Int32) (w : Wd) : Option (Int32 × Wd) :=
mX2_digitOf_l7 FU w a2 a0 (a1 - 1)
theorem eX2_digitOf_b7 {y : Fx (Int32 × Wd)} (hk : OkF y RX2 cX2_digitOf 5 2 60) (hR : RetM y rvI (some (.int))) {k7 : Wd → Int32 → Int32 → Int32 → Option (Int32 × Wd)} (h7 : ∀ (w : Wd) (l2 : Int32) (l3 : Int32) (l4 : Int32), V y w [(2, .int l2), (3, .int l3), (4, .int l4)] [] 7 (k7 w l2 l3 l4)) (w : Wd) (l2 : Int32) (l3 : Int32) (l4 : Int32) : V y w [(2, .int l2), (3, .int l3), (4, .int l4)] [] 7 (mX2_digitOf_b7 k7 w l2 l3 l4) := by
  unfold mX2_digitOf_b7
  refine V_iload (pc := 7) hk dX2_digitOf_7 2 rfl ?_
  refine V_iload_n (pc := 9) hk dX2_digitOf_9 0 rfl ?_
  refine V_icmp_le (pc := 10) (tgt := 23) hk dX2_digitOf_10 rfl ?_ ?_
  · refine V_iload_n (pc := 23) hk dX2_digitOf_23 1 rfl ?_
    refine V_iconst (pc := 24) (v := 3) hk dX2_digitOf_24 rfl ?_
    refine V_irem (pc := 25) hk dX2_digitOf_25 (fun v1 => ?_)
    refine V_iconst (pc := 26) (v := 1) hk dX2_digitOf_26 rfl ?_
    refine V_isub (pc := 27) hk dX2_digitOf_27 ?_
    exact V_ireturn (pc := 28) hk hR rfl dX2_digitOf_28
  · refine V_iload_n (pc := 13) hk dX2_digitOf_13 1 rfl ?_
    refine V_iconst (pc := 14) (v := 3) hk dX2_digitOf_14 rfl ?_
    refine V_idiv (pc := 15) hk dX2_digitOf_15 (fun v2 => ?_)
    refine V_istore_n (pc := 16) (lc' := [(3, .int v2), (2, .int l2), (4, .int l4)]) (i := 3) hk dX2_digitOf_16 rfl (Nat.le_of_ble_eq_true rfl) rfl ?_
    refine V_iinc (pc := 17) (v := (-1)) (lc' := [(4, .int (l4 + (-1))), (3, .int v2), (2, .int l2)]) hk dX2_digitOf_17 2 rfl (by decide +kernel) (Nat.le_of_ble_eq_true rfl) rfl ?_
    refine V_goto (pc := 20) (tgt := 7) hk dX2_digitOf_20 rfl ?_
    refine V_pick (lc' := [(2, .int l2), (3, .int v2), (4, .int (l4 + (-1)))]) [2, 1, 0] rfl ?_
    exact h7 w l2 v2 (l4 + (-1))
theorem eX2_digitOf_l7 {y : Fx (Int32 × Wd)} (hk : OkF y RX2 cX2_digitOf 5 2 60) (hR : RetM y rvI (some (.int))) : ∀ (n : Nat) (w : Wd) (l2 : Int32) (l3 : Int32) (l4 : Int32), V y w [(2, .int l2), (3, .int l3), (4, .int l4)] [] 7 (mX2_digitOf_l7 n w l2 l3 l4) := by
  intro n
  induction n with
  | zero => intro w l2 l3 l4; exact V_none
  | succ n ih => intro w l2 l3 l4; exact eX2_digitOf_b7 hk hR ih w l2 l3 l4
theorem eX2_digitOf {y : Fx (Int32 × Wd)} (hk : OkF y RX2 cX2_digitOf 5 2 60) (hR : RetM y rvI (some (.int))) (a0 : Int32) (a1 : Int32) (a2 : Int32) (w : Wd) : V y w [(0, .int a0), (1, .int a1), (2, .int a2)] [] 0 (mX2_digitOf a0 a1 a2 w) := by
  unfold mX2_digitOf
  refine V_iload_n (pc := 0) hk dX2_digitOf_0 0 rfl ?_
  refine V_istore_n (pc := 1) (lc' := [(3, .int a0), (0, .int a0), (1, .int a1), (2, .int a2)]) (i := 3) hk dX2_digitOf_1 rfl (Nat.le_of_ble_eq_true rfl) rfl ?_
  refine V_iload_n (pc := 2) hk dX2_digitOf_2 2 rfl ?_
  refine V_iconst (pc := 3) (v := 1) hk dX2_digitOf_3 rfl ?_
  refine V_isub (pc := 4) hk dX2_digitOf_4 ?_
  refine V_istore (pc := 5) (lc' := [(4, .int (a1 - 1)), (3, .int a0), (0, .int a0), (1, .int a1), (2, .int a2)]) (i := 4) hk dX2_digitOf_5 (Nat.le_of_ble_eq_true rfl) rfl ?_
  refine V_pick (lc' := [(2, .int a2), (3, .int a0), (4, .int (a1 - 1))]) [4, 1, 0] rfl ?_
  exact eX2_digitOf_l7 hk hR FU w a2 a0 (a1 - 1)
theorem ctX2_digitOf (l : Launch) (K : Kx) (hI : Ini K) (a0 : Int32) (a1 : Int32) (a2 : Int32) (w : Wd) : ∀ r, mX2_digitOf a0 a1 a2 w = some r → Ct l K 2 60 yX2_digitOf (ws_ yX2_digitOf cX2_digitOf 5 (some (.int))) [.int a0, .int a1, .int a2] w (rvI r.1) r.2 := Ct_of rvI l K hI 2 60 [.int a0, .int a1, .int a2] w (by decide) (lc0 := [(0, .int a0), (1, .int a1), (2, .int a2)]) rfl (Nat.le_of_ble_eq_true rfl) (fun y hk hR _ _ hin => eX2_digitOf hk hR a0 a1 a2 w)
noncomputable def mX2_comesStill_b6 (k6 : Wd → (Option Nat) → Int32 → Int32 → Int32 → Option (Int32 × Wd)) (w : Wd) (l0 : Option Nat) (l1 : Int32) (l2 : Int32) (l3 : Int32) : Option (Int32 × Wd) :=
if l2 ≤ l3 then (
(recv w l0 2).bind fun b2 => (cal w (mX2_hangsStill b2 w)).bind fun r1 =>
(recv r1.2 l0 2).bind fun b4 => (cal r1.2 (mX2_putBack b4 r1.2)).bind fun r3 =>
(nok (.boolean) r1.1).bind fun _ => some (r1.1, r3.2))
else (
(cal w (mX2_digitOf l1 l2 l3 w)).bind fun r5 =>
(recv r5.2 l0 2).bind fun b7 => (cal r5.2 (mX2_pass b7 r5.1 r5.2)).bind fun r6 =>
k6 r6.2 l0 l1 l2 (l3 + 1))
noncomputable def mX2_comesStill_l6 : Nat → Wd → (Option Nat) → Int32 → Int32 → Int32 → Option (Int32 × Wd)
  | 0, _, _, _, _, _ => none
  | n + 1, w, l0, l1, l2, l3 => mX2_comesStill_b6 (mX2_comesStill_l6 n) w l0 l1 l2 l3
noncomputable def mX2_comesStill (this : Nat) (a0 : Int32) (a1 : Int32) (w : Wd) : Option (Int32 × Wd) :=
(recv w ((some this)) 2).bind fun b2 => (cal w (mX2_begin b2 w)).bind fun r1 =>
mX2_comesStill_l6 FU r1.2 ((some this)) a0 a1 0
theorem eX2_comesStill_b6 {y : Fx (Int32 × Wd)} (hk : OkF y RX2 cX2_comesStill 4 7 181) (hR : RetM y rvI (some (.boolean))) {k6 : Wd → (Option Nat) → Int32 → Int32 → Int32 → Option (Int32 × Wd)} (h6 : ∀ (w : Wd) (l0 : Option Nat) (l1 : Int32) (l2 : Int32) (l3 : Int32), V y w [(0, va_rf l0), (1, .int l1), (2, .int l2), (3, .int l3)] [] 6 (k6 w l0 l1 l2 l3)) (w : Wd) (l0 : Option Nat) (l1 : Int32) (l2 : Int32) (l3 : Int32) : V y w [(0, va_rf l0), (1, .int l1), (2, .int l2), (3, .int l3)] [] 6 (mX2_comesStill_b6 k6 w l0 l1 l2 l3) := by
  unfold mX2_comesStill_b6
  refine V_iload_n (pc := 6) hk dX2_comesStill_6 3 rfl ?_
  refine V_iload_n (pc := 7) hk dX2_comesStill_7 2 rfl ?_
  refine V_icmp_ge (pc := 8) (tgt := 27) hk dX2_comesStill_8 rfl ?_ ?_
  · refine V_aload_n (pc := 27) hk dX2_comesStill_27 0 rfl ?_
    refine n_X2_347 (pc := 28) hk (fun b r h => ctX2_hangsStill (fl y) (fK y) hk.2.2.2.2.2.2.2.1 b w r h) ⟨Nat.le_of_ble_eq_true rfl, Nat.le_of_ble_eq_true rfl⟩ (Nat.le_of_ble_eq_true rfl) dX2_comesStill_28 (fun r1 => ?_)
    refine V_istore_n (pc := 31) (lc' := [(3, .int r1.1), (0, va_rf l0), (1, .int l1), (2, .int l2)]) (i := 3) hk dX2_comesStill_31 rfl (Nat.le_of_ble_eq_true rfl) rfl ?_
    refine V_aload_n (pc := 32) hk dX2_comesStill_32 1 rfl ?_
    refine n_X2_382 (pc := 33) hk (fun b r h => ctX2_putBack (fl y) (fK y) hk.2.2.2.2.2.2.2.1 b r1.2 r h) ⟨Nat.le_of_ble_eq_true rfl, Nat.le_of_ble_eq_true rfl⟩ (Nat.le_of_ble_eq_true rfl) dX2_comesStill_33 (fun r3 => ?_)
    refine V_iload_n (pc := 36) hk dX2_comesStill_36 0 rfl ?_
    exact V_zreturn (pc := 37) hk hR rfl dX2_comesStill_37
  · refine V_aload_n (pc := 11) hk dX2_comesStill_11 0 rfl ?_
    refine V_iload_n (pc := 12) hk dX2_comesStill_12 1 rfl ?_
    refine V_iload_n (pc := 13) hk dX2_comesStill_13 2 rfl ?_
    refine V_iload_n (pc := 14) hk dX2_comesStill_14 3 rfl ?_
    refine n_X2_385 (pc := 15) hk (fun r h => ctX2_digitOf (fl y) (fK y) hk.2.2.2.2.2.2.2.1 l1 l2 l3 w r h) ⟨Nat.le_of_ble_eq_true rfl, Nat.le_of_ble_eq_true rfl⟩ (by simp [rf_cat, cat_int, cat_long, cat_ref]) dX2_comesStill_15 (fun r5 => ?_)
    refine n_X2_332 (pc := 18) hk (fun b r h => ctX2_pass (fl y) (fK y) hk.2.2.2.2.2.2.2.1 b r5.1 r5.2 r h) ⟨Nat.le_of_ble_eq_true rfl, Nat.le_of_ble_eq_true rfl⟩ (Nat.le_of_ble_eq_true rfl) dX2_comesStill_18 (fun r6 => ?_)
    refine V_iinc (pc := 21) (v := 1) (lc' := [(3, .int (l3 + 1)), (0, va_rf l0), (1, .int l1), (2, .int l2)]) hk dX2_comesStill_21 3 rfl rfl (Nat.le_of_ble_eq_true rfl) rfl ?_
    refine V_goto (pc := 24) (tgt := 6) hk dX2_comesStill_24 rfl ?_
    refine V_pick (lc' := [(0, va_rf l0), (1, .int l1), (2, .int l2), (3, .int (l3 + 1))]) [1, 2, 3, 0] rfl ?_
    exact h6 r6.2 l0 l1 l2 (l3 + 1)
theorem eX2_comesStill_l6 {y : Fx (Int32 × Wd)} (hk : OkF y RX2 cX2_comesStill 4 7 181) (hR : RetM y rvI (some (.boolean))) : ∀ (n : Nat) (w : Wd) (l0 : Option Nat) (l1 : Int32) (l2 : Int32) (l3 : Int32), V y w [(0, va_rf l0), (1, .int l1), (2, .int l2), (3, .int l3)] [] 6 (mX2_comesStill_l6 n w l0 l1 l2 l3) := by
  intro n
  induction n with
  | zero => intro w l0 l1 l2 l3; exact V_none
  | succ n ih => intro w l0 l1 l2 l3; exact eX2_comesStill_b6 hk hR ih w l0 l1 l2 l3
theorem eX2_comesStill {y : Fx (Int32 × Wd)} (hk : OkF y RX2 cX2_comesStill 4 7 181) (hR : RetM y rvI (some (.boolean))) (this : Nat) (a0 : Int32) (a1 : Int32) (w : Wd) : V y w [(0, va_rf (some this)), (1, .int a0), (2, .int a1)] [] 0 (mX2_comesStill this a0 a1 w) := by
  unfold mX2_comesStill
  refine V_aload_n (pc := 0) hk dX2_comesStill_0 0 rfl ?_
  refine n_X2_379 (pc := 1) hk (fun b r h => ctX2_begin (fl y) (fK y) hk.2.2.2.2.2.2.2.1 b w r h) ⟨Nat.le_of_ble_eq_true rfl, Nat.le_of_ble_eq_true rfl⟩ (Nat.le_of_ble_eq_true rfl) dX2_comesStill_1 (fun r1 => ?_)
  refine V_iconst (pc := 4) (v := 0) hk dX2_comesStill_4 rfl ?_
  refine V_istore_n (pc := 5) (lc' := [(3, .int 0), (0, va_rf ((some this))), (1, .int a0), (2, .int a1)]) (i := 3) hk dX2_comesStill_5 rfl (Nat.le_of_ble_eq_true rfl) rfl ?_
  refine V_pick (lc' := [(0, va_rf ((some this))), (1, .int a0), (2, .int a1), (3, .int 0)]) [1, 2, 3, 0] rfl ?_
  exact eX2_comesStill_l6 hk hR FU r1.2 ((some this)) a0 a1 0
theorem ctX2_comesStill (l : Launch) (K : Kx) (hI : Ini K) (b : Nat) (a0 : Int32) (a1 : Int32) (w : Wd) : ∀ r, mX2_comesStill b a0 a1 w = some r → Ct l K 7 181 yX2_comesStill (ws_ yX2_comesStill cX2_comesStill 4 (some (.boolean))) [.ref b, .int a0, .int a1] w (rvI r.1) r.2 := Ct_of rvI l K hI 7 181 [.ref b, .int a0, .int a1] w (by decide) (lc0 := [(0, .ref b), (1, .int a0), (2, .int a1)]) rfl (Nat.le_of_ble_eq_true rfl) (fun y hk hR _ _ hin => eX2_comesStill hk hR b a0 a1 w)
noncomputable def mX2_soonest_b21 (k12 : Wd → (Option Nat) → Int32 → Int32 → Int32 → Option (Int32 × Wd)) (k21 : Wd → (Option Nat) → Int32 → Int32 → Int32 → Int32 → Option (Int32 × Wd)) (w : Wd) (l0 : Option Nat) (l1 : Int32) (l2 : Int32) (l3 : Int32) (l4 : Int32) : Option (Int32 × Wd) :=
if l2 ≤ l4 then (
k12 w l0 l1 (l2 * 3) (l3 + 1))
else (
(gR w l0 2 0).bind fun v1 =>
(ia w v1 16).bind fun v2 =>
if v2 < 0 then (
k12 w l0 l1 (l2 * 3) (l3 + 1))
else (
(recv w l0 2).bind fun b4 => (cal w (mX2_comesStill b4 l4 l3 w)).bind fun r3 =>
if ¬ r3.1 = 0 then (
if ¬ l1 = (-1) then (
if l3 ≤ l1 then (
some ((-2), r3.2))
else (
(cal r3.2 (mX2_digitOf l4 l3 l1 r3.2)).bind fun r5 =>
some (r5.1, r5.2)))
else (
some (l3, r3.2)))
else (
k21 r3.2 l0 l1 l2 l3 (l4 + 1))))
noncomputable def mX2_soonest_l21 (k12 : Wd → (Option Nat) → Int32 → Int32 → Int32 → Option (Int32 × Wd)) : Nat → Wd → (Option Nat) → Int32 → Int32 → Int32 → Int32 → Option (Int32 × Wd)
  | 0, _, _, _, _, _, _ => none
  | n + 1, w, l0, l1, l2, l3, l4 => mX2_soonest_b21 k12 (mX2_soonest_l21 k12 n) w l0 l1 l2 l3 l4
noncomputable def mX2_soonest_b12 (k12 : Wd → (Option Nat) → Int32 → Int32 → Int32 → Option (Int32 × Wd)) (w : Wd) (l0 : Option Nat) (l1 : Int32) (l2 : Int32) (l3 : Int32) : Option (Int32 × Wd) :=
if 8 ≤ l3 then (
some ((-2), w))
else (
mX2_soonest_l21 k12 FU w l0 l1 l2 l3 0)
noncomputable def mX2_soonest_l12 : Nat → Wd → (Option Nat) → Int32 → Int32 → Int32 → Option (Int32 × Wd)
  | 0, _, _, _, _, _ => none
  | n + 1, w, l0, l1, l2, l3 => mX2_soonest_b12 (mX2_soonest_l12 n) w l0 l1 l2 l3
noncomputable def mX2_soonest (this : Nat) (a0 : Int32) (w : Wd) : Option (Int32 × Wd) :=
if (-1) ≤ a0 then (
mX2_soonest_l12 FU w ((some this)) a0 1 0)
else (
some ((-2), w))
theorem eX2_soonest_b21 {y : Fx (Int32 × Wd)} (hk : OkF y RX2 cX2_soonest 5 8 204) (hR : RetM y rvI (some (.int))) {k12 : Wd → (Option Nat) → Int32 → Int32 → Int32 → Option (Int32 × Wd)} (h12 : ∀ (w : Wd) (l0 : Option Nat) (l1 : Int32) (l2 : Int32) (l3 : Int32), V y w [(0, va_rf l0), (1, .int l1), (2, .int l2), (3, .int l3)] [] 12 (k12 w l0 l1 l2 l3)) {k21 : Wd → (Option Nat) → Int32 → Int32 → Int32 → Int32 → Option (Int32 × Wd)} (h21 : ∀ (w : Wd) (l0 : Option Nat) (l1 : Int32) (l2 : Int32) (l3 : Int32) (l4 : Int32), V y w [(0, va_rf l0), (1, .int l1), (2, .int l2), (3, .int l3), (4, .int l4)] [] 21 (k21 w l0 l1 l2 l3 l4)) (w : Wd) (l0 : Option Nat) (l1 : Int32) (l2 : Int32) (l3 : Int32) (l4 : Int32) : V y w [(0, va_rf l0), (1, .int l1), (2, .int l2), (3, .int l3), (4, .int l4)] [] 21 (mX2_soonest_b21 k12 k21 w l0 l1 l2 l3 l4) := by
  unfold mX2_soonest_b21
  refine V_iload (pc := 21) hk dX2_soonest_21 4 rfl ?_
  refine V_iload_n (pc := 23) hk dX2_soonest_23 2 rfl ?_
  refine V_icmp_ge (pc := 24) (tgt := 83) hk dX2_soonest_24 rfl ?_ ?_
  · refine V_iload_n (pc := 83) hk dX2_soonest_83 2 rfl ?_
    refine V_iconst (pc := 84) (v := 3) hk dX2_soonest_84 rfl ?_
    refine V_imul (pc := 85) hk dX2_soonest_85 ?_
    refine V_istore_n (pc := 86) (lc' := [(2, .int (l2 * 3)), (0, va_rf l0), (1, .int l1), (3, .int l3), (4, .int l4)]) (i := 2) hk dX2_soonest_86 rfl (Nat.le_of_ble_eq_true rfl) rfl ?_
    refine V_iinc (pc := 87) (v := 1) (lc' := [(3, .int (l3 + 1)), (2, .int (l2 * 3)), (0, va_rf l0), (1, .int l1), (4, .int l4)]) hk dX2_soonest_87 3 rfl rfl (Nat.le_of_ble_eq_true rfl) rfl ?_
    refine V_goto (pc := 90) (tgt := 12) hk dX2_soonest_90 rfl ?_
    refine V_pick (lc' := [(0, va_rf l0), (1, .int l1), (2, .int (l2 * 3)), (3, .int (l3 + 1))]) [2, 3, 1, 0] rfl ?_
    exact h12 w l0 l1 (l2 * 3) (l3 + 1)
  · refine V_aload_n (pc := 27) hk dX2_soonest_27 0 rfl ?_
    refine g_X2_7 (pc := 28) hk dX2_soonest_28 (fun v1 => ?_)
    refine V_bipush (pc := 31) (v := 16) hk dX2_soonest_31 rfl ?_
    refine V_iaload (pc := 33) hk dX2_soonest_33 (fun v2 => ?_)
    refine V_if_lt (pc := 34) (tgt := 83) hk dX2_soonest_34 rfl ?_ ?_
    · refine V_iload_n (pc := 83) hk dX2_soonest_83 2 rfl ?_
      refine V_iconst (pc := 84) (v := 3) hk dX2_soonest_84 rfl ?_
      refine V_imul (pc := 85) hk dX2_soonest_85 ?_
      refine V_istore_n (pc := 86) (lc' := [(2, .int (l2 * 3)), (0, va_rf l0), (1, .int l1), (3, .int l3), (4, .int l4)]) (i := 2) hk dX2_soonest_86 rfl (Nat.le_of_ble_eq_true rfl) rfl ?_
      refine V_iinc (pc := 87) (v := 1) (lc' := [(3, .int (l3 + 1)), (2, .int (l2 * 3)), (0, va_rf l0), (1, .int l1), (4, .int l4)]) hk dX2_soonest_87 3 rfl rfl (Nat.le_of_ble_eq_true rfl) rfl ?_
      refine V_goto (pc := 90) (tgt := 12) hk dX2_soonest_90 rfl ?_
      refine V_pick (lc' := [(0, va_rf l0), (1, .int l1), (2, .int (l2 * 3)), (3, .int (l3 + 1))]) [2, 3, 1, 0] rfl ?_
      exact h12 w l0 l1 (l2 * 3) (l3 + 1)
    · refine V_aload_n (pc := 37) hk dX2_soonest_37 0 rfl ?_
      refine V_iload (pc := 38) hk dX2_soonest_38 4 rfl ?_
      refine V_iload_n (pc := 40) hk dX2_soonest_40 3 rfl ?_
      refine n_X2_388 (pc := 41) hk (fun b r h => ctX2_comesStill (fl y) (fK y) hk.2.2.2.2.2.2.2.1 b l4 l3 w r h) ⟨Nat.le_of_ble_eq_true rfl, Nat.le_of_ble_eq_true rfl⟩ (Nat.le_of_ble_eq_true rfl) dX2_soonest_41 (fun r3 => ?_)
      refine V_if_ne (pc := 44) (tgt := 50) hk dX2_soonest_44 rfl ?_ ?_
      · refine V_iload_n (pc := 50) hk dX2_soonest_50 1 rfl ?_
        refine V_iconst (pc := 51) (v := (-1)) hk dX2_soonest_51 (by decide +kernel) ?_
        refine V_icmp_ne (pc := 52) (tgt := 59) hk dX2_soonest_52 rfl ?_ ?_
        · refine V_iload_n (pc := 59) hk dX2_soonest_59 1 rfl ?_
          refine V_iload_n (pc := 60) hk dX2_soonest_60 3 rfl ?_
          refine V_icmp_ge (pc := 61) (tgt := 74) hk dX2_soonest_61 rfl ?_ ?_
          · refine V_bipush (pc := 74) (v := (-2)) hk dX2_soonest_74 (by decide +kernel) ?_
            exact V_ireturn (pc := 76) hk hR rfl dX2_soonest_76
          · refine V_iload (pc := 64) hk dX2_soonest_64 4 rfl ?_
            refine V_iload_n (pc := 66) hk dX2_soonest_66 3 rfl ?_
            refine V_iload_n (pc := 67) hk dX2_soonest_67 1 rfl ?_
            refine n_X2_385 (pc := 68) hk (fun r h => ctX2_digitOf (fl y) (fK y) hk.2.2.2.2.2.2.2.1 l4 l3 l1 r3.2 r h) ⟨Nat.le_of_ble_eq_true rfl, Nat.le_of_ble_eq_true rfl⟩ (Nat.le_of_ble_eq_true rfl) dX2_soonest_68 (fun r5 => ?_)
            refine V_goto (pc := 71) (tgt := 76) hk dX2_soonest_71 rfl ?_
            exact V_ireturn (pc := 76) hk hR rfl dX2_soonest_76
        · refine V_iload_n (pc := 55) hk dX2_soonest_55 3 rfl ?_
          refine V_goto (pc := 56) (tgt := 76) hk dX2_soonest_56 rfl ?_
          exact V_ireturn (pc := 76) hk hR rfl dX2_soonest_76
      · refine V_goto (pc := 47) (tgt := 77) hk dX2_soonest_47 rfl ?_
        refine V_iinc (pc := 77) (v := 1) (lc' := [(4, .int (l4 + 1)), (0, va_rf l0), (1, .int l1), (2, .int l2), (3, .int l3)]) hk dX2_soonest_77 4 rfl rfl (Nat.le_of_ble_eq_true rfl) rfl ?_
        refine V_goto (pc := 80) (tgt := 21) hk dX2_soonest_80 rfl ?_
        refine V_pick (lc' := [(0, va_rf l0), (1, .int l1), (2, .int l2), (3, .int l3), (4, .int (l4 + 1))]) [1, 2, 3, 4, 0] rfl ?_
        exact h21 r3.2 l0 l1 l2 l3 (l4 + 1)
theorem eX2_soonest_l21 {y : Fx (Int32 × Wd)} (hk : OkF y RX2 cX2_soonest 5 8 204) (hR : RetM y rvI (some (.int))) {k12 : Wd → (Option Nat) → Int32 → Int32 → Int32 → Option (Int32 × Wd)} (h12 : ∀ (w : Wd) (l0 : Option Nat) (l1 : Int32) (l2 : Int32) (l3 : Int32), V y w [(0, va_rf l0), (1, .int l1), (2, .int l2), (3, .int l3)] [] 12 (k12 w l0 l1 l2 l3)) : ∀ (n : Nat) (w : Wd) (l0 : Option Nat) (l1 : Int32) (l2 : Int32) (l3 : Int32) (l4 : Int32), V y w [(0, va_rf l0), (1, .int l1), (2, .int l2), (3, .int l3), (4, .int l4)] [] 21 (mX2_soonest_l21 k12 n w l0 l1 l2 l3 l4) := by
  intro n
  induction n with
  | zero => intro w l0 l1 l2 l3 l4; exact V_none
  | succ n ih => intro w l0 l1 l2 l3 l4; exact eX2_soonest_b21 hk hR h12 ih w l0 l1 l2 l3 l4
theorem eX2_soonest_b12 {y : Fx (Int32 × Wd)} (hk : OkF y RX2 cX2_soonest 5 8 204) (hR : RetM y rvI (some (.int))) {k12 : Wd → (Option Nat) → Int32 → Int32 → Int32 → Option (Int32 × Wd)} (h12 : ∀ (w : Wd) (l0 : Option Nat) (l1 : Int32) (l2 : Int32) (l3 : Int32), V y w [(0, va_rf l0), (1, .int l1), (2, .int l2), (3, .int l3)] [] 12 (k12 w l0 l1 l2 l3)) (w : Wd) (l0 : Option Nat) (l1 : Int32) (l2 : Int32) (l3 : Int32) : V y w [(0, va_rf l0), (1, .int l1), (2, .int l2), (3, .int l3)] [] 12 (mX2_soonest_b12 k12 w l0 l1 l2 l3) := by
  unfold mX2_soonest_b12
  refine V_iload_n (pc := 12) hk dX2_soonest_12 3 rfl ?_
  refine V_bipush (pc := 13) (v := 8) hk dX2_soonest_13 rfl ?_
  refine V_icmp_ge (pc := 15) (tgt := 93) hk dX2_soonest_15 rfl ?_ ?_
  · refine V_bipush (pc := 93) (v := (-2)) hk dX2_soonest_93 (by decide +kernel) ?_
    exact V_ireturn (pc := 95) hk hR rfl dX2_soonest_95
  · refine V_iconst (pc := 18) (v := 0) hk dX2_soonest_18 rfl ?_
    refine V_istore (pc := 19) (lc' := [(4, .int 0), (0, va_rf l0), (1, .int l1), (2, .int l2), (3, .int l3)]) (i := 4) hk dX2_soonest_19 (Nat.le_of_ble_eq_true rfl) rfl ?_
    refine V_pick (lc' := [(0, va_rf l0), (1, .int l1), (2, .int l2), (3, .int l3), (4, .int 0)]) [1, 2, 3, 4, 0] rfl ?_
    exact eX2_soonest_l21 hk hR h12 FU w l0 l1 l2 l3 0
theorem eX2_soonest_l12 {y : Fx (Int32 × Wd)} (hk : OkF y RX2 cX2_soonest 5 8 204) (hR : RetM y rvI (some (.int))) : ∀ (n : Nat) (w : Wd) (l0 : Option Nat) (l1 : Int32) (l2 : Int32) (l3 : Int32), V y w [(0, va_rf l0), (1, .int l1), (2, .int l2), (3, .int l3)] [] 12 (mX2_soonest_l12 n w l0 l1 l2 l3) := by
  intro n
  induction n with
  | zero => intro w l0 l1 l2 l3; exact V_none
  | succ n ih => intro w l0 l1 l2 l3; exact eX2_soonest_b12 hk hR ih w l0 l1 l2 l3
theorem eX2_soonest {y : Fx (Int32 × Wd)} (hk : OkF y RX2 cX2_soonest 5 8 204) (hR : RetM y rvI (some (.int))) (this : Nat) (a0 : Int32) (w : Wd) : V y w [(0, va_rf (some this)), (1, .int a0)] [] 0 (mX2_soonest this a0 w) := by
  unfold mX2_soonest
  refine V_iload_n (pc := 0) hk dX2_soonest_0 1 rfl ?_
  refine V_iconst (pc := 1) (v := (-1)) hk dX2_soonest_1 (by decide +kernel) ?_
  refine V_icmp_ge (pc := 2) (tgt := 8) hk dX2_soonest_2 rfl ?_ ?_
  · refine V_iconst (pc := 8) (v := 1) hk dX2_soonest_8 rfl ?_
    refine V_istore_n (pc := 9) (lc' := [(2, .int 1), (0, va_rf ((some this))), (1, .int a0)]) (i := 2) hk dX2_soonest_9 rfl (Nat.le_of_ble_eq_true rfl) rfl ?_
    refine V_iconst (pc := 10) (v := 0) hk dX2_soonest_10 rfl ?_
    refine V_istore_n (pc := 11) (lc' := [(3, .int 0), (2, .int 1), (0, va_rf ((some this))), (1, .int a0)]) (i := 3) hk dX2_soonest_11 rfl (Nat.le_of_ble_eq_true rfl) rfl ?_
    refine V_pick (lc' := [(0, va_rf ((some this))), (1, .int a0), (2, .int 1), (3, .int 0)]) [2, 3, 1, 0] rfl ?_
    exact eX2_soonest_l12 hk hR FU w ((some this)) a0 1 0
  · refine V_bipush (pc := 5) (v := (-2)) hk dX2_soonest_5 (by decide +kernel) ?_
    exact V_ireturn (pc := 7) hk hR rfl dX2_soonest_7
theorem ctX2_soonest (l : Launch) (K : Kx) (hI : Ini K) (b : Nat) (a0 : Int32) (w : Wd) : ∀ r, mX2_soonest b a0 w = some r → Ct l K 8 204 yX2_soonest (ws_ yX2_soonest cX2_soonest 5 (some (.int))) [.ref b, .int a0] w (rvI r.1) r.2 := Ct_of rvI l K hI 8 204 [.ref b, .int a0] w (by decide) (lc0 := [(0, .ref b), (1, .int a0)]) rfl (Nat.le_of_ble_eq_true rfl) (fun y hk hR _ _ hin => eX2_soonest hk hR b a0 w)
noncomputable def mX2_many_b4 (k4 : Wd → Int32 → Int32 → Int32 → Int32 → Option (Int32 × Wd)) (w : Wd) (l0 : Int32) (l1 : Int32) (l2 : Int32) (l3 : Int32) : Option (Int32 × Wd) :=
if l1 ≤ l3 then (
some (l2, w))
else (
(cal w (mX2_digitOf l0 l1 l3 w)).bind fun r1 =>
if ¬ r1.1 = 0 then (
k4 r1.2 l0 l1 (l2 + 1) (l3 + 1))
else (
k4 r1.2 l0 l1 (l2 + 0) (l3 + 1)))
noncomputable def mX2_many_l4 : Nat → Wd → Int32 → Int32 → Int32 → Int32 → Option (Int32 × Wd)
  | 0, _, _, _, _, _ => none
  | n + 1, w, l0, l1, l2, l3 => mX2_many_b4 (mX2_many_l4 n) w l0 l1 l2 l3
noncomputable def mX2_many (a0 : Int32) (a1 : Int32) (w : Wd) : Option (Int32 × Wd) :=
mX2_many_l4 FU w a0 a1 0 0
theorem eX2_many_b4 {y : Fx (Int32 × Wd)} (hk : OkF y RX2 cX2_many 4 3 84) (hR : RetM y rvI (some (.int))) {k4 : Wd → Int32 → Int32 → Int32 → Int32 → Option (Int32 × Wd)} (h4 : ∀ (w : Wd) (l0 : Int32) (l1 : Int32) (l2 : Int32) (l3 : Int32), V y w [(0, .int l0), (1, .int l1), (2, .int l2), (3, .int l3)] [] 4 (k4 w l0 l1 l2 l3)) (w : Wd) (l0 : Int32) (l1 : Int32) (l2 : Int32) (l3 : Int32) : V y w [(0, .int l0), (1, .int l1), (2, .int l2), (3, .int l3)] [] 4 (mX2_many_b4 k4 w l0 l1 l2 l3) := by
  unfold mX2_many_b4
  refine V_iload_n (pc := 4) hk dX2_many_4 3 rfl ?_
  refine V_iload_n (pc := 5) hk dX2_many_5 1 rfl ?_
  refine V_icmp_ge (pc := 6) (tgt := 32) hk dX2_many_6 rfl ?_ ?_
  · refine V_iload_n (pc := 32) hk dX2_many_32 2 rfl ?_
    exact V_ireturn (pc := 33) hk hR rfl dX2_many_33
  · refine V_iload_n (pc := 9) hk dX2_many_9 2 rfl ?_
    refine V_iload_n (pc := 10) hk dX2_many_10 0 rfl ?_
    refine V_iload_n (pc := 11) hk dX2_many_11 1 rfl ?_
    refine V_iload_n (pc := 12) hk dX2_many_12 3 rfl ?_
    refine n_X2_385 (pc := 13) hk (fun r h => ctX2_digitOf (fl y) (fK y) hk.2.2.2.2.2.2.2.1 l0 l1 l3 w r h) ⟨Nat.le_of_ble_eq_true rfl, Nat.le_of_ble_eq_true rfl⟩ (Nat.le_of_ble_eq_true rfl) dX2_many_13 (fun r1 => ?_)
    refine V_if_ne (pc := 16) (tgt := 23) hk dX2_many_16 rfl ?_ ?_
    · refine V_iconst (pc := 23) (v := 1) hk dX2_many_23 rfl ?_
      refine V_iadd (pc := 24) hk dX2_many_24 ?_
      refine V_istore_n (pc := 25) (lc' := [(2, .int (l2 + 1)), (0, .int l0), (1, .int l1), (3, .int l3)]) (i := 2) hk dX2_many_25 rfl (Nat.le_of_ble_eq_true rfl) rfl ?_
      refine V_iinc (pc := 26) (v := 1) (lc' := [(3, .int (l3 + 1)), (2, .int (l2 + 1)), (0, .int l0), (1, .int l1)]) hk dX2_many_26 3 rfl rfl (Nat.le_of_ble_eq_true rfl) rfl ?_
      refine V_goto (pc := 29) (tgt := 4) hk dX2_many_29 rfl ?_
      refine V_pick (lc' := [(0, .int l0), (1, .int l1), (2, .int (l2 + 1)), (3, .int (l3 + 1))]) [2, 3, 1, 0] rfl ?_
      exact h4 r1.2 l0 l1 (l2 + 1) (l3 + 1)
    · refine V_iconst (pc := 19) (v := 0) hk dX2_many_19 rfl ?_
      refine V_goto (pc := 20) (tgt := 24) hk dX2_many_20 rfl ?_
      refine V_iadd (pc := 24) hk dX2_many_24 ?_
      refine V_istore_n (pc := 25) (lc' := [(2, .int (l2 + 0)), (0, .int l0), (1, .int l1), (3, .int l3)]) (i := 2) hk dX2_many_25 rfl (Nat.le_of_ble_eq_true rfl) rfl ?_
      refine V_iinc (pc := 26) (v := 1) (lc' := [(3, .int (l3 + 1)), (2, .int (l2 + 0)), (0, .int l0), (1, .int l1)]) hk dX2_many_26 3 rfl rfl (Nat.le_of_ble_eq_true rfl) rfl ?_
      refine V_goto (pc := 29) (tgt := 4) hk dX2_many_29 rfl ?_
      refine V_pick (lc' := [(0, .int l0), (1, .int l1), (2, .int (l2 + 0)), (3, .int (l3 + 1))]) [2, 3, 1, 0] rfl ?_
      exact h4 r1.2 l0 l1 (l2 + 0) (l3 + 1)
theorem eX2_many_l4 {y : Fx (Int32 × Wd)} (hk : OkF y RX2 cX2_many 4 3 84) (hR : RetM y rvI (some (.int))) : ∀ (n : Nat) (w : Wd) (l0 : Int32) (l1 : Int32) (l2 : Int32) (l3 : Int32), V y w [(0, .int l0), (1, .int l1), (2, .int l2), (3, .int l3)] [] 4 (mX2_many_l4 n w l0 l1 l2 l3) := by
  intro n
  induction n with
  | zero => intro w l0 l1 l2 l3; exact V_none
  | succ n ih => intro w l0 l1 l2 l3; exact eX2_many_b4 hk hR ih w l0 l1 l2 l3
theorem eX2_many {y : Fx (Int32 × Wd)} (hk : OkF y RX2 cX2_many 4 3 84) (hR : RetM y rvI (some (.int))) (a0 : Int32) (a1 : Int32) (w : Wd) : V y w [(0, .int a0), (1, .int a1)] [] 0 (mX2_many a0 a1 w) := by
  unfold mX2_many
  refine V_iconst (pc := 0) (v := 0) hk dX2_many_0 rfl ?_
  refine V_istore_n (pc := 1) (lc' := [(2, .int 0), (0, .int a0), (1, .int a1)]) (i := 2) hk dX2_many_1 rfl (Nat.le_of_ble_eq_true rfl) rfl ?_
  refine V_iconst (pc := 2) (v := 0) hk dX2_many_2 rfl ?_
  refine V_istore_n (pc := 3) (lc' := [(3, .int 0), (2, .int 0), (0, .int a0), (1, .int a1)]) (i := 3) hk dX2_many_3 rfl (Nat.le_of_ble_eq_true rfl) rfl ?_
  refine V_pick (lc' := [(0, .int a0), (1, .int a1), (2, .int 0), (3, .int 0)]) [2, 3, 1, 0] rfl ?_
  exact eX2_many_l4 hk hR FU w a0 a1 0 0
theorem ctX2_many (l : Launch) (K : Kx) (hI : Ini K) (a0 : Int32) (a1 : Int32) (w : Wd) : ∀ r, mX2_many a0 a1 w = some r → Ct l K 3 84 yX2_many (ws_ yX2_many cX2_many 4 (some (.int))) [.int a0, .int a1] w (rvI r.1) r.2 := Ct_of rvI l K hI 3 84 [.int a0, .int a1] w (by decide) (lc0 := [(0, .int a0), (1, .int a1)]) rfl (Nat.le_of_ble_eq_true rfl) (fun y hk hR _ _ hin => eX2_many hk hR a0 a1 w)
noncomputable def mX2_fewest_b33 (k23 : Wd → (Option Nat) → Int32 → Int32 → Int32 → Int32 → Int32 → Int32 → Option (Int32 × Wd)) (k33 : Wd → (Option Nat) → Int32 → Int32 → Int32 → Int32 → Int32 → Int32 → Int32 → Option (Int32 × Wd)) (w : Wd) (l0 : Option Nat) (l1 : Int32) (l2 : Int32) (l3 : Int32) (l4 : Int32) (l5 : Int32) (l6 : Int32) (l7 : Int32) : Option (Int32 × Wd) :=
if l5 ≤ l7 then (
k23 w l0 l1 l2 l3 l4 (l5 * 3) (l6 + 1))
else (
(cal w (mX2_many l7 l6 w)).bind fun r1 =>
if l2 ≤ r1.1 then (
k33 r1.2 l0 l1 l2 l3 l4 l5 l6 (l7 + 1))
else (
(recv r1.2 l0 2).bind fun b3 => (cal r1.2 (mX2_comesStill b3 l7 l6 r1.2)).bind fun r2 =>
if ¬ r2.1 = 0 then (
(cal r2.2 (mX2_many l7 l6 r2.2)).bind fun r4 =>
k33 r4.2 l0 l1 r4.1 l7 l6 l5 l6 (l7 + 1))
else (
k33 r2.2 l0 l1 l2 l3 l4 l5 l6 (l7 + 1))))
noncomputable def mX2_fewest_l33 (k23 : Wd → (Option Nat) → Int32 → Int32 → Int32 → Int32 → Int32 → Int32 → Option (Int32 × Wd)) : Nat → Wd → (Option Nat) → Int32 → Int32 → Int32 → Int32 → Int32 → Int32 → Int32 → Option (Int32 × Wd)
  | 0, _, _, _, _, _, _, _, _, _ => none
  | n + 1, w, l0, l1, l2, l3, l4, l5, l6, l7 => mX2_fewest_b33 k23 (mX2_fewest_l33 k23 n) w l0 l1 l2 l3 l4 l5 l6 l7
noncomputable def mX2_fewest_b23 (k23 : Wd → (Option Nat) → Int32 → Int32 → Int32 → Int32 → Int32 → Int32 → Option (Int32 × Wd)) (w : Wd) (l0 : Option Nat) (l1 : Int32) (l2 : Int32) (l3 : Int32) (l4 : Int32) (l5 : Int32) (l6 : Int32) : Option (Int32 × Wd) :=
if 8 ≤ l6 then (
if ¬ l2 = 100000000 then (
if ¬ l1 = (-1) then (
if l4 ≤ l1 then (
some ((-2), w))
else (
(cal w (mX2_digitOf l3 l4 l1 w)).bind fun r1 =>
some (r1.1, r1.2)))
else (
some (l2, w)))
else (
some ((-2), w)))
else (
mX2_fewest_l33 k23 FU w l0 l1 l2 l3 l4 l5 l6 0)
noncomputable def mX2_fewest_l23 : Nat → Wd → (Option Nat) → Int32 → Int32 → Int32 → Int32 → Int32 → Int32 → Option (Int32 × Wd)
  | 0, _, _, _, _, _, _, _, _ => none
  | n + 1, w, l0, l1, l2, l3, l4, l5, l6 => mX2_fewest_b23 (mX2_fewest_l23 n) w l0 l1 l2 l3 l4 l5 l6
noncomputable def mX2_fewest (this : Nat) (a0 : Int32) (w : Wd) : Option (Int32 × Wd) :=
if (-1) ≤ a0 then (
mX2_fewest_l23 FU w ((some this)) a0 100000000 0 0 1 0)
else (
some ((-2), w))
theorem eX2_fewest_b33 {y : Fx (Int32 × Wd)} (hk : OkF y RX2 cX2_fewest 8 8 204) (hR : RetM y rvI (some (.int))) {k23 : Wd → (Option Nat) → Int32 → Int32 → Int32 → Int32 → Int32 → Int32 → Option (Int32 × Wd)} (h23 : ∀ (w : Wd) (l0 : Option Nat) (l1 : Int32) (l2 : Int32) (l3 : Int32) (l4 : Int32) (l5 : Int32) (l6 : Int32), V y w [(0, va_rf l0), (1, .int l1), (2, .int l2), (3, .int l3), (4, .int l4), (5, .int l5), (6, .int l6)] [] 23 (k23 w l0 l1 l2 l3 l4 l5 l6)) {k33 : Wd → (Option Nat) → Int32 → Int32 → Int32 → Int32 → Int32 → Int32 → Int32 → Option (Int32 × Wd)} (h33 : ∀ (w : Wd) (l0 : Option Nat) (l1 : Int32) (l2 : Int32) (l3 : Int32) (l4 : Int32) (l5 : Int32) (l6 : Int32) (l7 : Int32), V y w [(0, va_rf l0), (1, .int l1), (2, .int l2), (3, .int l3), (4, .int l4), (5, .int l5), (6, .int l6), (7, .int l7)] [] 33 (k33 w l0 l1 l2 l3 l4 l5 l6 l7)) (w : Wd) (l0 : Option Nat) (l1 : Int32) (l2 : Int32) (l3 : Int32) (l4 : Int32) (l5 : Int32) (l6 : Int32) (l7 : Int32) : V y w [(0, va_rf l0), (1, .int l1), (2, .int l2), (3, .int l3), (4, .int l4), (5, .int l5), (6, .int l6), (7, .int l7)] [] 33 (mX2_fewest_b33 k23 k33 w l0 l1 l2 l3 l4 l5 l6 l7) := by
  unfold mX2_fewest_b33
  refine V_iload (pc := 33) hk dX2_fewest_33 7 rfl ?_
  refine V_iload (pc := 35) hk dX2_fewest_35 5 rfl ?_
  refine V_icmp_ge (pc := 37) (tgt := 86) hk dX2_fewest_37 rfl ?_ ?_
  · refine V_iload (pc := 86) hk dX2_fewest_86 5 rfl ?_
    refine V_iconst (pc := 88) (v := 3) hk dX2_fewest_88 rfl ?_
    refine V_imul (pc := 89) hk dX2_fewest_89 ?_
    refine V_istore (pc := 90) (lc' := [(5, .int (l5 * 3)), (0, va_rf l0), (1, .int l1), (2, .int l2), (3, .int l3), (4, .int l4), (6, .int l6), (7, .int l7)]) (i := 5) hk dX2_fewest_90 (Nat.le_of_ble_eq_true rfl) rfl ?_
    refine V_iinc (pc := 92) (v := 1) (lc' := [(6, .int (l6 + 1)), (5, .int (l5 * 3)), (0, va_rf l0), (1, .int l1), (2, .int l2), (3, .int l3), (4, .int l4), (7, .int l7)]) hk dX2_fewest_92 6 rfl rfl (Nat.le_of_ble_eq_true rfl) rfl ?_
    refine V_goto (pc := 95) (tgt := 23) hk dX2_fewest_95 rfl ?_
    refine V_pick (lc' := [(0, va_rf l0), (1, .int l1), (2, .int l2), (3, .int l3), (4, .int l4), (5, .int (l5 * 3)), (6, .int (l6 + 1))]) [2, 3, 4, 5, 6, 1, 0] rfl ?_
    exact h23 w l0 l1 l2 l3 l4 (l5 * 3) (l6 + 1)
  · refine V_iload (pc := 40) hk dX2_fewest_40 7 rfl ?_
    refine V_iload (pc := 42) hk dX2_fewest_42 6 rfl ?_
    refine n_X2_392 (pc := 44) hk (fun r h => ctX2_many (fl y) (fK y) hk.2.2.2.2.2.2.2.1 l7 l6 w r h) ⟨Nat.le_of_ble_eq_true rfl, Nat.le_of_ble_eq_true rfl⟩ (Nat.le_of_ble_eq_true rfl) dX2_fewest_44 (fun r1 => ?_)
    refine V_iload_n (pc := 47) hk dX2_fewest_47 2 rfl ?_
    refine V_icmp_ge (pc := 48) (tgt := 80) hk dX2_fewest_48 rfl ?_ ?_
    · refine V_iinc (pc := 80) (v := 1) (lc' := [(7, .int (l7 + 1)), (0, va_rf l0), (1, .int l1), (2, .int l2), (3, .int l3), (4, .int l4), (5, .int l5), (6, .int l6)]) hk dX2_fewest_80 7 rfl rfl (Nat.le_of_ble_eq_true rfl) rfl ?_
      refine V_goto (pc := 83) (tgt := 33) hk dX2_fewest_83 rfl ?_
      refine V_pick (lc' := [(0, va_rf l0), (1, .int l1), (2, .int l2), (3, .int l3), (4, .int l4), (5, .int l5), (6, .int l6), (7, .int (l7 + 1))]) [1, 2, 3, 4, 5, 6, 7, 0] rfl ?_
      exact h33 r1.2 l0 l1 l2 l3 l4 l5 l6 (l7 + 1)
    · refine V_aload_n (pc := 51) hk dX2_fewest_51 0 rfl ?_
      refine V_iload (pc := 52) hk dX2_fewest_52 7 rfl ?_
      refine V_iload (pc := 54) hk dX2_fewest_54 6 rfl ?_
      refine n_X2_388 (pc := 56) hk (fun b r h => ctX2_comesStill (fl y) (fK y) hk.2.2.2.2.2.2.2.1 b l7 l6 r1.2 r h) ⟨Nat.le_of_ble_eq_true rfl, Nat.le_of_ble_eq_true rfl⟩ (Nat.le_of_ble_eq_true rfl) dX2_fewest_56 (fun r2 => ?_)
      refine V_if_ne (pc := 59) (tgt := 65) hk dX2_fewest_59 rfl ?_ ?_
      · refine V_iload (pc := 65) hk dX2_fewest_65 7 rfl ?_
        refine V_iload (pc := 67) hk dX2_fewest_67 6 rfl ?_
        refine n_X2_392 (pc := 69) hk (fun r h => ctX2_many (fl y) (fK y) hk.2.2.2.2.2.2.2.1 l7 l6 r2.2 r h) ⟨Nat.le_of_ble_eq_true rfl, Nat.le_of_ble_eq_true rfl⟩ (Nat.le_of_ble_eq_true rfl) dX2_fewest_69 (fun r4 => ?_)
        refine V_istore_n (pc := 72) (lc' := [(2, .int r4.1), (0, va_rf l0), (1, .int l1), (3, .int l3), (4, .int l4), (5, .int l5), (6, .int l6), (7, .int l7)]) (i := 2) hk dX2_fewest_72 rfl (Nat.le_of_ble_eq_true rfl) rfl ?_
        refine V_iload (pc := 73) hk dX2_fewest_73 7 rfl ?_
        refine V_istore_n (pc := 75) (lc' := [(3, .int l7), (2, .int r4.1), (0, va_rf l0), (1, .int l1), (4, .int l4), (5, .int l5), (6, .int l6), (7, .int l7)]) (i := 3) hk dX2_fewest_75 rfl (Nat.le_of_ble_eq_true rfl) rfl ?_
        refine V_iload (pc := 76) hk dX2_fewest_76 6 rfl ?_
        refine V_istore (pc := 78) (lc' := [(4, .int l6), (3, .int l7), (2, .int r4.1), (0, va_rf l0), (1, .int l1), (5, .int l5), (6, .int l6), (7, .int l7)]) (i := 4) hk dX2_fewest_78 (Nat.le_of_ble_eq_true rfl) rfl ?_
        refine V_iinc (pc := 80) (v := 1) (lc' := [(7, .int (l7 + 1)), (4, .int l6), (3, .int l7), (2, .int r4.1), (0, va_rf l0), (1, .int l1), (5, .int l5), (6, .int l6)]) hk dX2_fewest_80 7 rfl rfl (Nat.le_of_ble_eq_true rfl) rfl ?_
        refine V_goto (pc := 83) (tgt := 33) hk dX2_fewest_83 rfl ?_
        refine V_pick (lc' := [(0, va_rf l0), (1, .int l1), (2, .int r4.1), (3, .int l7), (4, .int l6), (5, .int l5), (6, .int l6), (7, .int (l7 + 1))]) [4, 5, 3, 2, 1, 6, 7, 0] rfl ?_
        exact h33 r4.2 l0 l1 r4.1 l7 l6 l5 l6 (l7 + 1)
      · refine V_goto (pc := 62) (tgt := 80) hk dX2_fewest_62 rfl ?_
        refine V_iinc (pc := 80) (v := 1) (lc' := [(7, .int (l7 + 1)), (0, va_rf l0), (1, .int l1), (2, .int l2), (3, .int l3), (4, .int l4), (5, .int l5), (6, .int l6)]) hk dX2_fewest_80 7 rfl rfl (Nat.le_of_ble_eq_true rfl) rfl ?_
        refine V_goto (pc := 83) (tgt := 33) hk dX2_fewest_83 rfl ?_
        refine V_pick (lc' := [(0, va_rf l0), (1, .int l1), (2, .int l2), (3, .int l3), (4, .int l4), (5, .int l5), (6, .int l6), (7, .int (l7 + 1))]) [1, 2, 3, 4, 5, 6, 7, 0] rfl ?_
        exact h33 r2.2 l0 l1 l2 l3 l4 l5 l6 (l7 + 1)
theorem eX2_fewest_l33 {y : Fx (Int32 × Wd)} (hk : OkF y RX2 cX2_fewest 8 8 204) (hR : RetM y rvI (some (.int))) {k23 : Wd → (Option Nat) → Int32 → Int32 → Int32 → Int32 → Int32 → Int32 → Option (Int32 × Wd)} (h23 : ∀ (w : Wd) (l0 : Option Nat) (l1 : Int32) (l2 : Int32) (l3 : Int32) (l4 : Int32) (l5 : Int32) (l6 : Int32), V y w [(0, va_rf l0), (1, .int l1), (2, .int l2), (3, .int l3), (4, .int l4), (5, .int l5), (6, .int l6)] [] 23 (k23 w l0 l1 l2 l3 l4 l5 l6)) : ∀ (n : Nat) (w : Wd) (l0 : Option Nat) (l1 : Int32) (l2 : Int32) (l3 : Int32) (l4 : Int32) (l5 : Int32) (l6 : Int32) (l7 : Int32), V y w [(0, va_rf l0), (1, .int l1), (2, .int l2), (3, .int l3), (4, .int l4), (5, .int l5), (6, .int l6), (7, .int l7)] [] 33 (mX2_fewest_l33 k23 n w l0 l1 l2 l3 l4 l5 l6 l7) := by
  intro n
  induction n with
  | zero => intro w l0 l1 l2 l3 l4 l5 l6 l7; exact V_none
  | succ n ih => intro w l0 l1 l2 l3 l4 l5 l6 l7; exact eX2_fewest_b33 hk hR h23 ih w l0 l1 l2 l3 l4 l5 l6 l7
theorem eX2_fewest_b23 {y : Fx (Int32 × Wd)} (hk : OkF y RX2 cX2_fewest 8 8 204) (hR : RetM y rvI (some (.int))) {k23 : Wd → (Option Nat) → Int32 → Int32 → Int32 → Int32 → Int32 → Int32 → Option (Int32 × Wd)} (h23 : ∀ (w : Wd) (l0 : Option Nat) (l1 : Int32) (l2 : Int32) (l3 : Int32) (l4 : Int32) (l5 : Int32) (l6 : Int32), V y w [(0, va_rf l0), (1, .int l1), (2, .int l2), (3, .int l3), (4, .int l4), (5, .int l5), (6, .int l6)] [] 23 (k23 w l0 l1 l2 l3 l4 l5 l6)) (w : Wd) (l0 : Option Nat) (l1 : Int32) (l2 : Int32) (l3 : Int32) (l4 : Int32) (l5 : Int32) (l6 : Int32) : V y w [(0, va_rf l0), (1, .int l1), (2, .int l2), (3, .int l3), (4, .int l4), (5, .int l5), (6, .int l6)] [] 23 (mX2_fewest_b23 k23 w l0 l1 l2 l3 l4 l5 l6) := by
  unfold mX2_fewest_b23
  refine V_iload (pc := 23) hk dX2_fewest_23 6 rfl ?_
  refine V_bipush (pc := 25) (v := 8) hk dX2_fewest_25 rfl ?_
  refine V_icmp_ge (pc := 27) (tgt := 98) hk dX2_fewest_27 rfl ?_ ?_
  · refine V_iload_n (pc := 98) hk dX2_fewest_98 2 rfl ?_
    refine V_ldcw (pc := 99) (v := 100000000) hk dX2_fewest_99 q1839 ?_
    refine V_icmp_ne (pc := 102) (tgt := 108) hk dX2_fewest_102 rfl ?_ ?_
    · refine V_iload_n (pc := 108) hk dX2_fewest_108 1 rfl ?_
      refine V_iconst (pc := 109) (v := (-1)) hk dX2_fewest_109 (by decide +kernel) ?_
      refine V_icmp_ne (pc := 110) (tgt := 117) hk dX2_fewest_110 rfl ?_ ?_
      · refine V_iload_n (pc := 117) hk dX2_fewest_117 1 rfl ?_
        refine V_iload (pc := 118) hk dX2_fewest_118 4 rfl ?_
        refine V_icmp_ge (pc := 120) (tgt := 133) hk dX2_fewest_120 rfl ?_ ?_
        · refine V_bipush (pc := 133) (v := (-2)) hk dX2_fewest_133 (by decide +kernel) ?_
          exact V_ireturn (pc := 135) hk hR rfl dX2_fewest_135
        · refine V_iload_n (pc := 123) hk dX2_fewest_123 3 rfl ?_
          refine V_iload (pc := 124) hk dX2_fewest_124 4 rfl ?_
          refine V_iload_n (pc := 126) hk dX2_fewest_126 1 rfl ?_
          refine n_X2_385 (pc := 127) hk (fun r h => ctX2_digitOf (fl y) (fK y) hk.2.2.2.2.2.2.2.1 l3 l4 l1 w r h) ⟨Nat.le_of_ble_eq_true rfl, Nat.le_of_ble_eq_true rfl⟩ (Nat.le_of_ble_eq_true rfl) dX2_fewest_127 (fun r1 => ?_)
          refine V_goto (pc := 130) (tgt := 135) hk dX2_fewest_130 rfl ?_
          exact V_ireturn (pc := 135) hk hR rfl dX2_fewest_135
      · refine V_iload_n (pc := 113) hk dX2_fewest_113 2 rfl ?_
        refine V_goto (pc := 114) (tgt := 135) hk dX2_fewest_114 rfl ?_
        exact V_ireturn (pc := 135) hk hR rfl dX2_fewest_135
    · refine V_bipush (pc := 105) (v := (-2)) hk dX2_fewest_105 (by decide +kernel) ?_
      exact V_ireturn (pc := 107) hk hR rfl dX2_fewest_107
  · refine V_iconst (pc := 30) (v := 0) hk dX2_fewest_30 rfl ?_
    refine V_istore (pc := 31) (lc' := [(7, .int 0), (0, va_rf l0), (1, .int l1), (2, .int l2), (3, .int l3), (4, .int l4), (5, .int l5), (6, .int l6)]) (i := 7) hk dX2_fewest_31 (Nat.le_of_ble_eq_true rfl) rfl ?_
    refine V_pick (lc' := [(0, va_rf l0), (1, .int l1), (2, .int l2), (3, .int l3), (4, .int l4), (5, .int l5), (6, .int l6), (7, .int 0)]) [1, 2, 3, 4, 5, 6, 7, 0] rfl ?_
    exact eX2_fewest_l33 hk hR h23 FU w l0 l1 l2 l3 l4 l5 l6 0
theorem eX2_fewest_l23 {y : Fx (Int32 × Wd)} (hk : OkF y RX2 cX2_fewest 8 8 204) (hR : RetM y rvI (some (.int))) : ∀ (n : Nat) (w : Wd) (l0 : Option Nat) (l1 : Int32) (l2 : Int32) (l3 : Int32) (l4 : Int32) (l5 : Int32) (l6 : Int32), V y w [(0, va_rf l0), (1, .int l1), (2, .int l2), (3, .int l3), (4, .int l4), (5, .int l5), (6, .int l6)] [] 23 (mX2_fewest_l23 n w l0 l1 l2 l3 l4 l5 l6) := by
  intro n
  induction n with
  | zero => intro w l0 l1 l2 l3 l4 l5 l6; exact V_none
  | succ n ih => intro w l0 l1 l2 l3 l4 l5 l6; exact eX2_fewest_b23 hk hR ih w l0 l1 l2 l3 l4 l5 l6
theorem eX2_fewest {y : Fx (Int32 × Wd)} (hk : OkF y RX2 cX2_fewest 8 8 204) (hR : RetM y rvI (some (.int))) (this : Nat) (a0 : Int32) (w : Wd) : V y w [(0, va_rf (some this)), (1, .int a0)] [] 0 (mX2_fewest this a0 w) := by
  unfold mX2_fewest
  refine V_iload_n (pc := 0) hk dX2_fewest_0 1 rfl ?_
  refine V_iconst (pc := 1) (v := (-1)) hk dX2_fewest_1 (by decide +kernel) ?_
  refine V_icmp_ge (pc := 2) (tgt := 8) hk dX2_fewest_2 rfl ?_ ?_
  · refine V_ldcw (pc := 8) (v := 100000000) hk dX2_fewest_8 q1839 ?_
    refine V_istore_n (pc := 11) (lc' := [(2, .int 100000000), (0, va_rf ((some this))), (1, .int a0)]) (i := 2) hk dX2_fewest_11 rfl (Nat.le_of_ble_eq_true rfl) rfl ?_
    refine V_iconst (pc := 12) (v := 0) hk dX2_fewest_12 rfl ?_
    refine V_istore_n (pc := 13) (lc' := [(3, .int 0), (2, .int 100000000), (0, va_rf ((some this))), (1, .int a0)]) (i := 3) hk dX2_fewest_13 rfl (Nat.le_of_ble_eq_true rfl) rfl ?_
    refine V_iconst (pc := 14) (v := 0) hk dX2_fewest_14 rfl ?_
    refine V_istore (pc := 15) (lc' := [(4, .int 0), (3, .int 0), (2, .int 100000000), (0, va_rf ((some this))), (1, .int a0)]) (i := 4) hk dX2_fewest_15 (Nat.le_of_ble_eq_true rfl) rfl ?_
    refine V_iconst (pc := 17) (v := 1) hk dX2_fewest_17 rfl ?_
    refine V_istore (pc := 18) (lc' := [(5, .int 1), (4, .int 0), (3, .int 0), (2, .int 100000000), (0, va_rf ((some this))), (1, .int a0)]) (i := 5) hk dX2_fewest_18 (Nat.le_of_ble_eq_true rfl) rfl ?_
    refine V_iconst (pc := 20) (v := 0) hk dX2_fewest_20 rfl ?_
    refine V_istore (pc := 21) (lc' := [(6, .int 0), (5, .int 1), (4, .int 0), (3, .int 0), (2, .int 100000000), (0, va_rf ((some this))), (1, .int a0)]) (i := 6) hk dX2_fewest_21 (Nat.le_of_ble_eq_true rfl) rfl ?_
    refine V_pick (lc' := [(0, va_rf ((some this))), (1, .int a0), (2, .int 100000000), (3, .int 0), (4, .int 0), (5, .int 1), (6, .int 0)]) [5, 6, 4, 3, 2, 1, 0] rfl ?_
    exact eX2_fewest_l23 hk hR FU w ((some this)) a0 100000000 0 0 1 0
  · refine V_bipush (pc := 5) (v := (-2)) hk dX2_fewest_5 (by decide +kernel) ?_
    exact V_ireturn (pc := 7) hk hR rfl dX2_fewest_7
theorem ctX2_fewest (l : Launch) (K : Kx) (hI : Ini K) (b : Nat) (a0 : Int32) (w : Wd) : ∀ r, mX2_fewest b a0 w = some r → Ct l K 8 204 yX2_fewest (ws_ yX2_fewest cX2_fewest 8 (some (.int))) [.ref b, .int a0] w (rvI r.1) r.2 := Ct_of rvI l K hI 8 204 [.ref b, .int a0] w (by decide) (lc0 := [(0, .ref b), (1, .int a0)]) rfl (Nat.le_of_ble_eq_true rfl) (fun y hk hR _ _ hin => eX2_fewest hk hR b a0 w)
noncomputable def mX2_toAndFro_p89 (w : Wd) (l0 : Option Nat) (l2 : Int32) (l3 : Int32) : Option (Int32 × Wd) :=
(recv w l0 2).bind fun b2 => (cal w (mX2_putBack b2 w)).bind fun r1 =>
if ¬ l3 = (-1) then (
some (l3 - l2, r1.2))
else (
some ((-1), r1.2))
noncomputable def mX2_toAndFro_p47 (k24 : Wd → (Option Nat) → Int32 → Int32 → Int32 → Int32 → Option (Int32 × Wd)) (w : Wd) (l0 : Option Nat) (l1 : Int32) (l2 : Int32) (l3 : Int32) (l4 : Int32) (t0 : Int32) : Option (Int32 × Wd) :=
(recv w l0 2).bind fun b2 => (cal w (mX2_pass b2 0 w)).bind fun r1 =>
if ¬ t0 = 0 then (
k24 r1.2 l0 l1 l2 l3 (l4 + 1))
else (
(recv r1.2 l0 2).bind fun b4 => (cal r1.2 (mX2_away b4 r1.2)).bind fun r3 =>
if 0 < r3.1 then (
if ¬ l2 = (-1) then (
k24 r3.2 l0 l1 l2 l4 (l4 + 1))
else (
k24 r3.2 l0 l1 l4 l3 (l4 + 1)))
else (
k24 r3.2 l0 l1 l2 l3 (l4 + 1)))
noncomputable def mX2_toAndFro_b24 (k24 : Wd → (Option Nat) → Int32 → Int32 → Int32 → Int32 → Option (Int32 × Wd)) (w : Wd) (l0 : Option Nat) (l1 : Int32) (l2 : Int32) (l3 : Int32) (l4 : Int32) : Option (Int32 × Wd) :=
if l1 < l4 then (
mX2_toAndFro_p89 w l0 l2 l3)
else (
if ¬ l3 = (-1) then (
mX2_toAndFro_p89 w l0 l2 l3)
else (
(recv w l0 2).bind fun b2 => (cal w (mX2_away b2 w)).bind fun r1 =>
if r1.1 ≤ 0 then (
mX2_toAndFro_p47 k24 r1.2 l0 l1 l2 l3 l4 0)
else (
mX2_toAndFro_p47 k24 r1.2 l0 l1 l2 l3 l4 1)))
noncomputable def mX2_toAndFro_l24 : Nat → Wd → (Option Nat) → Int32 → Int32 → Int32 → Int32 → Option (Int32 × Wd)
  | 0, _, _, _, _, _, _ => none
  | n + 1, w, l0, l1, l2, l3, l4 => mX2_toAndFro_b24 (mX2_toAndFro_l24 n) w l0 l1 l2 l3 l4
noncomputable def mX2_toAndFro (this : Nat) (a0 : Int32) (w : Wd) : Option (Int32 × Wd) :=
(cal w (mX2_isIn a0 2 200 w)).bind fun r1 =>
if ¬ r1.1 = 0 then (
(recv r1.2 ((some this)) 2).bind fun b3 => (cal r1.2 (mX2_begin b3 r1.2)).bind fun r2 =>
mX2_toAndFro_l24 FU r2.2 ((some this)) a0 (-1) (-1) 1)
else (
some ((-1), r1.2))
theorem eX2_toAndFro_p89 {y : Fx (Int32 × Wd)} (hk : OkF y RX2 cX2_toAndFro 6 7 181) (hR : RetM y rvI (some (.int))) (w : Wd) (l0 : Option Nat) (l2 : Int32) (l3 : Int32) : V y w [(0, va_rf l0), (2, .int l2), (3, .int l3)] [] 89 (mX2_toAndFro_p89 w l0 l2 l3) := by
  unfold mX2_toAndFro_p89
  refine V_aload_n (pc := 89) hk dX2_toAndFro_89 0 rfl ?_
  refine n_X2_382 (pc := 90) hk (fun b r h => ctX2_putBack (fl y) (fK y) hk.2.2.2.2.2.2.2.1 b w r h) ⟨Nat.le_of_ble_eq_true rfl, Nat.le_of_ble_eq_true rfl⟩ (Nat.le_of_ble_eq_true rfl) dX2_toAndFro_90 (fun r1 => ?_)
  refine V_iload_n (pc := 93) hk dX2_toAndFro_93 2 rfl ?_
  refine V_iconst (pc := 94) (v := (-1)) hk dX2_toAndFro_94 (by decide +kernel) ?_
  refine V_icmp_ne (pc := 95) (tgt := 102) hk dX2_toAndFro_95 rfl ?_ ?_
  · refine V_iload_n (pc := 102) hk dX2_toAndFro_102 2 rfl ?_
    refine V_iload_n (pc := 103) hk dX2_toAndFro_103 1 rfl ?_
    refine V_isub (pc := 104) hk dX2_toAndFro_104 ?_
    exact V_ireturn (pc := 105) hk hR rfl dX2_toAndFro_105
  · refine V_iconst (pc := 98) (v := (-1)) hk dX2_toAndFro_98 (by decide +kernel) ?_
    refine V_goto (pc := 99) (tgt := 105) hk dX2_toAndFro_99 rfl ?_
    exact V_ireturn (pc := 105) hk hR rfl dX2_toAndFro_105
theorem eX2_toAndFro_p47 {y : Fx (Int32 × Wd)} (hk : OkF y RX2 cX2_toAndFro 6 7 181) (hR : RetM y rvI (some (.int))) {k24 : Wd → (Option Nat) → Int32 → Int32 → Int32 → Int32 → Option (Int32 × Wd)} (h24 : ∀ (w : Wd) (l0 : Option Nat) (l1 : Int32) (l2 : Int32) (l3 : Int32) (l4 : Int32), V y w [(0, va_rf l0), (1, .int l1), (2, .int l2), (3, .int l3), (4, .int l4)] [] 24 (k24 w l0 l1 l2 l3 l4)) (w : Wd) (l0 : Option Nat) (l1 : Int32) (l2 : Int32) (l3 : Int32) (l4 : Int32) (t0 : Int32) : V y w [(0, va_rf l0), (1, .int l1), (2, .int l2), (3, .int l3), (4, .int l4)] [.int t0] 47 (mX2_toAndFro_p47 k24 w l0 l1 l2 l3 l4 t0) := by
  unfold mX2_toAndFro_p47
  refine V_istore (pc := 47) (lc' := [(5, .int t0), (0, va_rf l0), (1, .int l1), (2, .int l2), (3, .int l3), (4, .int l4)]) (i := 5) hk dX2_toAndFro_47 (Nat.le_of_ble_eq_true rfl) rfl ?_
  refine V_aload_n (pc := 49) hk dX2_toAndFro_49 1 rfl ?_
  refine V_iconst (pc := 50) (v := 0) hk dX2_toAndFro_50 rfl ?_
  refine n_X2_332 (pc := 51) hk (fun b r h => ctX2_pass (fl y) (fK y) hk.2.2.2.2.2.2.2.1 b 0 w r h) ⟨Nat.le_of_ble_eq_true rfl, Nat.le_of_ble_eq_true rfl⟩ (Nat.le_of_ble_eq_true rfl) dX2_toAndFro_51 (fun r1 => ?_)
  refine V_iload (pc := 54) hk dX2_toAndFro_54 0 rfl ?_
  refine V_if_ne (pc := 56) (tgt := 83) hk dX2_toAndFro_56 rfl ?_ ?_
  · refine V_iinc (pc := 83) (v := 1) (lc' := [(4, .int (l4 + 1)), (5, .int t0), (0, va_rf l0), (1, .int l1), (2, .int l2), (3, .int l3)]) hk dX2_toAndFro_83 5 rfl rfl (Nat.le_of_ble_eq_true rfl) rfl ?_
    refine V_goto (pc := 86) (tgt := 24) hk dX2_toAndFro_86 rfl ?_
    refine V_pick (lc' := [(0, va_rf l0), (1, .int l1), (2, .int l2), (3, .int l3), (4, .int (l4 + 1))]) [2, 3, 4, 5, 0] rfl ?_
    exact h24 r1.2 l0 l1 l2 l3 (l4 + 1)
  · refine V_aload_n (pc := 59) hk dX2_toAndFro_59 1 rfl ?_
    refine n_X2_292 (pc := 60) hk (fun b r h => ctX2_away (fl y) (fK y) hk.2.2.2.2.2.2.2.1 b r1.2 r h) ⟨Nat.le_of_ble_eq_true rfl, Nat.le_of_ble_eq_true rfl⟩ (Nat.le_of_ble_eq_true rfl) dX2_toAndFro_60 (fun r3 => ?_)
    refine V_if_gt (pc := 63) (tgt := 69) hk dX2_toAndFro_63 rfl ?_ ?_
    · refine V_iload_n (pc := 69) hk dX2_toAndFro_69 3 rfl ?_
      refine V_iconst (pc := 70) (v := (-1)) hk dX2_toAndFro_70 (by decide +kernel) ?_
      refine V_icmp_ne (pc := 71) (tgt := 80) hk dX2_toAndFro_71 rfl ?_ ?_
      · refine V_iload (pc := 80) hk dX2_toAndFro_80 5 rfl ?_
        refine V_istore_n (pc := 82) (lc' := [(3, .int l4), (5, .int t0), (0, va_rf l0), (1, .int l1), (2, .int l2), (4, .int l4)]) (i := 3) hk dX2_toAndFro_82 rfl (Nat.le_of_ble_eq_true rfl) rfl ?_
        refine V_iinc (pc := 83) (v := 1) (lc' := [(4, .int (l4 + 1)), (3, .int l4), (5, .int t0), (0, va_rf l0), (1, .int l1), (2, .int l2)]) hk dX2_toAndFro_83 5 rfl rfl (Nat.le_of_ble_eq_true rfl) rfl ?_
        refine V_goto (pc := 86) (tgt := 24) hk dX2_toAndFro_86 rfl ?_
        refine V_pick (lc' := [(0, va_rf l0), (1, .int l1), (2, .int l2), (3, .int l4), (4, .int (l4 + 1))]) [3, 4, 5, 1, 0] rfl ?_
        exact h24 r3.2 l0 l1 l2 l4 (l4 + 1)
      · refine V_iload (pc := 74) hk dX2_toAndFro_74 5 rfl ?_
        refine V_istore_n (pc := 76) (lc' := [(2, .int l4), (5, .int t0), (0, va_rf l0), (1, .int l1), (3, .int l3), (4, .int l4)]) (i := 2) hk dX2_toAndFro_76 rfl (Nat.le_of_ble_eq_true rfl) rfl ?_
        refine V_goto (pc := 77) (tgt := 83) hk dX2_toAndFro_77 rfl ?_
        refine V_iinc (pc := 83) (v := 1) (lc' := [(4, .int (l4 + 1)), (2, .int l4), (5, .int t0), (0, va_rf l0), (1, .int l1), (3, .int l3)]) hk dX2_toAndFro_83 5 rfl rfl (Nat.le_of_ble_eq_true rfl) rfl ?_
        refine V_goto (pc := 86) (tgt := 24) hk dX2_toAndFro_86 rfl ?_
        refine V_pick (lc' := [(0, va_rf l0), (1, .int l1), (2, .int l4), (3, .int l3), (4, .int (l4 + 1))]) [3, 4, 1, 5, 0] rfl ?_
        exact h24 r3.2 l0 l1 l4 l3 (l4 + 1)
    · refine V_goto (pc := 66) (tgt := 83) hk dX2_toAndFro_66 rfl ?_
      refine V_iinc (pc := 83) (v := 1) (lc' := [(4, .int (l4 + 1)), (5, .int t0), (0, va_rf l0), (1, .int l1), (2, .int l2), (3, .int l3)]) hk dX2_toAndFro_83 5 rfl rfl (Nat.le_of_ble_eq_true rfl) rfl ?_
      refine V_goto (pc := 86) (tgt := 24) hk dX2_toAndFro_86 rfl ?_
      refine V_pick (lc' := [(0, va_rf l0), (1, .int l1), (2, .int l2), (3, .int l3), (4, .int (l4 + 1))]) [2, 3, 4, 5, 0] rfl ?_
      exact h24 r3.2 l0 l1 l2 l3 (l4 + 1)
theorem eX2_toAndFro_b24 {y : Fx (Int32 × Wd)} (hk : OkF y RX2 cX2_toAndFro 6 7 181) (hR : RetM y rvI (some (.int))) {k24 : Wd → (Option Nat) → Int32 → Int32 → Int32 → Int32 → Option (Int32 × Wd)} (h24 : ∀ (w : Wd) (l0 : Option Nat) (l1 : Int32) (l2 : Int32) (l3 : Int32) (l4 : Int32), V y w [(0, va_rf l0), (1, .int l1), (2, .int l2), (3, .int l3), (4, .int l4)] [] 24 (k24 w l0 l1 l2 l3 l4)) (w : Wd) (l0 : Option Nat) (l1 : Int32) (l2 : Int32) (l3 : Int32) (l4 : Int32) : V y w [(0, va_rf l0), (1, .int l1), (2, .int l2), (3, .int l3), (4, .int l4)] [] 24 (mX2_toAndFro_b24 k24 w l0 l1 l2 l3 l4) := by
  unfold mX2_toAndFro_b24
  refine V_iload (pc := 24) hk dX2_toAndFro_24 4 rfl ?_
  refine V_iload_n (pc := 26) hk dX2_toAndFro_26 1 rfl ?_
  refine V_icmp_gt (pc := 27) (tgt := 89) hk dX2_toAndFro_27 rfl ?_ ?_
  · refine V_pick (lc' := [(0, va_rf l0), (2, .int l2), (3, .int l3)]) [0, 2, 3] rfl ?_
    exact eX2_toAndFro_p89 hk hR w l0 l2 l3
  · refine V_iload_n (pc := 30) hk dX2_toAndFro_30 3 rfl ?_
    refine V_iconst (pc := 31) (v := (-1)) hk dX2_toAndFro_31 (by decide +kernel) ?_
    refine V_icmp_ne (pc := 32) (tgt := 89) hk dX2_toAndFro_32 rfl ?_ ?_
    · refine V_pick (lc' := [(0, va_rf l0), (2, .int l2), (3, .int l3)]) [0, 2, 3] rfl ?_
      exact eX2_toAndFro_p89 hk hR w l0 l2 l3
    · refine V_aload_n (pc := 35) hk dX2_toAndFro_35 0 rfl ?_
      refine n_X2_292 (pc := 36) hk (fun b r h => ctX2_away (fl y) (fK y) hk.2.2.2.2.2.2.2.1 b w r h) ⟨Nat.le_of_ble_eq_true rfl, Nat.le_of_ble_eq_true rfl⟩ (Nat.le_of_ble_eq_true rfl) dX2_toAndFro_36 (fun r1 => ?_)
      refine V_if_le (pc := 39) (tgt := 46) hk dX2_toAndFro_39 rfl ?_ ?_
      · refine V_iconst (pc := 46) (v := 0) hk dX2_toAndFro_46 rfl ?_
        exact eX2_toAndFro_p47 hk hR h24 r1.2 l0 l1 l2 l3 l4 0
      · refine V_iconst (pc := 42) (v := 1) hk dX2_toAndFro_42 rfl ?_
        refine V_goto (pc := 43) (tgt := 47) hk dX2_toAndFro_43 rfl ?_
        exact eX2_toAndFro_p47 hk hR h24 r1.2 l0 l1 l2 l3 l4 1
theorem eX2_toAndFro_l24 {y : Fx (Int32 × Wd)} (hk : OkF y RX2 cX2_toAndFro 6 7 181) (hR : RetM y rvI (some (.int))) : ∀ (n : Nat) (w : Wd) (l0 : Option Nat) (l1 : Int32) (l2 : Int32) (l3 : Int32) (l4 : Int32), V y w [(0, va_rf l0), (1, .int l1), (2, .int l2), (3, .int l3), (4, .int l4)] [] 24 (mX2_toAndFro_l24 n w l0 l1 l2 l3 l4) := by
  intro n
  induction n with
  | zero => intro w l0 l1 l2 l3 l4; exact V_none
  | succ n ih => intro w l0 l1 l2 l3 l4; exact eX2_toAndFro_b24 hk hR ih w l0 l1 l2 l3 l4
theorem eX2_toAndFro {y : Fx (Int32 × Wd)} (hk : OkF y RX2 cX2_toAndFro 6 7 181) (hR : RetM y rvI (some (.int))) (this : Nat) (a0 : Int32) (w : Wd) : V y w [(0, va_rf (some this)), (1, .int a0)] [] 0 (mX2_toAndFro this a0 w) := by
  unfold mX2_toAndFro
  refine V_iload_n (pc := 0) hk dX2_toAndFro_0 1 rfl ?_
  refine V_iconst (pc := 1) (v := 2) hk dX2_toAndFro_1 rfl ?_
  refine V_sipush (pc := 2) (v := 200) hk dX2_toAndFro_2 rfl ?_
  refine n_X2_71 (pc := 5) hk (fun r h => ctX2_isIn (fl y) (fK y) hk.2.2.2.2.2.2.2.1 a0 2 200 w r h) ⟨Nat.le_of_ble_eq_true rfl, Nat.le_of_ble_eq_true rfl⟩ (Nat.le_of_ble_eq_true rfl) dX2_toAndFro_5 (fun r1 => ?_)
  refine V_if_ne (pc := 8) (tgt := 13) hk dX2_toAndFro_8 rfl ?_ ?_
  · refine V_aload_n (pc := 13) hk dX2_toAndFro_13 0 rfl ?_
    refine n_X2_379 (pc := 14) hk (fun b r h => ctX2_begin (fl y) (fK y) hk.2.2.2.2.2.2.2.1 b r1.2 r h) ⟨Nat.le_of_ble_eq_true rfl, Nat.le_of_ble_eq_true rfl⟩ (Nat.le_of_ble_eq_true rfl) dX2_toAndFro_14 (fun r2 => ?_)
    refine V_iconst (pc := 17) (v := (-1)) hk dX2_toAndFro_17 (by decide +kernel) ?_
    refine V_istore_n (pc := 18) (lc' := [(2, .int (-1)), (0, va_rf ((some this))), (1, .int a0)]) (i := 2) hk dX2_toAndFro_18 rfl (Nat.le_of_ble_eq_true rfl) rfl ?_
    refine V_iconst (pc := 19) (v := (-1)) hk dX2_toAndFro_19 (by decide +kernel) ?_
    refine V_istore_n (pc := 20) (lc' := [(3, .int (-1)), (2, .int (-1)), (0, va_rf ((some this))), (1, .int a0)]) (i := 3) hk dX2_toAndFro_20 rfl (Nat.le_of_ble_eq_true rfl) rfl ?_
    refine V_iconst (pc := 21) (v := 1) hk dX2_toAndFro_21 rfl ?_
    refine V_istore (pc := 22) (lc' := [(4, .int 1), (3, .int (-1)), (2, .int (-1)), (0, va_rf ((some this))), (1, .int a0)]) (i := 4) hk dX2_toAndFro_22 (Nat.le_of_ble_eq_true rfl) rfl ?_
    refine V_pick (lc' := [(0, va_rf ((some this))), (1, .int a0), (2, .int (-1)), (3, .int (-1)), (4, .int 1)]) [3, 4, 2, 1, 0] rfl ?_
    exact eX2_toAndFro_l24 hk hR FU r2.2 ((some this)) a0 (-1) (-1) 1
  · refine V_iconst (pc := 11) (v := (-1)) hk dX2_toAndFro_11 (by decide +kernel) ?_
    exact V_ireturn (pc := 12) hk hR rfl dX2_toAndFro_12
theorem ctX2_toAndFro (l : Launch) (K : Kx) (hI : Ini K) (b : Nat) (a0 : Int32) (w : Wd) : ∀ r, mX2_toAndFro b a0 w = some r → Ct l K 7 181 yX2_toAndFro (ws_ yX2_toAndFro cX2_toAndFro 6 (some (.int))) [.ref b, .int a0] w (rvI r.1) r.2 := Ct_of rvI l K hI 7 181 [.ref b, .int a0] w (by decide) (lc0 := [(0, .ref b), (1, .int a0)]) rfl (Nat.le_of_ble_eq_true rfl) (fun y hk hR _ _ hin => eX2_toAndFro hk hR b a0 w)
noncomputable def mX2_common_b6 (k6 : Wd → Int64 → Int64 → Option (Int64 × Wd)) (w : Wd) (l4 : Int64) (l6 : Int64) : Option (Int64 × Wd) :=
if (lg_cmp l6 0) = 0 then (
some (l4, w))
else (
(lrm l4 l6).bind fun v1 =>
k6 w l6 v1)
noncomputable def mX2_common_l6 : Nat → Wd → Int64 → Int64 → Option (Int64 × Wd)
  | 0, _, _, _ => none
  | n + 1, w, l4, l6 => mX2_common_b6 (mX2_common_l6 n) w l4 l6
noncomputable def mX2_common (a0 : Int64) (a1 : Int64) (w : Wd) : Option (Int64 × Wd) :=
mX2_common_l6 FU w a0 a1
theorem eX2_common_b6 {y : Fx (Int64 × Wd)} (hk : OkF y RX2 cX2_common 10 2 60) (hR : RetM y rvJ (some (.long))) {k6 : Wd → Int64 → Int64 → Option (Int64 × Wd)} (h6 : ∀ (w : Wd) (l4 : Int64) (l6 : Int64), V y w [(4, .long l4), (6, .long l6)] [] 6 (k6 w l4 l6)) (w : Wd) (l4 : Int64) (l6 : Int64) : V y w [(4, .long l4), (6, .long l6)] [] 6 (mX2_common_b6 k6 w l4 l6) := by
  unfold mX2_common_b6
  refine V_lload (pc := 6) hk dX2_common_6 1 rfl ?_
  refine V_lconst (pc := 8) (v := 0) hk dX2_common_8 rfl ?_
  refine V_lcmp (pc := 9) hk dX2_common_9 ?_
  refine V_if_eq (pc := 10) (tgt := 31) hk dX2_common_10 rfl ?_ ?_
  · refine V_lload (pc := 31) hk dX2_common_31 0 rfl ?_
    exact V_lreturn (pc := 33) hk hR rfl dX2_common_33
  · refine V_lload (pc := 13) hk dX2_common_13 0 rfl ?_
    refine V_lload (pc := 15) hk dX2_common_15 1 rfl ?_
    refine V_lrem (pc := 17) hk dX2_common_17 (fun v1 => ?_)
    refine V_lstore (pc := 18) (lc' := [(8, .long v1), (4, .long l4), (6, .long l6)]) (i := 8) hk dX2_common_18 (Nat.le_of_ble_eq_true rfl) rfl ?_
    refine V_lload (pc := 20) hk dX2_common_20 2 rfl ?_
    refine V_lstore (pc := 22) (lc' := [(4, .long l6), (8, .long v1), (6, .long l6)]) (i := 4) hk dX2_common_22 (Nat.le_of_ble_eq_true rfl) rfl ?_
    refine V_lload (pc := 24) hk dX2_common_24 1 rfl ?_
    refine V_lstore (pc := 26) (lc' := [(6, .long v1), (4, .long l6), (8, .long v1)]) (i := 6) hk dX2_common_26 (Nat.le_of_ble_eq_true rfl) rfl ?_
    refine V_goto (pc := 28) (tgt := 6) hk dX2_common_28 rfl ?_
    refine V_pick (lc' := [(4, .long l6), (6, .long v1)]) [1, 0] rfl ?_
    exact h6 w l6 v1
theorem eX2_common_l6 {y : Fx (Int64 × Wd)} (hk : OkF y RX2 cX2_common 10 2 60) (hR : RetM y rvJ (some (.long))) : ∀ (n : Nat) (w : Wd) (l4 : Int64) (l6 : Int64), V y w [(4, .long l4), (6, .long l6)] [] 6 (mX2_common_l6 n w l4 l6) := by
  intro n
  induction n with
  | zero => intro w l4 l6; exact V_none
  | succ n ih => intro w l4 l6; exact eX2_common_b6 hk hR ih w l4 l6
theorem eX2_common {y : Fx (Int64 × Wd)} (hk : OkF y RX2 cX2_common 10 2 60) (hR : RetM y rvJ (some (.long))) (a0 : Int64) (a1 : Int64) (w : Wd) : V y w [(0, .long a0), (2, .long a1)] [] 0 (mX2_common a0 a1 w) := by
  unfold mX2_common
  refine V_lload_n (pc := 0) hk dX2_common_0 0 rfl ?_
  refine V_lstore (pc := 1) (lc' := [(4, .long a0), (0, .long a0), (2, .long a1)]) (i := 4) hk dX2_common_1 (Nat.le_of_ble_eq_true rfl) rfl ?_
  refine V_lload_n (pc := 3) hk dX2_common_3 2 rfl ?_
  refine V_lstore (pc := 4) (lc' := [(6, .long a1), (4, .long a0), (0, .long a0), (2, .long a1)]) (i := 6) hk dX2_common_4 (Nat.le_of_ble_eq_true rfl) rfl ?_
  refine V_pick (lc' := [(4, .long a0), (6, .long a1)]) [1, 0] rfl ?_
  exact eX2_common_l6 hk hR FU w a0 a1
theorem ctX2_common (l : Launch) (K : Kx) (hI : Ini K) (a0 : Int64) (a1 : Int64) (w : Wd) : ∀ r, mX2_common a0 a1 w = some r → Ct l K 2 60 yX2_common (ws_ yX2_common cX2_common 10 (some (.long))) [.long a0, .long a1] w (rvJ r.1) r.2 := Ct_of rvJ l K hI 2 60 [.long a0, .long a1] w (by decide) (lc0 := [(0, .long a0), (2, .long a1)]) rfl (Nat.le_of_ble_eq_true rfl) (fun y hk hR _ _ hin => eX2_common hk hR a0 a1 w)
noncomputable def mX2_calm_p73 (w : Wd) (l4 : Int64) (l6 : Int64) (t0 : Int64) : Option (Int64 × Wd) :=
(cal w (mX2_common l4 l6 w)).bind fun r1 =>
(ldv t0 r1.1).bind fun v2 =>
some (v2, r1.2)
noncomputable def mX2_calm_b33 (k33 : Wd → Int32 → Int32 → Int32 → Int64 → Int64 → Int32 → Option (Int64 × Wd)) (w : Wd) (l1 : Int32) (l2 : Int32) (l3 : Int32) (l4 : Int64) (l6 : Int64) (l8 : Int32) : Option (Int64 × Wd) :=
if l1 ≤ l8 then (
if l3 = 0 then (
mX2_calm_p73 w l4 l6 l4)
else (
mX2_calm_p73 w l4 l6 l6))
else (
(some (l4 * (((l2 + 1) : Int32).toInt64))).bind fun (x1 : Int64) =>
k33 w l1 l2 l3 x1 (l6 * 10) (l8 + 1))
noncomputable def mX2_calm_l33 : Nat → Wd → Int32 → Int32 → Int32 → Int64 → Int64 → Int32 → Option (Int64 × Wd)
  | 0, _, _, _, _, _, _, _ => none
  | n + 1, w, l1, l2, l3, l4, l6, l8 => mX2_calm_b33 (mX2_calm_l33 n) w l1 l2 l3 l4 l6 l8
noncomputable def mX2_calm (this : Nat) (a0 : Int32) (a1 : Int32) (a2 : Int32) (w : Wd) : Option (Int64 × Wd) :=
(cal w (mX2_isIn a0 1 9 w)).bind fun r1 =>
if r1.1 = 0 then (
some ((-1), r1.2))
else (
(cal r1.2 (mX2_isIn a1 0 9 r1.2)).bind fun r2 =>
if ¬ r2.1 = 0 then (
mX2_calm_l33 FU r2.2 a0 a1 a2 1 1 0)
else (
some ((-1), r2.2)))
theorem eX2_calm_p73 {y : Fx (Int64 × Wd)} (hk : OkF y RX2 cX2_calm 9 3 89) (hR : RetM y rvJ (some (.long))) (w : Wd) (l4 : Int64) (l6 : Int64) (t0 : Int64) : V y w [(4, .long l4), (6, .long l6)] [.long t0] 73 (mX2_calm_p73 w l4 l6 t0) := by
  unfold mX2_calm_p73
  refine V_lload (pc := 73) hk dX2_calm_73 0 rfl ?_
  refine V_lload (pc := 75) hk dX2_calm_75 1 rfl ?_
  refine n_X2_399 (pc := 77) hk (fun r h => ctX2_common (fl y) (fK y) hk.2.2.2.2.2.2.2.1 l4 l6 w r h) ⟨Nat.le_of_ble_eq_true rfl, Nat.le_of_ble_eq_true rfl⟩ (Nat.le_of_ble_eq_true rfl) dX2_calm_77 (fun r1 => ?_)
  refine V_ldiv (pc := 80) hk dX2_calm_80 (fun v2 => ?_)
  exact V_lreturn (pc := 81) hk hR rfl dX2_calm_81
theorem eX2_calm_b33 {y : Fx (Int64 × Wd)} (hk : OkF y RX2 cX2_calm 9 3 89) (hR : RetM y rvJ (some (.long))) {k33 : Wd → Int32 → Int32 → Int32 → Int64 → Int64 → Int32 → Option (Int64 × Wd)} (h33 : ∀ (w : Wd) (l1 : Int32) (l2 : Int32) (l3 : Int32) (l4 : Int64) (l6 : Int64) (l8 : Int32), V y w [(1, .int l1), (2, .int l2), (3, .int l3), (4, .long l4), (6, .long l6), (8, .int l8)] [] 33 (k33 w l1 l2 l3 l4 l6 l8)) (w : Wd) (l1 : Int32) (l2 : Int32) (l3 : Int32) (l4 : Int64) (l6 : Int64) (l8 : Int32) : V y w [(1, .int l1), (2, .int l2), (3, .int l3), (4, .long l4), (6, .long l6), (8, .int l8)] [] 33 (mX2_calm_b33 k33 w l1 l2 l3 l4 l6 l8) := by
  unfold mX2_calm_b33
  refine V_iload (pc := 33) hk dX2_calm_33 5 rfl ?_
  refine V_iload_n (pc := 35) hk dX2_calm_35 0 rfl ?_
  refine V_icmp_ge (pc := 36) (tgt := 62) hk dX2_calm_36 rfl ?_ ?_
  · refine V_iload_n (pc := 62) hk dX2_calm_62 2 rfl ?_
    refine V_if_eq (pc := 63) (tgt := 71) hk dX2_calm_63 rfl ?_ ?_
    · refine V_lload (pc := 71) hk dX2_calm_71 3 rfl ?_
      refine V_pick (lc' := [(4, .long l4), (6, .long l6)]) [3, 4] rfl ?_
      exact eX2_calm_p73 hk hR w l4 l6 l4
    · refine V_lload (pc := 66) hk dX2_calm_66 4 rfl ?_
      refine V_goto (pc := 68) (tgt := 73) hk dX2_calm_68 rfl ?_
      refine V_pick (lc' := [(4, .long l4), (6, .long l6)]) [3, 4] rfl ?_
      exact eX2_calm_p73 hk hR w l4 l6 l6
  · refine V_lload (pc := 39) hk dX2_calm_39 3 rfl ?_
    refine V_iload_n (pc := 41) hk dX2_calm_41 1 rfl ?_
    refine V_iconst (pc := 42) (v := 1) hk dX2_calm_42 rfl ?_
    refine V_iadd (pc := 43) hk dX2_calm_43 ?_
    refine V_i2l (pc := 44) hk dX2_calm_44 ?_
    refine V_lmul (pc := 45) hk dX2_calm_45 ?_
    refine V_nmJ (fun x1 => ?_)
    refine V_lstore (pc := 46) (lc' := [(4, .long x1), (1, .int l1), (2, .int l2), (3, .int l3), (6, .long l6), (8, .int l8)]) (i := 4) hk dX2_calm_46 (Nat.le_of_ble_eq_true rfl) rfl ?_
    refine V_lload (pc := 48) hk dX2_calm_48 4 rfl ?_
    refine V_ldc2 (pc := 50) (v := 10) hk dX2_calm_50 q1852 ?_
    refine V_lmul (pc := 53) hk dX2_calm_53 ?_
    refine V_lstore (pc := 54) (lc' := [(6, .long (l6 * 10)), (4, .long x1), (1, .int l1), (2, .int l2), (3, .int l3), (8, .int l8)]) (i := 6) hk dX2_calm_54 (Nat.le_of_ble_eq_true rfl) rfl ?_
    refine V_iinc (pc := 56) (v := 1) (lc' := [(8, .int (l8 + 1)), (6, .long (l6 * 10)), (4, .long x1), (1, .int l1), (2, .int l2), (3, .int l3)]) hk dX2_calm_56 5 rfl rfl (Nat.le_of_ble_eq_true rfl) rfl ?_
    refine V_goto (pc := 59) (tgt := 33) hk dX2_calm_59 rfl ?_
    refine V_pick (lc' := [(1, .int l1), (2, .int l2), (3, .int l3), (4, .long x1), (6, .long (l6 * 10)), (8, .int (l8 + 1))]) [3, 4, 5, 2, 1, 0] rfl ?_
    exact h33 w l1 l2 l3 x1 (l6 * 10) (l8 + 1)
theorem eX2_calm_l33 {y : Fx (Int64 × Wd)} (hk : OkF y RX2 cX2_calm 9 3 89) (hR : RetM y rvJ (some (.long))) : ∀ (n : Nat) (w : Wd) (l1 : Int32) (l2 : Int32) (l3 : Int32) (l4 : Int64) (l6 : Int64) (l8 : Int32), V y w [(1, .int l1), (2, .int l2), (3, .int l3), (4, .long l4), (6, .long l6), (8, .int l8)] [] 33 (mX2_calm_l33 n w l1 l2 l3 l4 l6 l8) := by
  intro n
  induction n with
  | zero => intro w l1 l2 l3 l4 l6 l8; exact V_none
  | succ n ih => intro w l1 l2 l3 l4 l6 l8; exact eX2_calm_b33 hk hR ih w l1 l2 l3 l4 l6 l8
theorem eX2_calm {y : Fx (Int64 × Wd)} (hk : OkF y RX2 cX2_calm 9 3 89) (hR : RetM y rvJ (some (.long))) (this : Nat) (a0 : Int32) (a1 : Int32) (a2 : Int32) (w : Wd) : V y w [(0, va_rf (some this)), (1, .int a0), (2, .int a1), (3, .int a2)] [] 0 (mX2_calm this a0 a1 a2 w) := by
  unfold mX2_calm
  refine V_iload_n (pc := 0) hk dX2_calm_0 1 rfl ?_
  refine V_iconst (pc := 1) (v := 1) hk dX2_calm_1 rfl ?_
  refine V_bipush (pc := 2) (v := 9) hk dX2_calm_2 rfl ?_
  refine n_X2_71 (pc := 4) hk (fun r h => ctX2_isIn (fl y) (fK y) hk.2.2.2.2.2.2.2.1 a0 1 9 w r h) ⟨Nat.le_of_ble_eq_true rfl, Nat.le_of_ble_eq_true rfl⟩ (Nat.le_of_ble_eq_true rfl) dX2_calm_4 (fun r1 => ?_)
  refine V_if_eq (pc := 7) (tgt := 20) hk dX2_calm_7 rfl ?_ ?_
  · refine V_ldc2 (pc := 20) (v := (-1)) hk dX2_calm_20 q1851 ?_
    exact V_lreturn (pc := 23) hk hR rfl dX2_calm_23
  · refine V_iload_n (pc := 10) hk dX2_calm_10 2 rfl ?_
    refine V_iconst (pc := 11) (v := 0) hk dX2_calm_11 rfl ?_
    refine V_bipush (pc := 12) (v := 9) hk dX2_calm_12 rfl ?_
    refine n_X2_71 (pc := 14) hk (fun r h => ctX2_isIn (fl y) (fK y) hk.2.2.2.2.2.2.2.1 a1 0 9 r1.2 r h) ⟨Nat.le_of_ble_eq_true rfl, Nat.le_of_ble_eq_true rfl⟩ (Nat.le_of_ble_eq_true rfl) dX2_calm_14 (fun r2 => ?_)
    refine V_if_ne (pc := 17) (tgt := 24) hk dX2_calm_17 rfl ?_ ?_
    · refine V_lconst (pc := 24) (v := 1) hk dX2_calm_24 rfl ?_
      refine V_lstore (pc := 25) (lc' := [(4, .long 1), (0, va_rf ((some this))), (1, .int a0), (2, .int a1), (3, .int a2)]) (i := 4) hk dX2_calm_25 (Nat.le_of_ble_eq_true rfl) rfl ?_
      refine V_lconst (pc := 27) (v := 1) hk dX2_calm_27 rfl ?_
      refine V_lstore (pc := 28) (lc' := [(6, .long 1), (4, .long 1), (0, va_rf ((some this))), (1, .int a0), (2, .int a1), (3, .int a2)]) (i := 6) hk dX2_calm_28 (Nat.le_of_ble_eq_true rfl) rfl ?_
      refine V_iconst (pc := 30) (v := 0) hk dX2_calm_30 rfl ?_
      refine V_istore (pc := 31) (lc' := [(8, .int 0), (6, .long 1), (4, .long 1), (0, va_rf ((some this))), (1, .int a0), (2, .int a1), (3, .int a2)]) (i := 8) hk dX2_calm_31 (Nat.le_of_ble_eq_true rfl) rfl ?_
      refine V_pick (lc' := [(1, .int a0), (2, .int a1), (3, .int a2), (4, .long 1), (6, .long 1), (8, .int 0)]) [4, 5, 6, 2, 1, 0] rfl ?_
      exact eX2_calm_l33 hk hR FU r2.2 a0 a1 a2 1 1 0
    · refine V_ldc2 (pc := 20) (v := (-1)) hk dX2_calm_20 q1851 ?_
      exact V_lreturn (pc := 23) hk hR rfl dX2_calm_23
theorem ctX2_calm (l : Launch) (K : Kx) (hI : Ini K) (b : Nat) (a0 : Int32) (a1 : Int32) (a2 : Int32) (w : Wd) : ∀ r, mX2_calm b a0 a1 a2 w = some r → Ct l K 3 89 yX2_calm (ws_ yX2_calm cX2_calm 9 (some (.long))) [.ref b, .int a0, .int a1, .int a2] w (rvJ r.1) r.2 := Ct_of rvJ l K hI 3 89 [.ref b, .int a0, .int a1, .int a2] w (by decide) (lc0 := [(0, .ref b), (1, .int a0), (2, .int a1), (3, .int a2)]) rfl (Nat.le_of_ble_eq_true rfl) (fun y hk hR _ _ hin => eX2_calm hk hR b a0 a1 a2 w)
noncomputable def mX2_isText (this : Nat) (a0 : Int32) (w : Wd) : Option (Int32 × Wd) :=
(gR w ((some this)) 2 0).bind fun v1 =>
(ia w v1 3).bind fun v2 =>
(cal w (mX2_isIn a0 0 (v2 - 1) w)).bind fun r3 =>
(nok (.boolean) r3.1).bind fun _ => some (r3.1, r3.2)
theorem eX2_isText {y : Fx (Int32 × Wd)} (hk : OkF y RX2 cX2_isText 2 3 82) (hR : RetM y rvI (some (.boolean))) (this : Nat) (a0 : Int32) (w : Wd) : V y w [(0, va_rf (some this)), (1, .int a0)] [] 0 (mX2_isText this a0 w) := by
  unfold mX2_isText
  refine V_iload_n (pc := 0) hk dX2_isText_0 1 rfl ?_
  refine V_iconst (pc := 1) (v := 0) hk dX2_isText_1 rfl ?_
  refine V_aload_n (pc := 2) hk dX2_isText_2 0 rfl ?_
  refine g_X2_7 (pc := 3) hk dX2_isText_3 (fun v1 => ?_)
  refine V_iconst (pc := 6) (v := 3) hk dX2_isText_6 rfl ?_
  refine V_iaload (pc := 7) hk dX2_isText_7 (fun v2 => ?_)
  refine V_iconst (pc := 8) (v := 1) hk dX2_isText_8 rfl ?_
  refine V_isub (pc := 9) hk dX2_isText_9 ?_
  refine n_X2_71 (pc := 10) hk (fun r h => ctX2_isIn (fl y) (fK y) hk.2.2.2.2.2.2.2.1 a0 0 (v2 - 1) w r h) ⟨Nat.le_of_ble_eq_true rfl, Nat.le_of_ble_eq_true rfl⟩ (Nat.le_of_ble_eq_true rfl) dX2_isText_10 (fun r3 => ?_)
  exact V_zreturn (pc := 13) hk hR rfl dX2_isText_13
theorem ctX2_isText (l : Launch) (K : Kx) (hI : Ini K) (b : Nat) (a0 : Int32) (w : Wd) : ∀ r, mX2_isText b a0 w = some r → Ct l K 3 82 yX2_isText (ws_ yX2_isText cX2_isText 2 (some (.boolean))) [.ref b, .int a0] w (rvI r.1) r.2 := Ct_of rvI l K hI 3 82 [.ref b, .int a0] w (by decide) (lc0 := [(0, .ref b), (1, .int a0)]) rfl (Nat.le_of_ble_eq_true rfl) (fun y hk hR _ _ hin => eX2_isText hk hR b a0 w)
noncomputable def mX2_halves_b16 (k16 : Wd → (Option Nat) → Int32 → Int32 → Int32 → Option (Unit × Wd)) (w : Wd) (l0 : Option Nat) (l1 : Int32) (l2 : Int32) (l3 : Int32) : Option (Unit × Wd) :=
if l2 < l3 then (
(recv w l0 2).bind fun b2 => (cal w (mX2_putBack b2 w)).bind fun r1 =>
some ((), r1.2))
else (
(recv w l0 2).bind fun b4 => (cal w (mX2_commandNow b4 l1 w)).bind fun r3 =>
(recv r3.2 l0 2).bind fun b6 => (cal r3.2 (mX2_pass b6 r3.1 r3.2)).bind fun r5 =>
(recv r5.2 l0 2).bind fun b8 => (cal r5.2 (mX2_away b8 r5.2)).bind fun r7 =>
(cal r7.2 (mX2_sizeOf r7.1 r7.2)).bind fun r9 =>
if l2 < (2 * l3) then (
(gI r9.2 l0 2 28).bind fun v10 =>
if r9.1 ≤ v10 then (
(gI r9.2 l0 2 28).bind fun v11 =>
(pf r9.2 l0 2 28 (.int v11)).bind fun w12 =>
k16 w12 l0 l1 l2 (l3 + 1))
else (
(pf r9.2 l0 2 28 (.int r9.1)).bind fun w13 =>
k16 w13 l0 l1 l2 (l3 + 1)))
else (
(gI r9.2 l0 2 27).bind fun v14 =>
if r9.1 ≤ v14 then (
(gI r9.2 l0 2 27).bind fun v15 =>
(pf r9.2 l0 2 27 (.int v15)).bind fun w16 =>
k16 w16 l0 l1 l2 (l3 + 1))
else (
(pf r9.2 l0 2 27 (.int r9.1)).bind fun w17 =>
k16 w17 l0 l1 l2 (l3 + 1))))
noncomputable def mX2_halves_l16 : Nat → Wd → (Option Nat) → Int32 → Int32 → Int32 → Option (Unit × Wd)
  | 0, _, _, _, _, _ => none
  | n + 1, w, l0, l1, l2, l3 => mX2_halves_b16 (mX2_halves_l16 n) w l0 l1 l2 l3
noncomputable def mX2_halves (this : Nat) (a0 : Int32) (a1 : Int32) (w : Wd) : Option (Unit × Wd) :=
(recv w ((some this)) 2).bind fun b2 => (cal w (mX2_begin b2 w)).bind fun r1 =>
(pf r1.2 ((some this)) 2 27 (.int 0)).bind fun w3 =>
(pf w3 ((some this)) 2 28 (.int 0)).bind fun w4 =>
mX2_halves_l16 FU w4 ((some this)) a0 a1 1
theorem eX2_halves_b16 {y : Fx (Unit × Wd)} (hk : OkF y RX2 cX2_halves 5 7 181) (hR : RetM y rvV none) {k16 : Wd → (Option Nat) → Int32 → Int32 → Int32 → Option (Unit × Wd)} (h16 : ∀ (w : Wd) (l0 : Option Nat) (l1 : Int32) (l2 : Int32) (l3 : Int32), V y w [(0, va_rf l0), (1, .int l1), (2, .int l2), (3, .int l3)] [] 16 (k16 w l0 l1 l2 l3)) (w : Wd) (l0 : Option Nat) (l1 : Int32) (l2 : Int32) (l3 : Int32) : V y w [(0, va_rf l0), (1, .int l1), (2, .int l2), (3, .int l3)] [] 16 (mX2_halves_b16 k16 w l0 l1 l2 l3) := by
  unfold mX2_halves_b16
  refine V_iload_n (pc := 16) hk dX2_halves_16 3 rfl ?_
  refine V_iload_n (pc := 17) hk dX2_halves_17 2 rfl ?_
  refine V_icmp_gt (pc := 18) (tgt := 99) hk dX2_halves_18 rfl ?_ ?_
  · refine V_aload_n (pc := 99) hk dX2_halves_99 0 rfl ?_
    refine n_X2_382 (pc := 100) hk (fun b r h => ctX2_putBack (fl y) (fK y) hk.2.2.2.2.2.2.2.1 b w r h) ⟨Nat.le_of_ble_eq_true rfl, Nat.le_of_ble_eq_true rfl⟩ (Nat.le_of_ble_eq_true rfl) dX2_halves_100 (fun r1 => ?_)
    exact V_return (pc := 103) hk hR rfl dX2_halves_103
  · refine V_aload_n (pc := 21) hk dX2_halves_21 0 rfl ?_
    refine V_aload_n (pc := 22) hk dX2_halves_22 0 rfl ?_
    refine V_iload_n (pc := 23) hk dX2_halves_23 1 rfl ?_
    refine n_X2_338 (pc := 24) hk (fun b r h => ctX2_commandNow (fl y) (fK y) hk.2.2.2.2.2.2.2.1 b l1 w r h) ⟨Nat.le_of_ble_eq_true rfl, Nat.le_of_ble_eq_true rfl⟩ (by simp [rf_cat, cat_int, cat_long, cat_ref]) dX2_halves_24 (fun r3 => ?_)
    refine n_X2_332 (pc := 27) hk (fun b r h => ctX2_pass (fl y) (fK y) hk.2.2.2.2.2.2.2.1 b r3.1 r3.2 r h) ⟨Nat.le_of_ble_eq_true rfl, Nat.le_of_ble_eq_true rfl⟩ (Nat.le_of_ble_eq_true rfl) dX2_halves_27 (fun r5 => ?_)
    refine V_aload_n (pc := 30) hk dX2_halves_30 0 rfl ?_
    refine n_X2_292 (pc := 31) hk (fun b r h => ctX2_away (fl y) (fK y) hk.2.2.2.2.2.2.2.1 b r5.2 r h) ⟨Nat.le_of_ble_eq_true rfl, Nat.le_of_ble_eq_true rfl⟩ (Nat.le_of_ble_eq_true rfl) dX2_halves_31 (fun r7 => ?_)
    refine n_X2_323 (pc := 34) hk (fun r h => ctX2_sizeOf (fl y) (fK y) hk.2.2.2.2.2.2.2.1 r7.1 r7.2 r h) ⟨Nat.le_of_ble_eq_true rfl, Nat.le_of_ble_eq_true rfl⟩ (Nat.le_of_ble_eq_true rfl) dX2_halves_34 (fun r9 => ?_)
    refine V_istore (pc := 37) (lc' := [(4, .int r9.1), (0, va_rf l0), (1, .int l1), (2, .int l2), (3, .int l3)]) (i := 4) hk dX2_halves_37 (Nat.le_of_ble_eq_true rfl) rfl ?_
    refine V_iconst (pc := 39) (v := 2) hk dX2_halves_39 rfl ?_
    refine V_iload_n (pc := 40) hk dX2_halves_40 4 rfl ?_
    refine V_imul (pc := 41) hk dX2_halves_41 ?_
    refine V_iload_n (pc := 42) hk dX2_halves_42 3 rfl ?_
    refine V_icmp_gt (pc := 43) (tgt := 71) hk dX2_halves_43 rfl ?_ ?_
    · refine V_aload_n (pc := 71) hk dX2_halves_71 1 rfl ?_
      refine V_iload (pc := 72) hk dX2_halves_72 0 rfl ?_
      refine V_aload_n (pc := 74) hk dX2_halves_74 1 rfl ?_
      refine g_X2_406 (pc := 75) hk dX2_halves_75 (fun v10 => ?_)
      refine V_icmp_le (pc := 78) (tgt := 86) hk dX2_halves_78 rfl ?_ ?_
      · refine V_aload_n (pc := 86) hk dX2_halves_86 1 rfl ?_
        refine g_X2_406 (pc := 87) hk dX2_halves_87 (fun v11 => ?_)
        refine p_X2_406 (pc := 90) hk dX2_halves_90 (fun w12 => ?_)
        refine V_iinc (pc := 93) (v := 1) (lc' := [(3, .int (l3 + 1)), (4, .int r9.1), (0, va_rf l0), (1, .int l1), (2, .int l2)]) hk dX2_halves_93 4 rfl rfl (Nat.le_of_ble_eq_true rfl) rfl ?_
        refine V_goto (pc := 96) (tgt := 16) hk dX2_halves_96 rfl ?_
        refine V_pick (lc' := [(0, va_rf l0), (1, .int l1), (2, .int l2), (3, .int (l3 + 1))]) [2, 3, 4, 0] rfl ?_
        exact h16 w12 l0 l1 l2 (l3 + 1)
      · refine V_iload (pc := 81) hk dX2_halves_81 0 rfl ?_
        refine V_goto (pc := 83) (tgt := 90) hk dX2_halves_83 rfl ?_
        refine p_X2_406 (pc := 90) hk dX2_halves_90 (fun w13 => ?_)
        refine V_iinc (pc := 93) (v := 1) (lc' := [(3, .int (l3 + 1)), (4, .int r9.1), (0, va_rf l0), (1, .int l1), (2, .int l2)]) hk dX2_halves_93 4 rfl rfl (Nat.le_of_ble_eq_true rfl) rfl ?_
        refine V_goto (pc := 96) (tgt := 16) hk dX2_halves_96 rfl ?_
        refine V_pick (lc' := [(0, va_rf l0), (1, .int l1), (2, .int l2), (3, .int (l3 + 1))]) [2, 3, 4, 0] rfl ?_
        exact h16 w13 l0 l1 l2 (l3 + 1)
    · refine V_aload_n (pc := 46) hk dX2_halves_46 1 rfl ?_
      refine V_iload (pc := 47) hk dX2_halves_47 0 rfl ?_
      refine V_aload_n (pc := 49) hk dX2_halves_49 1 rfl ?_
      refine g_X2_403 (pc := 50) hk dX2_halves_50 (fun v14 => ?_)
      refine V_icmp_le (pc := 53) (tgt := 61) hk dX2_halves_53 rfl ?_ ?_
      · refine V_aload_n (pc := 61) hk dX2_halves_61 1 rfl ?_
        refine g_X2_403 (pc := 62) hk dX2_halves_62 (fun v15 => ?_)
        refine p_X2_403 (pc := 65) hk dX2_halves_65 (fun w16 => ?_)
        refine V_goto (pc := 68) (tgt := 93) hk dX2_halves_68 rfl ?_
        refine V_iinc (pc := 93) (v := 1) (lc' := [(3, .int (l3 + 1)), (4, .int r9.1), (0, va_rf l0), (1, .int l1), (2, .int l2)]) hk dX2_halves_93 4 rfl rfl (Nat.le_of_ble_eq_true rfl) rfl ?_
        refine V_goto (pc := 96) (tgt := 16) hk dX2_halves_96 rfl ?_
        refine V_pick (lc' := [(0, va_rf l0), (1, .int l1), (2, .int l2), (3, .int (l3 + 1))]) [2, 3, 4, 0] rfl ?_
        exact h16 w16 l0 l1 l2 (l3 + 1)
      · refine V_iload (pc := 56) hk dX2_halves_56 0 rfl ?_
        refine V_goto (pc := 58) (tgt := 65) hk dX2_halves_58 rfl ?_
        refine p_X2_403 (pc := 65) hk dX2_halves_65 (fun w17 => ?_)
        refine V_goto (pc := 68) (tgt := 93) hk dX2_halves_68 rfl ?_
        refine V_iinc (pc := 93) (v := 1) (lc' := [(3, .int (l3 + 1)), (4, .int r9.1), (0, va_rf l0), (1, .int l1), (2, .int l2)]) hk dX2_halves_93 4 rfl rfl (Nat.le_of_ble_eq_true rfl) rfl ?_
        refine V_goto (pc := 96) (tgt := 16) hk dX2_halves_96 rfl ?_
        refine V_pick (lc' := [(0, va_rf l0), (1, .int l1), (2, .int l2), (3, .int (l3 + 1))]) [2, 3, 4, 0] rfl ?_
        exact h16 w17 l0 l1 l2 (l3 + 1)
theorem eX2_halves_l16 {y : Fx (Unit × Wd)} (hk : OkF y RX2 cX2_halves 5 7 181) (hR : RetM y rvV none) : ∀ (n : Nat) (w : Wd) (l0 : Option Nat) (l1 : Int32) (l2 : Int32) (l3 : Int32), V y w [(0, va_rf l0), (1, .int l1), (2, .int l2), (3, .int l3)] [] 16 (mX2_halves_l16 n w l0 l1 l2 l3) := by
  intro n
  induction n with
  | zero => intro w l0 l1 l2 l3; exact V_none
  | succ n ih => intro w l0 l1 l2 l3; exact eX2_halves_b16 hk hR ih w l0 l1 l2 l3
theorem eX2_halves {y : Fx (Unit × Wd)} (hk : OkF y RX2 cX2_halves 5 7 181) (hR : RetM y rvV none) (this : Nat) (a0 : Int32) (a1 : Int32) (w : Wd) : V y w [(0, va_rf (some this)), (1, .int a0), (2, .int a1)] [] 0 (mX2_halves this a0 a1 w) := by
  unfold mX2_halves
  refine V_aload_n (pc := 0) hk dX2_halves_0 0 rfl ?_
  refine n_X2_379 (pc := 1) hk (fun b r h => ctX2_begin (fl y) (fK y) hk.2.2.2.2.2.2.2.1 b w r h) ⟨Nat.le_of_ble_eq_true rfl, Nat.le_of_ble_eq_true rfl⟩ (Nat.le_of_ble_eq_true rfl) dX2_halves_1 (fun r1 => ?_)
  refine V_aload_n (pc := 4) hk dX2_halves_4 0 rfl ?_
  refine V_iconst (pc := 5) (v := 0) hk dX2_halves_5 rfl ?_
  refine p_X2_403 (pc := 6) hk dX2_halves_6 (fun w3 => ?_)
  refine V_aload_n (pc := 9) hk dX2_halves_9 0 rfl ?_
  refine V_iconst (pc := 10) (v := 0) hk dX2_halves_10 rfl ?_
  refine p_X2_406 (pc := 11) hk dX2_halves_11 (fun w4 => ?_)
  refine V_iconst (pc := 14) (v := 1) hk dX2_halves_14 rfl ?_
  refine V_istore_n (pc := 15) (lc' := [(3, .int 1), (0, va_rf ((some this))), (1, .int a0), (2, .int a1)]) (i := 3) hk dX2_halves_15 rfl (Nat.le_of_ble_eq_true rfl) rfl ?_
  refine V_pick (lc' := [(0, va_rf ((some this))), (1, .int a0), (2, .int a1), (3, .int 1)]) [1, 2, 3, 0] rfl ?_
  exact eX2_halves_l16 hk hR FU w4 ((some this)) a0 a1 1
theorem ctX2_halves (l : Launch) (K : Kx) (hI : Ini K) (b : Nat) (a0 : Int32) (a1 : Int32) (w : Wd) : ∀ r, mX2_halves b a0 a1 w = some r → Ct l K 7 181 yX2_halves (ws_ yX2_halves cX2_halves 5 none) [.ref b, .int a0, .int a1] w (rvV r.1) r.2 := Ct_of rvV l K hI 7 181 [.ref b, .int a0, .int a1] w (by decide) (lc0 := [(0, .ref b), (1, .int a0), (2, .int a1)]) rfl (Nat.le_of_ble_eq_true rfl) (fun y hk hR _ _ hin => eX2_halves hk hR b a0 a1 w)
noncomputable def mX2_dies (this : Nat) (a0 : Int32) (a1 : Int32) (w : Wd) : Option (Int32 × Wd) :=
(recv w ((some this)) 2).bind fun b2 => (cal w (mX2_isText b2 a0 w)).bind fun r1 =>
if r1.1 = 0 then (
some ((-2), r1.2))
else (
(cal r1.2 (mX2_isIn a1 2 200 r1.2)).bind fun r3 =>
if r3.1 = 0 then (
some ((-2), r3.2))
else (
(irm a1 2).bind fun v4 =>
if ¬ v4 = 1 then (
(recv r3.2 ((some this)) 2).bind fun b6 => (cal r3.2 (mX2_halves b6 a0 a1 r3.2)).bind fun r5 =>
(gI r5.2 ((some this)) 2 28).bind fun v7 =>
(gI r5.2 ((some this)) 2 27).bind fun v8 =>
if v8 ≤ v7 then (
(gI r5.2 ((some this)) 2 28).bind fun v9 =>
(gI r5.2 ((some this)) 2 27).bind fun v10 =>
if v9 ≤ v10 then (
some (0, r5.2))
else (
some (1, r5.2)))
else (
some ((-1), r5.2)))
else (
some ((-2), r3.2))))
theorem eX2_dies {y : Fx (Int32 × Wd)} (hk : OkF y RX2 cX2_dies 3 8 205) (hR : RetM y rvI (some (.int))) (this : Nat) (a0 : Int32) (a1 : Int32) (w : Wd) : V y w [(0, va_rf (some this)), (1, .int a0), (2, .int a1)] [] 0 (mX2_dies this a0 a1 w) := by
  unfold mX2_dies
  refine V_aload_n (pc := 0) hk dX2_dies_0 0 rfl ?_
  refine V_iload_n (pc := 1) hk dX2_dies_1 1 rfl ?_
  refine n_X2_409 (pc := 2) hk (fun b r h => ctX2_isText (fl y) (fK y) hk.2.2.2.2.2.2.2.1 b a0 w r h) ⟨Nat.le_of_ble_eq_true rfl, Nat.le_of_ble_eq_true rfl⟩ (Nat.le_of_ble_eq_true rfl) dX2_dies_2 (fun r1 => ?_)
  refine V_if_eq (pc := 5) (tgt := 26) hk dX2_dies_5 rfl ?_ ?_
  · refine V_bipush (pc := 26) (v := (-2)) hk dX2_dies_26 (by decide +kernel) ?_
    exact V_ireturn (pc := 28) hk hR rfl dX2_dies_28
  · refine V_iload_n (pc := 8) hk dX2_dies_8 2 rfl ?_
    refine V_iconst (pc := 9) (v := 2) hk dX2_dies_9 rfl ?_
    refine V_sipush (pc := 10) (v := 200) hk dX2_dies_10 rfl ?_
    refine n_X2_71 (pc := 13) hk (fun r h => ctX2_isIn (fl y) (fK y) hk.2.2.2.2.2.2.2.1 a1 2 200 r1.2 r h) ⟨Nat.le_of_ble_eq_true rfl, Nat.le_of_ble_eq_true rfl⟩ (Nat.le_of_ble_eq_true rfl) dX2_dies_13 (fun r3 => ?_)
    refine V_if_eq (pc := 16) (tgt := 26) hk dX2_dies_16 rfl ?_ ?_
    · refine V_bipush (pc := 26) (v := (-2)) hk dX2_dies_26 (by decide +kernel) ?_
      exact V_ireturn (pc := 28) hk hR rfl dX2_dies_28
    · refine V_iload_n (pc := 19) hk dX2_dies_19 2 rfl ?_
      refine V_iconst (pc := 20) (v := 2) hk dX2_dies_20 rfl ?_
      refine V_irem (pc := 21) hk dX2_dies_21 (fun v4 => ?_)
      refine V_iconst (pc := 22) (v := 1) hk dX2_dies_22 rfl ?_
      refine V_icmp_ne (pc := 23) (tgt := 29) hk dX2_dies_23 rfl ?_ ?_
      · refine V_aload_n (pc := 29) hk dX2_dies_29 0 rfl ?_
        refine V_iload_n (pc := 30) hk dX2_dies_30 1 rfl ?_
        refine V_iload_n (pc := 31) hk dX2_dies_31 2 rfl ?_
        refine n_X2_412 (pc := 32) hk (fun b r h => ctX2_halves (fl y) (fK y) hk.2.2.2.2.2.2.2.1 b a0 a1 r3.2 r h) ⟨Nat.le_of_ble_eq_true rfl, Nat.le_of_ble_eq_true rfl⟩ (Nat.le_of_ble_eq_true rfl) dX2_dies_32 (fun r5 => ?_)
        refine V_aload_n (pc := 35) hk dX2_dies_35 0 rfl ?_
        refine g_X2_406 (pc := 36) hk dX2_dies_36 (fun v7 => ?_)
        refine V_aload_n (pc := 39) hk dX2_dies_39 0 rfl ?_
        refine g_X2_403 (pc := 40) hk dX2_dies_40 (fun v8 => ?_)
        refine V_icmp_ge (pc := 43) (tgt := 50) hk dX2_dies_43 rfl ?_ ?_
        · refine V_aload_n (pc := 50) hk dX2_dies_50 0 rfl ?_
          refine g_X2_406 (pc := 51) hk dX2_dies_51 (fun v9 => ?_)
          refine V_aload_n (pc := 54) hk dX2_dies_54 0 rfl ?_
          refine g_X2_403 (pc := 55) hk dX2_dies_55 (fun v10 => ?_)
          refine V_icmp_le (pc := 58) (tgt := 65) hk dX2_dies_58 rfl ?_ ?_
          · refine V_iconst (pc := 65) (v := 0) hk dX2_dies_65 rfl ?_
            exact V_ireturn (pc := 66) hk hR rfl dX2_dies_66
          · refine V_iconst (pc := 61) (v := 1) hk dX2_dies_61 rfl ?_
            refine V_goto (pc := 62) (tgt := 66) hk dX2_dies_62 rfl ?_
            exact V_ireturn (pc := 66) hk hR rfl dX2_dies_66
        · refine V_iconst (pc := 46) (v := (-1)) hk dX2_dies_46 (by decide +kernel) ?_
          refine V_goto (pc := 47) (tgt := 66) hk dX2_dies_47 rfl ?_
          exact V_ireturn (pc := 66) hk hR rfl dX2_dies_66
      · refine V_bipush (pc := 26) (v := (-2)) hk dX2_dies_26 (by decide +kernel) ?_
        exact V_ireturn (pc := 28) hk hR rfl dX2_dies_28
theorem ctX2_dies (l : Launch) (K : Kx) (hI : Ini K) (b : Nat) (a0 : Int32) (a1 : Int32) (w : Wd) : ∀ r, mX2_dies b a0 a1 w = some r → Ct l K 8 205 yX2_dies (ws_ yX2_dies cX2_dies 3 (some (.int))) [.ref b, .int a0, .int a1] w (rvI r.1) r.2 := Ct_of rvI l K hI 8 205 [.ref b, .int a0, .int a1] w (by decide) (lc0 := [(0, .ref b), (1, .int a0), (2, .int a1)]) rfl (Nat.le_of_ble_eq_true rfl) (fun y hk hR _ _ hin => eX2_dies hk hR b a0 a1 w)
noncomputable def mX2_calmest_p60 (k20 : Wd → (Option Nat) → Int32 → Int32 → Int32 → Int32 → Option (Int32 × Wd)) (w : Wd) (l0 : Option Nat) (l1 : Int32) (l2 : Int32) (l3 : Int32) (l4 : Int32) (t0 : Int32) : Option (Int32 × Wd) :=
if l2 = (-1) then (
k20 w l0 l1 l4 t0 (l4 + 1))
else (
if t0 < l3 then (
k20 w l0 l1 l4 t0 (l4 + 1))
else (
k20 w l0 l1 l2 l3 (l4 + 1)))
noncomputable def mX2_calmest_b20 (k20 : Wd → (Option Nat) → Int32 → Int32 → Int32 → Int32 → Option (Int32 × Wd)) (w : Wd) (l0 : Option Nat) (l1 : Int32) (l2 : Int32) (l3 : Int32) (l4 : Int32) : Option (Int32 × Wd) :=
(gR w l0 2 0).bind fun v1 =>
(ia w v1 3).bind fun v2 =>
if v2 ≤ l4 then (
some (l2, w))
else (
(recv w l0 2).bind fun b4 => (cal w (mX2_halves b4 l4 l1 w)).bind fun r3 =>
(gI r3.2 l0 2 27).bind fun v5 =>
(gI r3.2 l0 2 28).bind fun v6 =>
if v5 ≤ v6 then (
(gI r3.2 l0 2 28).bind fun v7 =>
mX2_calmest_p60 k20 r3.2 l0 l1 l2 l3 l4 v7)
else (
(gI r3.2 l0 2 27).bind fun v8 =>
mX2_calmest_p60 k20 r3.2 l0 l1 l2 l3 l4 v8))
noncomputable def mX2_calmest_l20 : Nat → Wd → (Option Nat) → Int32 → Int32 → Int32 → Int32 → Option (Int32 × Wd)
  | 0, _, _, _, _, _, _ => none
  | n + 1, w, l0, l1, l2, l3, l4 => mX2_calmest_b20 (mX2_calmest_l20 n) w l0 l1 l2 l3 l4
noncomputable def mX2_calmest (this : Nat) (a0 : Int32) (w : Wd) : Option (Int32 × Wd) :=
(cal w (mX2_isIn a0 1 200 w)).bind fun r1 =>
if ¬ r1.1 = 0 then (
mX2_calmest_l20 FU r1.2 ((some this)) a0 (-1) 0 0)
else (
some ((-1), r1.2))
theorem eX2_calmest_p60 {y : Fx (Int32 × Wd)} (hk : OkF y RX2 cX2_calmest 6 8 205) (hR : RetM y rvI (some (.int))) {k20 : Wd → (Option Nat) → Int32 → Int32 → Int32 → Int32 → Option (Int32 × Wd)} (h20 : ∀ (w : Wd) (l0 : Option Nat) (l1 : Int32) (l2 : Int32) (l3 : Int32) (l4 : Int32), V y w [(0, va_rf l0), (1, .int l1), (2, .int l2), (3, .int l3), (4, .int l4)] [] 20 (k20 w l0 l1 l2 l3 l4)) (w : Wd) (l0 : Option Nat) (l1 : Int32) (l2 : Int32) (l3 : Int32) (l4 : Int32) (t0 : Int32) : V y w [(0, va_rf l0), (1, .int l1), (2, .int l2), (3, .int l3), (4, .int l4)] [.int t0] 60 (mX2_calmest_p60 k20 w l0 l1 l2 l3 l4 t0) := by
  unfold mX2_calmest_p60
  refine V_istore (pc := 60) (lc' := [(5, .int t0), (0, va_rf l0), (1, .int l1), (2, .int l2), (3, .int l3), (4, .int l4)]) (i := 5) hk dX2_calmest_60 (Nat.le_of_ble_eq_true rfl) rfl ?_
  refine V_iload_n (pc := 62) hk dX2_calmest_62 3 rfl ?_
  refine V_iconst (pc := 63) (v := (-1)) hk dX2_calmest_63 (by decide +kernel) ?_
  refine V_icmp_eq (pc := 64) (tgt := 76) hk dX2_calmest_64 rfl ?_ ?_
  · refine V_iload (pc := 76) hk dX2_calmest_76 5 rfl ?_
    refine V_istore_n (pc := 78) (lc' := [(2, .int l4), (5, .int t0), (0, va_rf l0), (1, .int l1), (3, .int l3), (4, .int l4)]) (i := 2) hk dX2_calmest_78 rfl (Nat.le_of_ble_eq_true rfl) rfl ?_
    refine V_iload (pc := 79) hk dX2_calmest_79 1 rfl ?_
    refine V_istore_n (pc := 81) (lc' := [(3, .int t0), (2, .int l4), (5, .int t0), (0, va_rf l0), (1, .int l1), (4, .int l4)]) (i := 3) hk dX2_calmest_81 rfl (Nat.le_of_ble_eq_true rfl) rfl ?_
    refine V_iinc (pc := 82) (v := 1) (lc' := [(4, .int (l4 + 1)), (3, .int t0), (2, .int l4), (5, .int t0), (0, va_rf l0), (1, .int l1)]) hk dX2_calmest_82 5 rfl rfl (Nat.le_of_ble_eq_true rfl) rfl ?_
    refine V_goto (pc := 85) (tgt := 20) hk dX2_calmest_85 rfl ?_
    refine V_pick (lc' := [(0, va_rf l0), (1, .int l1), (2, .int l4), (3, .int t0), (4, .int (l4 + 1))]) [4, 5, 2, 1, 0] rfl ?_
    exact h20 w l0 l1 l4 t0 (l4 + 1)
  · refine V_iload (pc := 67) hk dX2_calmest_67 0 rfl ?_
    refine V_iload_n (pc := 69) hk dX2_calmest_69 4 rfl ?_
    refine V_icmp_lt (pc := 70) (tgt := 76) hk dX2_calmest_70 rfl ?_ ?_
    · refine V_iload (pc := 76) hk dX2_calmest_76 5 rfl ?_
      refine V_istore_n (pc := 78) (lc' := [(2, .int l4), (5, .int t0), (0, va_rf l0), (1, .int l1), (3, .int l3), (4, .int l4)]) (i := 2) hk dX2_calmest_78 rfl (Nat.le_of_ble_eq_true rfl) rfl ?_
      refine V_iload (pc := 79) hk dX2_calmest_79 1 rfl ?_
      refine V_istore_n (pc := 81) (lc' := [(3, .int t0), (2, .int l4), (5, .int t0), (0, va_rf l0), (1, .int l1), (4, .int l4)]) (i := 3) hk dX2_calmest_81 rfl (Nat.le_of_ble_eq_true rfl) rfl ?_
      refine V_iinc (pc := 82) (v := 1) (lc' := [(4, .int (l4 + 1)), (3, .int t0), (2, .int l4), (5, .int t0), (0, va_rf l0), (1, .int l1)]) hk dX2_calmest_82 5 rfl rfl (Nat.le_of_ble_eq_true rfl) rfl ?_
      refine V_goto (pc := 85) (tgt := 20) hk dX2_calmest_85 rfl ?_
      refine V_pick (lc' := [(0, va_rf l0), (1, .int l1), (2, .int l4), (3, .int t0), (4, .int (l4 + 1))]) [4, 5, 2, 1, 0] rfl ?_
      exact h20 w l0 l1 l4 t0 (l4 + 1)
    · refine V_goto (pc := 73) (tgt := 82) hk dX2_calmest_73 rfl ?_
      refine V_iinc (pc := 82) (v := 1) (lc' := [(4, .int (l4 + 1)), (5, .int t0), (0, va_rf l0), (1, .int l1), (2, .int l2), (3, .int l3)]) hk dX2_calmest_82 5 rfl rfl (Nat.le_of_ble_eq_true rfl) rfl ?_
      refine V_goto (pc := 85) (tgt := 20) hk dX2_calmest_85 rfl ?_
      refine V_pick (lc' := [(0, va_rf l0), (1, .int l1), (2, .int l2), (3, .int l3), (4, .int (l4 + 1))]) [2, 3, 4, 5, 0] rfl ?_
      exact h20 w l0 l1 l2 l3 (l4 + 1)
theorem eX2_calmest_b20 {y : Fx (Int32 × Wd)} (hk : OkF y RX2 cX2_calmest 6 8 205) (hR : RetM y rvI (some (.int))) {k20 : Wd → (Option Nat) → Int32 → Int32 → Int32 → Int32 → Option (Int32 × Wd)} (h20 : ∀ (w : Wd) (l0 : Option Nat) (l1 : Int32) (l2 : Int32) (l3 : Int32) (l4 : Int32), V y w [(0, va_rf l0), (1, .int l1), (2, .int l2), (3, .int l3), (4, .int l4)] [] 20 (k20 w l0 l1 l2 l3 l4)) (w : Wd) (l0 : Option Nat) (l1 : Int32) (l2 : Int32) (l3 : Int32) (l4 : Int32) : V y w [(0, va_rf l0), (1, .int l1), (2, .int l2), (3, .int l3), (4, .int l4)] [] 20 (mX2_calmest_b20 k20 w l0 l1 l2 l3 l4) := by
  unfold mX2_calmest_b20
  refine V_iload (pc := 20) hk dX2_calmest_20 4 rfl ?_
  refine V_aload_n (pc := 22) hk dX2_calmest_22 0 rfl ?_
  refine g_X2_7 (pc := 23) hk dX2_calmest_23 (fun v1 => ?_)
  refine V_iconst (pc := 26) (v := 3) hk dX2_calmest_26 rfl ?_
  refine V_iaload (pc := 27) hk dX2_calmest_27 (fun v2 => ?_)
  refine V_icmp_ge (pc := 28) (tgt := 88) hk dX2_calmest_28 rfl ?_ ?_
  · refine V_iload_n (pc := 88) hk dX2_calmest_88 2 rfl ?_
    exact V_ireturn (pc := 89) hk hR rfl dX2_calmest_89
  · refine V_aload_n (pc := 31) hk dX2_calmest_31 0 rfl ?_
    refine V_iload (pc := 32) hk dX2_calmest_32 4 rfl ?_
    refine V_iload_n (pc := 34) hk dX2_calmest_34 1 rfl ?_
    refine n_X2_412 (pc := 35) hk (fun b r h => ctX2_halves (fl y) (fK y) hk.2.2.2.2.2.2.2.1 b l4 l1 w r h) ⟨Nat.le_of_ble_eq_true rfl, Nat.le_of_ble_eq_true rfl⟩ (Nat.le_of_ble_eq_true rfl) dX2_calmest_35 (fun r3 => ?_)
    refine V_aload_n (pc := 38) hk dX2_calmest_38 0 rfl ?_
    refine g_X2_403 (pc := 39) hk dX2_calmest_39 (fun v5 => ?_)
    refine V_aload_n (pc := 42) hk dX2_calmest_42 0 rfl ?_
    refine g_X2_406 (pc := 43) hk dX2_calmest_43 (fun v6 => ?_)
    refine V_icmp_le (pc := 46) (tgt := 56) hk dX2_calmest_46 rfl ?_ ?_
    · refine V_aload_n (pc := 56) hk dX2_calmest_56 0 rfl ?_
      refine g_X2_406 (pc := 57) hk dX2_calmest_57 (fun v7 => ?_)
      exact eX2_calmest_p60 hk hR h20 r3.2 l0 l1 l2 l3 l4 v7
    · refine V_aload_n (pc := 49) hk dX2_calmest_49 0 rfl ?_
      refine g_X2_403 (pc := 50) hk dX2_calmest_50 (fun v8 => ?_)
      refine V_goto (pc := 53) (tgt := 60) hk dX2_calmest_53 rfl ?_
      exact eX2_calmest_p60 hk hR h20 r3.2 l0 l1 l2 l3 l4 v8
theorem eX2_calmest_l20 {y : Fx (Int32 × Wd)} (hk : OkF y RX2 cX2_calmest 6 8 205) (hR : RetM y rvI (some (.int))) : ∀ (n : Nat) (w : Wd) (l0 : Option Nat) (l1 : Int32) (l2 : Int32) (l3 : Int32) (l4 : Int32), V y w [(0, va_rf l0), (1, .int l1), (2, .int l2), (3, .int l3), (4, .int l4)] [] 20 (mX2_calmest_l20 n w l0 l1 l2 l3 l4) := by
  intro n
  induction n with
  | zero => intro w l0 l1 l2 l3 l4; exact V_none
  | succ n ih => intro w l0 l1 l2 l3 l4; exact eX2_calmest_b20 hk hR ih w l0 l1 l2 l3 l4
theorem eX2_calmest {y : Fx (Int32 × Wd)} (hk : OkF y RX2 cX2_calmest 6 8 205) (hR : RetM y rvI (some (.int))) (this : Nat) (a0 : Int32) (w : Wd) : V y w [(0, va_rf (some this)), (1, .int a0)] [] 0 (mX2_calmest this a0 w) := by
  unfold mX2_calmest
  refine V_iload_n (pc := 0) hk dX2_calmest_0 1 rfl ?_
  refine V_iconst (pc := 1) (v := 1) hk dX2_calmest_1 rfl ?_
  refine V_sipush (pc := 2) (v := 200) hk dX2_calmest_2 rfl ?_
  refine n_X2_71 (pc := 5) hk (fun r h => ctX2_isIn (fl y) (fK y) hk.2.2.2.2.2.2.2.1 a0 1 200 w r h) ⟨Nat.le_of_ble_eq_true rfl, Nat.le_of_ble_eq_true rfl⟩ (Nat.le_of_ble_eq_true rfl) dX2_calmest_5 (fun r1 => ?_)
  refine V_if_ne (pc := 8) (tgt := 13) hk dX2_calmest_8 rfl ?_ ?_
  · refine V_iconst (pc := 13) (v := (-1)) hk dX2_calmest_13 (by decide +kernel) ?_
    refine V_istore_n (pc := 14) (lc' := [(2, .int (-1)), (0, va_rf ((some this))), (1, .int a0)]) (i := 2) hk dX2_calmest_14 rfl (Nat.le_of_ble_eq_true rfl) rfl ?_
    refine V_iconst (pc := 15) (v := 0) hk dX2_calmest_15 rfl ?_
    refine V_istore_n (pc := 16) (lc' := [(3, .int 0), (2, .int (-1)), (0, va_rf ((some this))), (1, .int a0)]) (i := 3) hk dX2_calmest_16 rfl (Nat.le_of_ble_eq_true rfl) rfl ?_
    refine V_iconst (pc := 17) (v := 0) hk dX2_calmest_17 rfl ?_
    refine V_istore (pc := 18) (lc' := [(4, .int 0), (3, .int 0), (2, .int (-1)), (0, va_rf ((some this))), (1, .int a0)]) (i := 4) hk dX2_calmest_18 (Nat.le_of_ble_eq_true rfl) rfl ?_
    refine V_pick (lc' := [(0, va_rf ((some this))), (1, .int a0), (2, .int (-1)), (3, .int 0), (4, .int 0)]) [3, 4, 2, 1, 0] rfl ?_
    exact eX2_calmest_l20 hk hR FU r1.2 ((some this)) a0 (-1) 0 0
  · refine V_iconst (pc := 11) (v := (-1)) hk dX2_calmest_11 (by decide +kernel) ?_
    exact V_ireturn (pc := 12) hk hR rfl dX2_calmest_12
theorem ctX2_calmest (l : Launch) (K : Kx) (hI : Ini K) (b : Nat) (a0 : Int32) (w : Wd) : ∀ r, mX2_calmest b a0 w = some r → Ct l K 8 205 yX2_calmest (ws_ yX2_calmest cX2_calmest 6 (some (.int))) [.ref b, .int a0] w (rvI r.1) r.2 := Ct_of rvI l K hI 8 205 [.ref b, .int a0] w (by decide) (lc0 := [(0, .ref b), (1, .int a0)]) rfl (Nat.le_of_ble_eq_true rfl) (fun y hk hR _ _ hin => eX2_calmest hk hR b a0 w)
noncomputable def mX2_isHandOf_b61 (k48 : Wd → (Option Nat) → Int32 → Int32 → Option (Int32 × Wd)) (k61 : Wd → (Option Nat) → Int32 → Int32 → Int32 → Option (Int32 × Wd)) (w : Wd) (l0 : Option Nat) (l1 : Int32) (l2 : Int32) (l3 : Int32) : Option (Int32 × Wd) :=
if 5 ≤ l3 then (
(pf w l0 2 21 (.int l2)).bind fun w1 =>
(recv w1 l0 2).bind fun b3 => (cal w1 (mX2_commandBy b3 l1 w1)).bind fun r2 =>
(recv r2.2 l0 2).bind fun b5 => (cal r2.2 (mX2_pastOf b5 l2 5 r2.2)).bind fun r4 =>
if r2.1 = r4.1 then (
k48 r4.2 l0 l1 (l2 + 1))
else (
(nok (.boolean) 0).bind fun _ => some (0, r4.2)))
else (
(gR w l0 2 20).bind fun v6 =>
(recv w l0 2).bind fun b8 => (cal w (mX2_pastOf b8 l2 l3 w)).bind fun r7 =>
(ias r7.2 v6 l3 r7.1).bind fun w9 =>
k61 w9 l0 l1 l2 (l3 + 1))
noncomputable def mX2_isHandOf_l61 (k48 : Wd → (Option Nat) → Int32 → Int32 → Option (Int32 × Wd)) : Nat → Wd → (Option Nat) → Int32 → Int32 → Int32 → Option (Int32 × Wd)
  | 0, _, _, _, _, _ => none
  | n + 1, w, l0, l1, l2, l3 => mX2_isHandOf_b61 k48 (mX2_isHandOf_l61 k48 n) w l0 l1 l2 l3
noncomputable def mX2_isHandOf_b48 (k48 : Wd → (Option Nat) → Int32 → Int32 → Option (Int32 × Wd)) (w : Wd) (l0 : Option Nat) (l1 : Int32) (l2 : Int32) : Option (Int32 × Wd) :=
(gR w l0 2 0).bind fun v1 =>
(ia w v1 16).bind fun v2 =>
if v2 ≤ l2 then (
(nok (.boolean) 1).bind fun _ => some (1, w))
else (
mX2_isHandOf_l61 k48 FU w l0 l1 l2 0)
noncomputable def mX2_isHandOf_l48 : Nat → Wd → (Option Nat) → Int32 → Int32 → Option (Int32 × Wd)
  | 0, _, _, _, _ => none
  | n + 1, w, l0, l1, l2 => mX2_isHandOf_b48 (mX2_isHandOf_l48 n) w l0 l1 l2
noncomputable def mX2_isHandOf (this : Nat) (a0 : Int32) (w : Wd) : Option (Int32 × Wd) :=
(gR w ((some this)) 2 0).bind fun v1 =>
(ia w v1 16).bind fun v2 =>
(recv w ((some this)) 2).bind fun b4 => (cal w (mX2_held b4 w)).bind fun r3 =>
(pf r3.2 ((some this)) 2 22 (.int (v2 - r3.1))).bind fun w5 =>
(gR w5 ((some this)) 2 20).bind fun v6 =>
(gR w5 ((some this)) 2 0).bind fun v7 =>
(ia w5 v7 12).bind fun v8 =>
(ias w5 v6 5 v8).bind fun w9 =>
(gR w9 ((some this)) 2 20).bind fun v10 =>
(gR w9 ((some this)) 2 0).bind fun v11 =>
(ia w9 v11 13).bind fun v12 =>
(ias w9 v10 6 v12).bind fun w13 =>
(gI w13 ((some this)) 2 22).bind fun v14 =>
mX2_isHandOf_l48 FU w13 ((some this)) a0 v14
theorem eX2_isHandOf_b61 {y : Fx (Int32 × Wd)} (hk : OkF y RX2 cX2_isHandOf 4 6 157) (hR : RetM y rvI (some (.boolean))) {k48 : Wd → (Option Nat) → Int32 → Int32 → Option (Int32 × Wd)} (h48 : ∀ (w : Wd) (l0 : Option Nat) (l1 : Int32) (l2 : Int32), V y w [(0, va_rf l0), (1, .int l1), (2, .int l2)] [] 48 (k48 w l0 l1 l2)) {k61 : Wd → (Option Nat) → Int32 → Int32 → Int32 → Option (Int32 × Wd)} (h61 : ∀ (w : Wd) (l0 : Option Nat) (l1 : Int32) (l2 : Int32) (l3 : Int32), V y w [(0, va_rf l0), (1, .int l1), (2, .int l2), (3, .int l3)] [] 61 (k61 w l0 l1 l2 l3)) (w : Wd) (l0 : Option Nat) (l1 : Int32) (l2 : Int32) (l3 : Int32) : V y w [(0, va_rf l0), (1, .int l1), (2, .int l2), (3, .int l3)] [] 61 (mX2_isHandOf_b61 k48 k61 w l0 l1 l2 l3) := by
  unfold mX2_isHandOf_b61
  refine V_iload_n (pc := 61) hk dX2_isHandOf_61 3 rfl ?_
  refine V_iconst (pc := 62) (v := 5) hk dX2_isHandOf_62 rfl ?_
  refine V_icmp_ge (pc := 63) (tgt := 84) hk dX2_isHandOf_63 rfl ?_ ?_
  · refine V_aload_n (pc := 84) hk dX2_isHandOf_84 0 rfl ?_
    refine V_iload_n (pc := 85) hk dX2_isHandOf_85 2 rfl ?_
    refine p_X2_263 (pc := 86) hk dX2_isHandOf_86 (fun w1 => ?_)
    refine V_aload_n (pc := 89) hk dX2_isHandOf_89 0 rfl ?_
    refine V_iload_n (pc := 90) hk dX2_isHandOf_90 1 rfl ?_
    refine n_X2_326 (pc := 91) hk (fun b r h => ctX2_commandBy (fl y) (fK y) hk.2.2.2.2.2.2.2.1 b l1 w1 r h) ⟨Nat.le_of_ble_eq_true rfl, Nat.le_of_ble_eq_true rfl⟩ (Nat.le_of_ble_eq_true rfl) dX2_isHandOf_91 (fun r2 => ?_)
    refine V_aload_n (pc := 94) hk dX2_isHandOf_94 0 rfl ?_
    refine V_iload_n (pc := 95) hk dX2_isHandOf_95 2 rfl ?_
    refine V_iconst (pc := 96) (v := 5) hk dX2_isHandOf_96 rfl ?_
    refine n_X2_269 (pc := 97) hk (fun b r h => ctX2_pastOf (fl y) (fK y) hk.2.2.2.2.2.2.2.1 b l2 5 r2.2 r h) ⟨Nat.le_of_ble_eq_true rfl, Nat.le_of_ble_eq_true rfl⟩ (Nat.le_of_ble_eq_true rfl) dX2_isHandOf_97 (fun r4 => ?_)
    refine V_icmp_eq (pc := 100) (tgt := 105) hk dX2_isHandOf_100 rfl ?_ ?_
    · refine V_iinc (pc := 105) (v := 1) (lc' := [(2, .int (l2 + 1)), (0, va_rf l0), (1, .int l1), (3, .int l3)]) hk dX2_isHandOf_105 2 rfl rfl (Nat.le_of_ble_eq_true rfl) rfl ?_
      refine V_goto (pc := 108) (tgt := 48) hk dX2_isHandOf_108 rfl ?_
      refine V_pick (lc' := [(0, va_rf l0), (1, .int l1), (2, .int (l2 + 1))]) [1, 2, 0] rfl ?_
      exact h48 r4.2 l0 l1 (l2 + 1)
    · refine V_iconst (pc := 103) (v := 0) hk dX2_isHandOf_103 rfl ?_
      exact V_zreturn (pc := 104) hk hR rfl dX2_isHandOf_104
  · refine V_aload_n (pc := 66) hk dX2_isHandOf_66 0 rfl ?_
    refine g_X2_32 (pc := 67) hk dX2_isHandOf_67 (fun v6 => ?_)
    refine V_iload_n (pc := 70) hk dX2_isHandOf_70 3 rfl ?_
    refine V_aload_n (pc := 71) hk dX2_isHandOf_71 0 rfl ?_
    refine V_iload_n (pc := 72) hk dX2_isHandOf_72 2 rfl ?_
    refine V_iload_n (pc := 73) hk dX2_isHandOf_73 3 rfl ?_
    refine n_X2_269 (pc := 74) hk (fun b r h => ctX2_pastOf (fl y) (fK y) hk.2.2.2.2.2.2.2.1 b l2 l3 w r h) ⟨Nat.le_of_ble_eq_true rfl, Nat.le_of_ble_eq_true rfl⟩ (by simp [rf_cat, cat_int, cat_long, cat_ref]) dX2_isHandOf_74 (fun r7 => ?_)
    refine V_iastore (pc := 77) hk dX2_isHandOf_77 (fun w9 => ?_)
    refine V_iinc (pc := 78) (v := 1) (lc' := [(3, .int (l3 + 1)), (0, va_rf l0), (1, .int l1), (2, .int l2)]) hk dX2_isHandOf_78 3 rfl rfl (Nat.le_of_ble_eq_true rfl) rfl ?_
    refine V_goto (pc := 81) (tgt := 61) hk dX2_isHandOf_81 rfl ?_
    refine V_pick (lc' := [(0, va_rf l0), (1, .int l1), (2, .int l2), (3, .int (l3 + 1))]) [1, 2, 3, 0] rfl ?_
    exact h61 w9 l0 l1 l2 (l3 + 1)
theorem eX2_isHandOf_l61 {y : Fx (Int32 × Wd)} (hk : OkF y RX2 cX2_isHandOf 4 6 157) (hR : RetM y rvI (some (.boolean))) {k48 : Wd → (Option Nat) → Int32 → Int32 → Option (Int32 × Wd)} (h48 : ∀ (w : Wd) (l0 : Option Nat) (l1 : Int32) (l2 : Int32), V y w [(0, va_rf l0), (1, .int l1), (2, .int l2)] [] 48 (k48 w l0 l1 l2)) : ∀ (n : Nat) (w : Wd) (l0 : Option Nat) (l1 : Int32) (l2 : Int32) (l3 : Int32), V y w [(0, va_rf l0), (1, .int l1), (2, .int l2), (3, .int l3)] [] 61 (mX2_isHandOf_l61 k48 n w l0 l1 l2 l3) := by
  intro n
  induction n with
  | zero => intro w l0 l1 l2 l3; exact V_none
  | succ n ih => intro w l0 l1 l2 l3; exact eX2_isHandOf_b61 hk hR h48 ih w l0 l1 l2 l3
theorem eX2_isHandOf_b48 {y : Fx (Int32 × Wd)} (hk : OkF y RX2 cX2_isHandOf 4 6 157) (hR : RetM y rvI (some (.boolean))) {k48 : Wd → (Option Nat) → Int32 → Int32 → Option (Int32 × Wd)} (h48 : ∀ (w : Wd) (l0 : Option Nat) (l1 : Int32) (l2 : Int32), V y w [(0, va_rf l0), (1, .int l1), (2, .int l2)] [] 48 (k48 w l0 l1 l2)) (w : Wd) (l0 : Option Nat) (l1 : Int32) (l2 : Int32) : V y w [(0, va_rf l0), (1, .int l1), (2, .int l2)] [] 48 (mX2_isHandOf_b48 k48 w l0 l1 l2) := by
  unfold mX2_isHandOf_b48
  refine V_iload_n (pc := 48) hk dX2_isHandOf_48 2 rfl ?_
  refine V_aload_n (pc := 49) hk dX2_isHandOf_49 0 rfl ?_
  refine g_X2_7 (pc := 50) hk dX2_isHandOf_50 (fun v1 => ?_)
  refine V_bipush (pc := 53) (v := 16) hk dX2_isHandOf_53 rfl ?_
  refine V_iaload (pc := 55) hk dX2_isHandOf_55 (fun v2 => ?_)
  refine V_icmp_ge (pc := 56) (tgt := 111) hk dX2_isHandOf_56 rfl ?_ ?_
  · refine V_iconst (pc := 111) (v := 1) hk dX2_isHandOf_111 rfl ?_
    exact V_zreturn (pc := 112) hk hR rfl dX2_isHandOf_112
  · refine V_iconst (pc := 59) (v := 0) hk dX2_isHandOf_59 rfl ?_
    refine V_istore_n (pc := 60) (lc' := [(3, .int 0), (0, va_rf l0), (1, .int l1), (2, .int l2)]) (i := 3) hk dX2_isHandOf_60 rfl (Nat.le_of_ble_eq_true rfl) rfl ?_
    refine V_pick (lc' := [(0, va_rf l0), (1, .int l1), (2, .int l2), (3, .int 0)]) [1, 2, 3, 0] rfl ?_
    exact eX2_isHandOf_l61 hk hR h48 FU w l0 l1 l2 0
theorem eX2_isHandOf_l48 {y : Fx (Int32 × Wd)} (hk : OkF y RX2 cX2_isHandOf 4 6 157) (hR : RetM y rvI (some (.boolean))) : ∀ (n : Nat) (w : Wd) (l0 : Option Nat) (l1 : Int32) (l2 : Int32), V y w [(0, va_rf l0), (1, .int l1), (2, .int l2)] [] 48 (mX2_isHandOf_l48 n w l0 l1 l2) := by
  intro n
  induction n with
  | zero => intro w l0 l1 l2; exact V_none
  | succ n ih => intro w l0 l1 l2; exact eX2_isHandOf_b48 hk hR ih w l0 l1 l2
theorem eX2_isHandOf {y : Fx (Int32 × Wd)} (hk : OkF y RX2 cX2_isHandOf 4 6 157) (hR : RetM y rvI (some (.boolean))) (this : Nat) (a0 : Int32) (w : Wd) : V y w [(0, va_rf (some this)), (1, .int a0)] [] 0 (mX2_isHandOf this a0 w) := by
  unfold mX2_isHandOf
  refine V_aload_n (pc := 0) hk dX2_isHandOf_0 0 rfl ?_
  refine V_aload_n (pc := 1) hk dX2_isHandOf_1 0 rfl ?_
  refine g_X2_7 (pc := 2) hk dX2_isHandOf_2 (fun v1 => ?_)
  refine V_bipush (pc := 5) (v := 16) hk dX2_isHandOf_5 rfl ?_
  refine V_iaload (pc := 7) hk dX2_isHandOf_7 (fun v2 => ?_)
  refine V_aload_n (pc := 8) hk dX2_isHandOf_8 0 rfl ?_
  refine n_X2_376 (pc := 9) hk (fun b r h => ctX2_held (fl y) (fK y) hk.2.2.2.2.2.2.2.1 b w r h) ⟨Nat.le_of_ble_eq_true rfl, Nat.le_of_ble_eq_true rfl⟩ (by simp [rf_cat, cat_int, cat_long, cat_ref]) dX2_isHandOf_9 (fun r3 => ?_)
  refine V_isub (pc := 12) hk dX2_isHandOf_12 ?_
  refine p_X2_266 (pc := 13) hk dX2_isHandOf_13 (fun w5 => ?_)
  refine V_aload_n (pc := 16) hk dX2_isHandOf_16 0 rfl ?_
  refine g_X2_32 (pc := 17) hk dX2_isHandOf_17 (fun v6 => ?_)
  refine V_iconst (pc := 20) (v := 5) hk dX2_isHandOf_20 rfl ?_
  refine V_aload_n (pc := 21) hk dX2_isHandOf_21 0 rfl ?_
  refine g_X2_7 (pc := 22) hk dX2_isHandOf_22 (fun v7 => ?_)
  refine V_bipush (pc := 25) (v := 12) hk dX2_isHandOf_25 rfl ?_
  refine V_iaload (pc := 27) hk dX2_isHandOf_27 (fun v8 => ?_)
  refine V_iastore (pc := 28) hk dX2_isHandOf_28 (fun w9 => ?_)
  refine V_aload_n (pc := 29) hk dX2_isHandOf_29 0 rfl ?_
  refine g_X2_32 (pc := 30) hk dX2_isHandOf_30 (fun v10 => ?_)
  refine V_bipush (pc := 33) (v := 6) hk dX2_isHandOf_33 rfl ?_
  refine V_aload_n (pc := 35) hk dX2_isHandOf_35 0 rfl ?_
  refine g_X2_7 (pc := 36) hk dX2_isHandOf_36 (fun v11 => ?_)
  refine V_bipush (pc := 39) (v := 13) hk dX2_isHandOf_39 rfl ?_
  refine V_iaload (pc := 41) hk dX2_isHandOf_41 (fun v12 => ?_)
  refine V_iastore (pc := 42) hk dX2_isHandOf_42 (fun w13 => ?_)
  refine V_aload_n (pc := 43) hk dX2_isHandOf_43 0 rfl ?_
  refine g_X2_266 (pc := 44) hk dX2_isHandOf_44 (fun v14 => ?_)
  refine V_istore_n (pc := 47) (lc' := [(2, .int v14), (0, va_rf ((some this))), (1, .int a0)]) (i := 2) hk dX2_isHandOf_47 rfl (Nat.le_of_ble_eq_true rfl) rfl ?_
  refine V_pick (lc' := [(0, va_rf ((some this))), (1, .int a0), (2, .int v14)]) [1, 2, 0] rfl ?_
  exact eX2_isHandOf_l48 hk hR FU w13 ((some this)) a0 v14
theorem ctX2_isHandOf (l : Launch) (K : Kx) (hI : Ini K) (b : Nat) (a0 : Int32) (w : Wd) : ∀ r, mX2_isHandOf b a0 w = some r → Ct l K 6 157 yX2_isHandOf (ws_ yX2_isHandOf cX2_isHandOf 4 (some (.boolean))) [.ref b, .int a0] w (rvI r.1) r.2 := Ct_of rvI l K hI 6 157 [.ref b, .int a0] w (by decide) (lc0 := [(0, .ref b), (1, .int a0)]) rfl (Nat.le_of_ble_eq_true rfl) (fun y hk hR _ _ hin => eX2_isHandOf hk hR b a0 w)
noncomputable def mX2_whoseHand_b4 (k4 : Wd → (Option Nat) → Int32 → Int32 → Option (Int32 × Wd)) (w : Wd) (l0 : Option Nat) (l1 : Int32) (l2 : Int32) : Option (Int32 × Wd) :=
(gR w l0 2 0).bind fun v1 =>
(ia w v1 3).bind fun v2 =>
if v2 ≤ l2 then (
some (l1, w))
else (
(recv w l0 2).bind fun b4 => (cal w (mX2_isHandOf b4 l2 w)).bind fun r3 =>
if r3.1 = 0 then (
k4 r3.2 l0 (l1 ||| 0) (l2 + 1))
else (
(some (l1 ||| (1 <<< (l2 &&& 31)))).bind fun (x5 : Int32) =>
k4 r3.2 l0 x5 (l2 + 1)))
noncomputable def mX2_whoseHand_l4 : Nat → Wd → (Option Nat) → Int32 → Int32 → Option (Int32 × Wd)
  | 0, _, _, _, _ => none
  | n + 1, w, l0, l1, l2 => mX2_whoseHand_b4 (mX2_whoseHand_l4 n) w l0 l1 l2
noncomputable def mX2_whoseHand (this : Nat) (w : Wd) : Option (Int32 × Wd) :=
mX2_whoseHand_l4 FU w ((some this)) 0 0
theorem eX2_whoseHand_b4 {y : Fx (Int32 × Wd)} (hk : OkF y RX2 cX2_whoseHand 3 7 180) (hR : RetM y rvI (some (.int))) {k4 : Wd → (Option Nat) → Int32 → Int32 → Option (Int32 × Wd)} (h4 : ∀ (w : Wd) (l0 : Option Nat) (l1 : Int32) (l2 : Int32), V y w [(0, va_rf l0), (1, .int l1), (2, .int l2)] [] 4 (k4 w l0 l1 l2)) (w : Wd) (l0 : Option Nat) (l1 : Int32) (l2 : Int32) : V y w [(0, va_rf l0), (1, .int l1), (2, .int l2)] [] 4 (mX2_whoseHand_b4 k4 w l0 l1 l2) := by
  unfold mX2_whoseHand_b4
  refine V_iload_n (pc := 4) hk dX2_whoseHand_4 2 rfl ?_
  refine V_aload_n (pc := 5) hk dX2_whoseHand_5 0 rfl ?_
  refine g_X2_7 (pc := 6) hk dX2_whoseHand_6 (fun v1 => ?_)
  refine V_iconst (pc := 9) (v := 3) hk dX2_whoseHand_9 rfl ?_
  refine V_iaload (pc := 10) hk dX2_whoseHand_10 (fun v2 => ?_)
  refine V_icmp_ge (pc := 11) (tgt := 38) hk dX2_whoseHand_11 rfl ?_ ?_
  · refine V_iload_n (pc := 38) hk dX2_whoseHand_38 1 rfl ?_
    exact V_ireturn (pc := 39) hk hR rfl dX2_whoseHand_39
  · refine V_iload_n (pc := 14) hk dX2_whoseHand_14 1 rfl ?_
    refine V_aload_n (pc := 15) hk dX2_whoseHand_15 0 rfl ?_
    refine V_iload_n (pc := 16) hk dX2_whoseHand_16 2 rfl ?_
    refine n_X2_415 (pc := 17) hk (fun b r h => ctX2_isHandOf (fl y) (fK y) hk.2.2.2.2.2.2.2.1 b l2 w r h) ⟨Nat.le_of_ble_eq_true rfl, Nat.le_of_ble_eq_true rfl⟩ (Nat.le_of_ble_eq_true rfl) dX2_whoseHand_17 (fun r3 => ?_)
    refine V_if_eq (pc := 20) (tgt := 29) hk dX2_whoseHand_20 rfl ?_ ?_
    · refine V_iconst (pc := 29) (v := 0) hk dX2_whoseHand_29 rfl ?_
      refine V_ior (pc := 30) hk dX2_whoseHand_30 ?_
      refine V_istore_n (pc := 31) (lc' := [(1, .int (l1 ||| 0)), (0, va_rf l0), (2, .int l2)]) (i := 1) hk dX2_whoseHand_31 rfl (Nat.le_of_ble_eq_true rfl) (by simp [rf_cat, cat_int, cat_long, cat_ref]) ?_
      refine V_iinc (pc := 32) (v := 1) (lc' := [(2, .int (l2 + 1)), (1, .int (l1 ||| 0)), (0, va_rf l0)]) hk dX2_whoseHand_32 2 rfl rfl (Nat.le_of_ble_eq_true rfl) rfl ?_
      refine V_goto (pc := 35) (tgt := 4) hk dX2_whoseHand_35 rfl ?_
      refine V_pick (lc' := [(0, va_rf l0), (1, .int (l1 ||| 0)), (2, .int (l2 + 1))]) [2, 1, 0] rfl ?_
      exact h4 r3.2 l0 (l1 ||| 0) (l2 + 1)
    · refine V_iconst (pc := 23) (v := 1) hk dX2_whoseHand_23 rfl ?_
      refine V_iload_n (pc := 24) hk dX2_whoseHand_24 2 rfl ?_
      refine V_ishl (pc := 25) hk dX2_whoseHand_25 ?_
      refine V_goto (pc := 26) (tgt := 30) hk dX2_whoseHand_26 rfl ?_
      refine V_ior (pc := 30) hk dX2_whoseHand_30 ?_
      refine V_nmI (fun x5 => ?_)
      refine V_istore_n (pc := 31) (lc' := [(1, .int x5), (0, va_rf l0), (2, .int l2)]) (i := 1) hk dX2_whoseHand_31 rfl (Nat.le_of_ble_eq_true rfl) (by simp [rf_cat, cat_int, cat_long, cat_ref]) ?_
      refine V_iinc (pc := 32) (v := 1) (lc' := [(2, .int (l2 + 1)), (1, .int x5), (0, va_rf l0)]) hk dX2_whoseHand_32 2 rfl rfl (Nat.le_of_ble_eq_true rfl) rfl ?_
      refine V_goto (pc := 35) (tgt := 4) hk dX2_whoseHand_35 rfl ?_
      refine V_pick (lc' := [(0, va_rf l0), (1, .int x5), (2, .int (l2 + 1))]) [2, 1, 0] rfl ?_
      exact h4 r3.2 l0 x5 (l2 + 1)
theorem eX2_whoseHand_l4 {y : Fx (Int32 × Wd)} (hk : OkF y RX2 cX2_whoseHand 3 7 180) (hR : RetM y rvI (some (.int))) : ∀ (n : Nat) (w : Wd) (l0 : Option Nat) (l1 : Int32) (l2 : Int32), V y w [(0, va_rf l0), (1, .int l1), (2, .int l2)] [] 4 (mX2_whoseHand_l4 n w l0 l1 l2) := by
  intro n
  induction n with
  | zero => intro w l0 l1 l2; exact V_none
  | succ n ih => intro w l0 l1 l2; exact eX2_whoseHand_b4 hk hR ih w l0 l1 l2
theorem eX2_whoseHand {y : Fx (Int32 × Wd)} (hk : OkF y RX2 cX2_whoseHand 3 7 180) (hR : RetM y rvI (some (.int))) (this : Nat) (w : Wd) : V y w [(0, va_rf (some this))] [] 0 (mX2_whoseHand this w) := by
  unfold mX2_whoseHand
  refine V_iconst (pc := 0) (v := 0) hk dX2_whoseHand_0 rfl ?_
  refine V_istore_n (pc := 1) (lc' := [(1, .int 0), (0, va_rf ((some this)))]) (i := 1) hk dX2_whoseHand_1 rfl (Nat.le_of_ble_eq_true rfl) (by simp [rf_cat, cat_int, cat_long, cat_ref]) ?_
  refine V_iconst (pc := 2) (v := 0) hk dX2_whoseHand_2 rfl ?_
  refine V_istore_n (pc := 3) (lc' := [(2, .int 0), (1, .int 0), (0, va_rf ((some this)))]) (i := 2) hk dX2_whoseHand_3 rfl (Nat.le_of_ble_eq_true rfl) rfl ?_
  refine V_pick (lc' := [(0, va_rf ((some this))), (1, .int 0), (2, .int 0)]) [2, 1, 0] rfl ?_
  exact eX2_whoseHand_l4 hk hR FU w ((some this)) 0 0
theorem ctX2_whoseHand (l : Launch) (K : Kx) (hI : Ini K) (b : Nat) (w : Wd) : ∀ r, mX2_whoseHand b w = some r → Ct l K 7 180 yX2_whoseHand (ws_ yX2_whoseHand cX2_whoseHand 3 (some (.int))) [.ref b] w (rvI r.1) r.2 := Ct_of rvI l K hI 7 180 [.ref b] w (by decide) (lc0 := [(0, .ref b)]) rfl (Nat.le_of_ble_eq_true rfl) (fun y hk hR _ _ hin => eX2_whoseHand hk hR b w)
noncomputable def mX2_keepPast_b2 (k2 : Wd → (Option Nat) → Int32 → Option (Unit × Wd)) (w : Wd) (l0 : Option Nat) (l1 : Int32) : Option (Unit × Wd) :=
if 1200 ≤ l1 then (
some ((), w))
else (
(gR w l0 2 29).bind fun v1 =>
(gR w l0 2 0).bind fun v2 =>
(ia w v2 (602 + l1)).bind fun v3 =>
(ias w v1 l1 v3).bind fun w4 =>
k2 w4 l0 (l1 + 1))
noncomputable def mX2_keepPast_l2 : Nat → Wd → (Option Nat) → Int32 → Option (Unit × Wd)
  | 0, _, _, _ => none
  | n + 1, w, l0, l1 => mX2_keepPast_b2 (mX2_keepPast_l2 n) w l0 l1
noncomputable def mX2_keepPast (this : Nat) (w : Wd) : Option (Unit × Wd) :=
mX2_keepPast_l2 FU w ((some this)) 0
theorem eX2_keepPast_b2 {y : Fx (Unit × Wd)} (hk : OkF y RX2 cX2_keepPast 2 2 60) (hR : RetM y rvV none) {k2 : Wd → (Option Nat) → Int32 → Option (Unit × Wd)} (h2 : ∀ (w : Wd) (l0 : Option Nat) (l1 : Int32), V y w [(0, va_rf l0), (1, .int l1)] [] 2 (k2 w l0 l1)) (w : Wd) (l0 : Option Nat) (l1 : Int32) : V y w [(0, va_rf l0), (1, .int l1)] [] 2 (mX2_keepPast_b2 k2 w l0 l1) := by
  unfold mX2_keepPast_b2
  refine V_iload_n (pc := 2) hk dX2_keepPast_2 1 rfl ?_
  refine V_sipush (pc := 3) (v := 1200) hk dX2_keepPast_3 rfl ?_
  refine V_icmp_ge (pc := 6) (tgt := 31) hk dX2_keepPast_6 rfl ?_ ?_
  · exact V_return (pc := 31) hk hR rfl dX2_keepPast_31
  · refine V_aload_n (pc := 9) hk dX2_keepPast_9 0 rfl ?_
    refine g_X2_46 (pc := 10) hk dX2_keepPast_10 (fun v1 => ?_)
    refine V_iload_n (pc := 13) hk dX2_keepPast_13 1 rfl ?_
    refine V_aload_n (pc := 14) hk dX2_keepPast_14 0 rfl ?_
    refine g_X2_7 (pc := 15) hk dX2_keepPast_15 (fun v2 => ?_)
    refine V_sipush (pc := 18) (v := 602) hk dX2_keepPast_18 rfl ?_
    refine V_iload_n (pc := 21) hk dX2_keepPast_21 1 rfl ?_
    refine V_iadd (pc := 22) hk dX2_keepPast_22 ?_
    refine V_iaload (pc := 23) hk dX2_keepPast_23 (fun v3 => ?_)
    refine V_iastore (pc := 24) hk dX2_keepPast_24 (fun w4 => ?_)
    refine V_iinc (pc := 25) (v := 1) (lc' := [(1, .int (l1 + 1)), (0, va_rf l0)]) hk dX2_keepPast_25 1 rfl rfl (Nat.le_of_ble_eq_true rfl) (by simp [rf_cat, cat_int, cat_long, cat_ref]) ?_
    refine V_goto (pc := 28) (tgt := 2) hk dX2_keepPast_28 rfl ?_
    refine V_pick (lc' := [(0, va_rf l0), (1, .int (l1 + 1))]) [1, 0] rfl ?_
    exact h2 w4 l0 (l1 + 1)
theorem eX2_keepPast_l2 {y : Fx (Unit × Wd)} (hk : OkF y RX2 cX2_keepPast 2 2 60) (hR : RetM y rvV none) : ∀ (n : Nat) (w : Wd) (l0 : Option Nat) (l1 : Int32), V y w [(0, va_rf l0), (1, .int l1)] [] 2 (mX2_keepPast_l2 n w l0 l1) := by
  intro n
  induction n with
  | zero => intro w l0 l1; exact V_none
  | succ n ih => intro w l0 l1; exact eX2_keepPast_b2 hk hR ih w l0 l1
theorem eX2_keepPast {y : Fx (Unit × Wd)} (hk : OkF y RX2 cX2_keepPast 2 2 60) (hR : RetM y rvV none) (this : Nat) (w : Wd) : V y w [(0, va_rf (some this))] [] 0 (mX2_keepPast this w) := by
  unfold mX2_keepPast
  refine V_iconst (pc := 0) (v := 0) hk dX2_keepPast_0 rfl ?_
  refine V_istore_n (pc := 1) (lc' := [(1, .int 0), (0, va_rf ((some this)))]) (i := 1) hk dX2_keepPast_1 rfl (Nat.le_of_ble_eq_true rfl) (by simp [rf_cat, cat_int, cat_long, cat_ref]) ?_
  refine V_pick (lc' := [(0, va_rf ((some this))), (1, .int 0)]) [1, 0] rfl ?_
  exact eX2_keepPast_l2 hk hR FU w ((some this)) 0
theorem ctX2_keepPast (l : Launch) (K : Kx) (hI : Ini K) (b : Nat) (w : Wd) : ∀ r, mX2_keepPast b w = some r → Ct l K 2 60 yX2_keepPast (ws_ yX2_keepPast cX2_keepPast 2 none) [.ref b] w (rvV r.1) r.2 := Ct_of rvV l K hI 2 60 [.ref b] w (by decide) (lc0 := [(0, .ref b)]) rfl (Nat.le_of_ble_eq_true rfl) (fun y hk hR _ _ hin => eX2_keepPast hk hR b w)
noncomputable def mX2_stillBy_p24 (k2 : Wd → (Option Nat) → Int32 → Int32 → Int32 → Option (Int32 × Wd)) (w : Wd) (l0 : Option Nat) (l1 : Int32) (l2 : Int32) (l3 : Int32) (t0 : Int32) (t1 : Option Nat) : Option (Int32 × Wd) :=
(recv w t1 2).bind fun b2 => (cal w (mX2_pass b2 t0 w)).bind fun r1 =>
if l3 ≤ l2 then (
k2 r1.2 l0 l1 l2 (l3 + 1))
else (
(recv r1.2 l0 2).bind fun b4 => (cal r1.2 (mX2_hangsStill b4 r1.2)).bind fun r3 =>
if r3.1 = 0 then (
k2 r3.2 l0 l1 l2 (l3 + 1))
else (
some (l3, r3.2)))
noncomputable def mX2_stillBy_b2 (k2 : Wd → (Option Nat) → Int32 → Int32 → Int32 → Option (Int32 × Wd)) (w : Wd) (l0 : Option Nat) (l1 : Int32) (l2 : Int32) (l3 : Int32) : Option (Int32 × Wd) :=
if 200 < l3 then (
some (200, w))
else (
if l2 < l3 then (
(recv w l0 2).bind fun b2 => (cal w (mX2_commandNow b2 l1 w)).bind fun r1 =>
mX2_stillBy_p24 k2 r1.2 l0 l1 l2 l3 r1.1 l0)
else (
mX2_stillBy_p24 k2 w l0 l1 l2 l3 0 l0))
noncomputable def mX2_stillBy_l2 : Nat → Wd → (Option Nat) → Int32 → Int32 → Int32 → Option (Int32 × Wd)
  | 0, _, _, _, _, _ => none
  | n + 1, w, l0, l1, l2, l3 => mX2_stillBy_b2 (mX2_stillBy_l2 n) w l0 l1 l2 l3
noncomputable def mX2_stillBy (this : Nat) (a0 : Int32) (a1 : Int32) (w : Wd) : Option (Int32 × Wd) :=
mX2_stillBy_l2 FU w ((some this)) a0 a1 1
theorem eX2_stillBy_p24 {y : Fx (Int32 × Wd)} (hk : OkF y RX2 cX2_stillBy 4 7 181) (hR : RetM y rvI (some (.int))) {k2 : Wd → (Option Nat) → Int32 → Int32 → Int32 → Option (Int32 × Wd)} (h2 : ∀ (w : Wd) (l0 : Option Nat) (l1 : Int32) (l2 : Int32) (l3 : Int32), V y w [(0, va_rf l0), (1, .int l1), (2, .int l2), (3, .int l3)] [] 2 (k2 w l0 l1 l2 l3)) (w : Wd) (l0 : Option Nat) (l1 : Int32) (l2 : Int32) (l3 : Int32) (t0 : Int32) (t1 : Option Nat) : V y w [(0, va_rf l0), (1, .int l1), (2, .int l2), (3, .int l3)] [.int t0, va_rf t1] 24 (mX2_stillBy_p24 k2 w l0 l1 l2 l3 t0 t1) := by
  unfold mX2_stillBy_p24
  refine n_X2_332 (pc := 24) hk (fun b r h => ctX2_pass (fl y) (fK y) hk.2.2.2.2.2.2.2.1 b t0 w r h) ⟨Nat.le_of_ble_eq_true rfl, Nat.le_of_ble_eq_true rfl⟩ (Nat.le_of_ble_eq_true rfl) dX2_stillBy_24 (fun r1 => ?_)
  refine V_iload_n (pc := 27) hk dX2_stillBy_27 3 rfl ?_
  refine V_iload_n (pc := 28) hk dX2_stillBy_28 2 rfl ?_
  refine V_icmp_le (pc := 29) (tgt := 41) hk dX2_stillBy_29 rfl ?_ ?_
  · refine V_iinc (pc := 41) (v := 1) (lc' := [(3, .int (l3 + 1)), (0, va_rf l0), (1, .int l1), (2, .int l2)]) hk dX2_stillBy_41 3 rfl rfl (Nat.le_of_ble_eq_true rfl) rfl ?_
    refine V_goto (pc := 44) (tgt := 2) hk dX2_stillBy_44 rfl ?_
    refine V_pick (lc' := [(0, va_rf l0), (1, .int l1), (2, .int l2), (3, .int (l3 + 1))]) [1, 2, 3, 0] rfl ?_
    exact h2 r1.2 l0 l1 l2 (l3 + 1)
  · refine V_aload_n (pc := 32) hk dX2_stillBy_32 0 rfl ?_
    refine n_X2_347 (pc := 33) hk (fun b r h => ctX2_hangsStill (fl y) (fK y) hk.2.2.2.2.2.2.2.1 b r1.2 r h) ⟨Nat.le_of_ble_eq_true rfl, Nat.le_of_ble_eq_true rfl⟩ (Nat.le_of_ble_eq_true rfl) dX2_stillBy_33 (fun r3 => ?_)
    refine V_if_eq (pc := 36) (tgt := 41) hk dX2_stillBy_36 rfl ?_ ?_
    · refine V_iinc (pc := 41) (v := 1) (lc' := [(3, .int (l3 + 1)), (0, va_rf l0), (1, .int l1), (2, .int l2)]) hk dX2_stillBy_41 3 rfl rfl (Nat.le_of_ble_eq_true rfl) rfl ?_
      refine V_goto (pc := 44) (tgt := 2) hk dX2_stillBy_44 rfl ?_
      refine V_pick (lc' := [(0, va_rf l0), (1, .int l1), (2, .int l2), (3, .int (l3 + 1))]) [1, 2, 3, 0] rfl ?_
      exact h2 r3.2 l0 l1 l2 (l3 + 1)
    · refine V_iload_n (pc := 39) hk dX2_stillBy_39 3 rfl ?_
      exact V_ireturn (pc := 40) hk hR rfl dX2_stillBy_40
theorem eX2_stillBy_b2 {y : Fx (Int32 × Wd)} (hk : OkF y RX2 cX2_stillBy 4 7 181) (hR : RetM y rvI (some (.int))) {k2 : Wd → (Option Nat) → Int32 → Int32 → Int32 → Option (Int32 × Wd)} (h2 : ∀ (w : Wd) (l0 : Option Nat) (l1 : Int32) (l2 : Int32) (l3 : Int32), V y w [(0, va_rf l0), (1, .int l1), (2, .int l2), (3, .int l3)] [] 2 (k2 w l0 l1 l2 l3)) (w : Wd) (l0 : Option Nat) (l1 : Int32) (l2 : Int32) (l3 : Int32) : V y w [(0, va_rf l0), (1, .int l1), (2, .int l2), (3, .int l3)] [] 2 (mX2_stillBy_b2 k2 w l0 l1 l2 l3) := by
  unfold mX2_stillBy_b2
  refine V_iload_n (pc := 2) hk dX2_stillBy_2 3 rfl ?_
  refine V_sipush (pc := 3) (v := 200) hk dX2_stillBy_3 rfl ?_
  refine V_icmp_gt (pc := 6) (tgt := 47) hk dX2_stillBy_6 rfl ?_ ?_
  · refine V_sipush (pc := 47) (v := 200) hk dX2_stillBy_47 rfl ?_
    exact V_ireturn (pc := 50) hk hR rfl dX2_stillBy_50
  · refine V_aload_n (pc := 9) hk dX2_stillBy_9 0 rfl ?_
    refine V_iload_n (pc := 10) hk dX2_stillBy_10 3 rfl ?_
    refine V_iload_n (pc := 11) hk dX2_stillBy_11 2 rfl ?_
    refine V_icmp_gt (pc := 12) (tgt := 19) hk dX2_stillBy_12 rfl ?_ ?_
    · refine V_aload_n (pc := 19) hk dX2_stillBy_19 0 rfl ?_
      refine V_iload_n (pc := 20) hk dX2_stillBy_20 1 rfl ?_
      refine n_X2_338 (pc := 21) hk (fun b r h => ctX2_commandNow (fl y) (fK y) hk.2.2.2.2.2.2.2.1 b l1 w r h) ⟨Nat.le_of_ble_eq_true rfl, Nat.le_of_ble_eq_true rfl⟩ (by simp [rf_cat, cat_int, cat_long, cat_ref]) dX2_stillBy_21 (fun r1 => ?_)
      exact eX2_stillBy_p24 hk hR h2 r1.2 l0 l1 l2 l3 r1.1 l0
    · refine V_iconst (pc := 15) (v := 0) hk dX2_stillBy_15 rfl ?_
      refine V_goto (pc := 16) (tgt := 24) hk dX2_stillBy_16 rfl ?_
      exact eX2_stillBy_p24 hk hR h2 w l0 l1 l2 l3 0 l0
theorem eX2_stillBy_l2 {y : Fx (Int32 × Wd)} (hk : OkF y RX2 cX2_stillBy 4 7 181) (hR : RetM y rvI (some (.int))) : ∀ (n : Nat) (w : Wd) (l0 : Option Nat) (l1 : Int32) (l2 : Int32) (l3 : Int32), V y w [(0, va_rf l0), (1, .int l1), (2, .int l2), (3, .int l3)] [] 2 (mX2_stillBy_l2 n w l0 l1 l2 l3) := by
  intro n
  induction n with
  | zero => intro w l0 l1 l2 l3; exact V_none
  | succ n ih => intro w l0 l1 l2 l3; exact eX2_stillBy_b2 hk hR ih w l0 l1 l2 l3
theorem eX2_stillBy {y : Fx (Int32 × Wd)} (hk : OkF y RX2 cX2_stillBy 4 7 181) (hR : RetM y rvI (some (.int))) (this : Nat) (a0 : Int32) (a1 : Int32) (w : Wd) : V y w [(0, va_rf (some this)), (1, .int a0), (2, .int a1)] [] 0 (mX2_stillBy this a0 a1 w) := by
  unfold mX2_stillBy
  refine V_iconst (pc := 0) (v := 1) hk dX2_stillBy_0 rfl ?_
  refine V_istore_n (pc := 1) (lc' := [(3, .int 1), (0, va_rf ((some this))), (1, .int a0), (2, .int a1)]) (i := 3) hk dX2_stillBy_1 rfl (Nat.le_of_ble_eq_true rfl) rfl ?_
  refine V_pick (lc' := [(0, va_rf ((some this))), (1, .int a0), (2, .int a1), (3, .int 1)]) [1, 2, 3, 0] rfl ?_
  exact eX2_stillBy_l2 hk hR FU w ((some this)) a0 a1 1
theorem ctX2_stillBy (l : Launch) (K : Kx) (hI : Ini K) (b : Nat) (a0 : Int32) (a1 : Int32) (w : Wd) : ∀ r, mX2_stillBy b a0 a1 w = some r → Ct l K 7 181 yX2_stillBy (ws_ yX2_stillBy cX2_stillBy 4 (some (.int))) [.ref b, .int a0, .int a1] w (rvI r.1) r.2 := Ct_of rvI l K hI 7 181 [.ref b, .int a0, .int a1] w (by decide) (lc0 := [(0, .ref b), (1, .int a0), (2, .int a1)]) rfl (Nat.le_of_ble_eq_true rfl) (fun y hk hR _ _ hin => eX2_stillBy hk hR b a0 a1 w)
noncomputable def mX2_putBackPast_b2 (k2 : Wd → (Option Nat) → Int32 → Option (Unit × Wd)) (w : Wd) (l0 : Option Nat) (l1 : Int32) : Option (Unit × Wd) :=
if 1200 ≤ l1 then (
some ((), w))
else (
(gR w l0 2 0).bind fun v1 =>
(gR w l0 2 29).bind fun v2 =>
(ia w v2 l1).bind fun v3 =>
(ias w v1 (602 + l1) v3).bind fun w4 =>
k2 w4 l0 (l1 + 1))
noncomputable def mX2_putBackPast_l2 : Nat → Wd → (Option Nat) → Int32 → Option (Unit × Wd)
  | 0, _, _, _ => none
  | n + 1, w, l0, l1 => mX2_putBackPast_b2 (mX2_putBackPast_l2 n) w l0 l1
noncomputable def mX2_putBackPast (this : Nat) (w : Wd) : Option (Unit × Wd) :=
mX2_putBackPast_l2 FU w ((some this)) 0
theorem eX2_putBackPast_b2 {y : Fx (Unit × Wd)} (hk : OkF y RX2 cX2_putBackPast 2 2 60) (hR : RetM y rvV none) {k2 : Wd → (Option Nat) → Int32 → Option (Unit × Wd)} (h2 : ∀ (w : Wd) (l0 : Option Nat) (l1 : Int32), V y w [(0, va_rf l0), (1, .int l1)] [] 2 (k2 w l0 l1)) (w : Wd) (l0 : Option Nat) (l1 : Int32) : V y w [(0, va_rf l0), (1, .int l1)] [] 2 (mX2_putBackPast_b2 k2 w l0 l1) := by
  unfold mX2_putBackPast_b2
  refine V_iload_n (pc := 2) hk dX2_putBackPast_2 1 rfl ?_
  refine V_sipush (pc := 3) (v := 1200) hk dX2_putBackPast_3 rfl ?_
  refine V_icmp_ge (pc := 6) (tgt := 31) hk dX2_putBackPast_6 rfl ?_ ?_
  · exact V_return (pc := 31) hk hR rfl dX2_putBackPast_31
  · refine V_aload_n (pc := 9) hk dX2_putBackPast_9 0 rfl ?_
    refine g_X2_7 (pc := 10) hk dX2_putBackPast_10 (fun v1 => ?_)
    refine V_sipush (pc := 13) (v := 602) hk dX2_putBackPast_13 rfl ?_
    refine V_iload_n (pc := 16) hk dX2_putBackPast_16 1 rfl ?_
    refine V_iadd (pc := 17) hk dX2_putBackPast_17 ?_
    refine V_aload_n (pc := 18) hk dX2_putBackPast_18 0 rfl ?_
    refine g_X2_46 (pc := 19) hk dX2_putBackPast_19 (fun v2 => ?_)
    refine V_iload_n (pc := 22) hk dX2_putBackPast_22 1 rfl ?_
    refine V_iaload (pc := 23) hk dX2_putBackPast_23 (fun v3 => ?_)
    refine V_iastore (pc := 24) hk dX2_putBackPast_24 (fun w4 => ?_)
    refine V_iinc (pc := 25) (v := 1) (lc' := [(1, .int (l1 + 1)), (0, va_rf l0)]) hk dX2_putBackPast_25 1 rfl rfl (Nat.le_of_ble_eq_true rfl) (by simp [rf_cat, cat_int, cat_long, cat_ref]) ?_
    refine V_goto (pc := 28) (tgt := 2) hk dX2_putBackPast_28 rfl ?_
    refine V_pick (lc' := [(0, va_rf l0), (1, .int (l1 + 1))]) [1, 0] rfl ?_
    exact h2 w4 l0 (l1 + 1)
theorem eX2_putBackPast_l2 {y : Fx (Unit × Wd)} (hk : OkF y RX2 cX2_putBackPast 2 2 60) (hR : RetM y rvV none) : ∀ (n : Nat) (w : Wd) (l0 : Option Nat) (l1 : Int32), V y w [(0, va_rf l0), (1, .int l1)] [] 2 (mX2_putBackPast_l2 n w l0 l1) := by
  intro n
  induction n with
  | zero => intro w l0 l1; exact V_none
  | succ n ih => intro w l0 l1; exact eX2_putBackPast_b2 hk hR ih w l0 l1
theorem eX2_putBackPast {y : Fx (Unit × Wd)} (hk : OkF y RX2 cX2_putBackPast 2 2 60) (hR : RetM y rvV none) (this : Nat) (w : Wd) : V y w [(0, va_rf (some this))] [] 0 (mX2_putBackPast this w) := by
  unfold mX2_putBackPast
  refine V_iconst (pc := 0) (v := 0) hk dX2_putBackPast_0 rfl ?_
  refine V_istore_n (pc := 1) (lc' := [(1, .int 0), (0, va_rf ((some this)))]) (i := 1) hk dX2_putBackPast_1 rfl (Nat.le_of_ble_eq_true rfl) (by simp [rf_cat, cat_int, cat_long, cat_ref]) ?_
  refine V_pick (lc' := [(0, va_rf ((some this))), (1, .int 0)]) [1, 0] rfl ?_
  exact eX2_putBackPast_l2 hk hR FU w ((some this)) 0
theorem ctX2_putBackPast (l : Launch) (K : Kx) (hI : Ini K) (b : Nat) (w : Wd) : ∀ r, mX2_putBackPast b w = some r → Ct l K 2 60 yX2_putBackPast (ws_ yX2_putBackPast cX2_putBackPast 2 none) [.ref b] w (rvV r.1) r.2 := Ct_of rvV l K hI 2 60 [.ref b] w (by decide) (lc0 := [(0, .ref b)]) rfl (Nat.le_of_ble_eq_true rfl) (fun y hk hR _ _ hin => eX2_putBackPast hk hR b w)
noncomputable def mX2_fromRest_b7 (k7 : Wd → (Option Nat) → Int32 → Int32 → Int32 → Option (Int32 × Wd)) (w : Wd) (l0 : Option Nat) (l1 : Int32) (l2 : Int32) (l3 : Int32) : Option (Int32 × Wd) :=
if 11 < l3 then (
(gR w l0 2 0).bind fun v1 =>
(ias w v1 14 0).bind fun w2 =>
(gR w2 l0 2 0).bind fun v3 =>
(ias w2 v3 16 0).bind fun w4 =>
(gR w4 l0 2 0).bind fun v5 =>
(recv w4 l0 2).bind fun b7 => (cal w4 (mX2_get b7 l2 0 w4)).bind fun r6 =>
(ias r6.2 v5 13 r6.1).bind fun w8 =>
(gR w8 l0 2 0).bind fun v9 =>
(recv w8 l0 2).bind fun b11 => (cal w8 (mX2_get b11 l2 1 w8)).bind fun r10 =>
(ias r10.2 v9 15 (10 * r10.1)).bind fun w12 =>
(zok 1).bind fun _ => (pf w12 l0 2 25 (.int 1)).bind fun w13 =>
(recv w13 l0 2).bind fun b15 => (cal w13 (mX2_keepPast b15 w13)).bind fun r14 =>
(recv r14.2 l0 2).bind fun b17 => (cal r14.2 (mX2_stillBy b17 l1 0 r14.2)).bind fun r16 =>
(recv r16.2 l0 2).bind fun b19 => (cal r16.2 (mX2_putBackPast b19 r16.2)).bind fun r18 =>
(recv r18.2 l0 2).bind fun b21 => (cal r18.2 (mX2_putBack b21 r18.2)).bind fun r20 =>
some (r16.1, r20.2))
else (
(gR w l0 2 0).bind fun v22 =>
(ias w v22 l3 0).bind fun w23 =>
k7 w23 l0 l1 l2 (l3 + 1))
noncomputable def mX2_fromRest_l7 : Nat → Wd → (Option Nat) → Int32 → Int32 → Int32 → Option (Int32 × Wd)
  | 0, _, _, _, _, _ => none
  | n + 1, w, l0, l1, l2, l3 => mX2_fromRest_b7 (mX2_fromRest_l7 n) w l0 l1 l2 l3
noncomputable def mX2_fromRest (this : Nat) (a0 : Int32) (a1 : Int32) (w : Wd) : Option (Int32 × Wd) :=
(recv w ((some this)) 2).bind fun b2 => (cal w (mX2_begin b2 w)).bind fun r1 =>
mX2_fromRest_l7 FU r1.2 ((some this)) a0 a1 8
theorem eX2_fromRest_b7 {y : Fx (Int32 × Wd)} (hk : OkF y RX2 cX2_fromRest 4 8 204) (hR : RetM y rvI (some (.int))) {k7 : Wd → (Option Nat) → Int32 → Int32 → Int32 → Option (Int32 × Wd)} (h7 : ∀ (w : Wd) (l0 : Option Nat) (l1 : Int32) (l2 : Int32) (l3 : Int32), V y w [(0, va_rf l0), (1, .int l1), (2, .int l2), (3, .int l3)] [] 7 (k7 w l0 l1 l2 l3)) (w : Wd) (l0 : Option Nat) (l1 : Int32) (l2 : Int32) (l3 : Int32) : V y w [(0, va_rf l0), (1, .int l1), (2, .int l2), (3, .int l3)] [] 7 (mX2_fromRest_b7 k7 w l0 l1 l2 l3) := by
  unfold mX2_fromRest_b7
  refine V_iload_n (pc := 7) hk dX2_fromRest_7 3 rfl ?_
  refine V_bipush (pc := 8) (v := 11) hk dX2_fromRest_8 rfl ?_
  refine V_icmp_gt (pc := 10) (tgt := 26) hk dX2_fromRest_10 rfl ?_ ?_
  · refine V_aload_n (pc := 26) hk dX2_fromRest_26 0 rfl ?_
    refine g_X2_7 (pc := 27) hk dX2_fromRest_27 (fun v1 => ?_)
    refine V_bipush (pc := 30) (v := 14) hk dX2_fromRest_30 rfl ?_
    refine V_iconst (pc := 32) (v := 0) hk dX2_fromRest_32 rfl ?_
    refine V_iastore (pc := 33) hk dX2_fromRest_33 (fun w2 => ?_)
    refine V_aload_n (pc := 34) hk dX2_fromRest_34 0 rfl ?_
    refine g_X2_7 (pc := 35) hk dX2_fromRest_35 (fun v3 => ?_)
    refine V_bipush (pc := 38) (v := 16) hk dX2_fromRest_38 rfl ?_
    refine V_iconst (pc := 40) (v := 0) hk dX2_fromRest_40 rfl ?_
    refine V_iastore (pc := 41) hk dX2_fromRest_41 (fun w4 => ?_)
    refine V_aload_n (pc := 42) hk dX2_fromRest_42 0 rfl ?_
    refine g_X2_7 (pc := 43) hk dX2_fromRest_43 (fun v5 => ?_)
    refine V_bipush (pc := 46) (v := 13) hk dX2_fromRest_46 rfl ?_
    refine V_aload_n (pc := 48) hk dX2_fromRest_48 0 rfl ?_
    refine V_iload_n (pc := 49) hk dX2_fromRest_49 2 rfl ?_
    refine V_iconst (pc := 50) (v := 0) hk dX2_fromRest_50 rfl ?_
    refine n_X2_295 (pc := 51) hk (fun b r h => ctX2_get (fl y) (fK y) hk.2.2.2.2.2.2.2.1 b l2 0 w4 r h) ⟨Nat.le_of_ble_eq_true rfl, Nat.le_of_ble_eq_true rfl⟩ (by simp [rf_cat, cat_int, cat_long, cat_ref]) dX2_fromRest_51 (fun r6 => ?_)
    refine V_iastore (pc := 54) hk dX2_fromRest_54 (fun w8 => ?_)
    refine V_aload_n (pc := 55) hk dX2_fromRest_55 0 rfl ?_
    refine g_X2_7 (pc := 56) hk dX2_fromRest_56 (fun v9 => ?_)
    refine V_bipush (pc := 59) (v := 15) hk dX2_fromRest_59 rfl ?_
    refine V_bipush (pc := 61) (v := 10) hk dX2_fromRest_61 rfl ?_
    refine V_aload_n (pc := 63) hk dX2_fromRest_63 0 rfl ?_
    refine V_iload_n (pc := 64) hk dX2_fromRest_64 2 rfl ?_
    refine V_iconst (pc := 65) (v := 1) hk dX2_fromRest_65 rfl ?_
    refine n_X2_295 (pc := 66) hk (fun b r h => ctX2_get (fl y) (fK y) hk.2.2.2.2.2.2.2.1 b l2 1 w8 r h) ⟨Nat.le_of_ble_eq_true rfl, Nat.le_of_ble_eq_true rfl⟩ (by simp [rf_cat, cat_int, cat_long, cat_ref]) dX2_fromRest_66 (fun r10 => ?_)
    refine V_imul (pc := 69) hk dX2_fromRest_69 ?_
    refine V_iastore (pc := 70) hk dX2_fromRest_70 (fun w12 => ?_)
    refine V_aload_n (pc := 71) hk dX2_fromRest_71 0 rfl ?_
    refine V_iconst (pc := 72) (v := 1) hk dX2_fromRest_72 rfl ?_
    refine p_X2_317 (pc := 73) hk dX2_fromRest_73 (fun w13 => ?_)
    refine V_aload_n (pc := 76) hk dX2_fromRest_76 0 rfl ?_
    refine n_X2_418 (pc := 77) hk (fun b r h => ctX2_keepPast (fl y) (fK y) hk.2.2.2.2.2.2.2.1 b w13 r h) ⟨Nat.le_of_ble_eq_true rfl, Nat.le_of_ble_eq_true rfl⟩ (Nat.le_of_ble_eq_true rfl) dX2_fromRest_77 (fun r14 => ?_)
    refine V_aload_n (pc := 80) hk dX2_fromRest_80 0 rfl ?_
    refine V_iload_n (pc := 81) hk dX2_fromRest_81 1 rfl ?_
    refine V_iconst (pc := 82) (v := 0) hk dX2_fromRest_82 rfl ?_
    refine n_X2_421 (pc := 83) hk (fun b r h => ctX2_stillBy (fl y) (fK y) hk.2.2.2.2.2.2.2.1 b l1 0 r14.2 r h) ⟨Nat.le_of_ble_eq_true rfl, Nat.le_of_ble_eq_true rfl⟩ (Nat.le_of_ble_eq_true rfl) dX2_fromRest_83 (fun r16 => ?_)
    refine V_istore_n (pc := 86) (lc' := [(3, .int r16.1), (0, va_rf l0), (1, .int l1), (2, .int l2)]) (i := 3) hk dX2_fromRest_86 rfl (Nat.le_of_ble_eq_true rfl) rfl ?_
    refine V_aload_n (pc := 87) hk dX2_fromRest_87 1 rfl ?_
    refine n_X2_424 (pc := 88) hk (fun b r h => ctX2_putBackPast (fl y) (fK y) hk.2.2.2.2.2.2.2.1 b r16.2 r h) ⟨Nat.le_of_ble_eq_true rfl, Nat.le_of_ble_eq_true rfl⟩ (Nat.le_of_ble_eq_true rfl) dX2_fromRest_88 (fun r18 => ?_)
    refine V_aload_n (pc := 91) hk dX2_fromRest_91 1 rfl ?_
    refine n_X2_382 (pc := 92) hk (fun b r h => ctX2_putBack (fl y) (fK y) hk.2.2.2.2.2.2.2.1 b r18.2 r h) ⟨Nat.le_of_ble_eq_true rfl, Nat.le_of_ble_eq_true rfl⟩ (Nat.le_of_ble_eq_true rfl) dX2_fromRest_92 (fun r20 => ?_)
    refine V_iload_n (pc := 95) hk dX2_fromRest_95 0 rfl ?_
    exact V_ireturn (pc := 96) hk hR rfl dX2_fromRest_96
  · refine V_aload_n (pc := 13) hk dX2_fromRest_13 0 rfl ?_
    refine g_X2_7 (pc := 14) hk dX2_fromRest_14 (fun v22 => ?_)
    refine V_iload_n (pc := 17) hk dX2_fromRest_17 3 rfl ?_
    refine V_iconst (pc := 18) (v := 0) hk dX2_fromRest_18 rfl ?_
    refine V_iastore (pc := 19) hk dX2_fromRest_19 (fun w23 => ?_)
    refine V_iinc (pc := 20) (v := 1) (lc' := [(3, .int (l3 + 1)), (0, va_rf l0), (1, .int l1), (2, .int l2)]) hk dX2_fromRest_20 3 rfl rfl (Nat.le_of_ble_eq_true rfl) rfl ?_
    refine V_goto (pc := 23) (tgt := 7) hk dX2_fromRest_23 rfl ?_
    refine V_pick (lc' := [(0, va_rf l0), (1, .int l1), (2, .int l2), (3, .int (l3 + 1))]) [1, 2, 3, 0] rfl ?_
    exact h7 w23 l0 l1 l2 (l3 + 1)
theorem eX2_fromRest_l7 {y : Fx (Int32 × Wd)} (hk : OkF y RX2 cX2_fromRest 4 8 204) (hR : RetM y rvI (some (.int))) : ∀ (n : Nat) (w : Wd) (l0 : Option Nat) (l1 : Int32) (l2 : Int32) (l3 : Int32), V y w [(0, va_rf l0), (1, .int l1), (2, .int l2), (3, .int l3)] [] 7 (mX2_fromRest_l7 n w l0 l1 l2 l3) := by
  intro n
  induction n with
  | zero => intro w l0 l1 l2 l3; exact V_none
  | succ n ih => intro w l0 l1 l2 l3; exact eX2_fromRest_b7 hk hR ih w l0 l1 l2 l3
theorem eX2_fromRest {y : Fx (Int32 × Wd)} (hk : OkF y RX2 cX2_fromRest 4 8 204) (hR : RetM y rvI (some (.int))) (this : Nat) (a0 : Int32) (a1 : Int32) (w : Wd) : V y w [(0, va_rf (some this)), (1, .int a0), (2, .int a1)] [] 0 (mX2_fromRest this a0 a1 w) := by
  unfold mX2_fromRest
  refine V_aload_n (pc := 0) hk dX2_fromRest_0 0 rfl ?_
  refine n_X2_379 (pc := 1) hk (fun b r h => ctX2_begin (fl y) (fK y) hk.2.2.2.2.2.2.2.1 b w r h) ⟨Nat.le_of_ble_eq_true rfl, Nat.le_of_ble_eq_true rfl⟩ (Nat.le_of_ble_eq_true rfl) dX2_fromRest_1 (fun r1 => ?_)
  refine V_bipush (pc := 4) (v := 8) hk dX2_fromRest_4 rfl ?_
  refine V_istore_n (pc := 6) (lc' := [(3, .int 8), (0, va_rf ((some this))), (1, .int a0), (2, .int a1)]) (i := 3) hk dX2_fromRest_6 rfl (Nat.le_of_ble_eq_true rfl) rfl ?_
  refine V_pick (lc' := [(0, va_rf ((some this))), (1, .int a0), (2, .int a1), (3, .int 8)]) [1, 2, 3, 0] rfl ?_
  exact eX2_fromRest_l7 hk hR FU r1.2 ((some this)) a0 a1 8
theorem ctX2_fromRest (l : Launch) (K : Kx) (hI : Ini K) (b : Nat) (a0 : Int32) (a1 : Int32) (w : Wd) : ∀ r, mX2_fromRest b a0 a1 w = some r → Ct l K 8 204 yX2_fromRest (ws_ yX2_fromRest cX2_fromRest 4 (some (.int))) [.ref b, .int a0, .int a1] w (rvI r.1) r.2 := Ct_of rvI l K hI 8 204 [.ref b, .int a0, .int a1] w (by decide) (lc0 := [(0, .ref b), (1, .int a0), (2, .int a1)]) rfl (Nat.le_of_ble_eq_true rfl) (fun y hk hR _ _ hin => eX2_fromRest hk hR b a0 a1 w)
noncomputable def mX2_saves_b49 (k49 : Wd → (Option Nat) → Int32 → Int32 → Int32 → Int32 → Int32 → Option (Int32 × Wd)) (w : Wd) (l0 : Option Nat) (l1 : Int32) (l2 : Int32) (l3 : Int32) (l4 : Int32) (l5 : Int32) : Option (Int32 × Wd) :=
(gR w l0 2 0).bind fun v1 =>
(ia w v1 0).bind fun v2 =>
if v2 ≤ l5 then (
some (l4, w))
else (
(cal w (mX2_has l3 l5 w)).bind fun r3 =>
if r3.1 = 0 then (
k49 r3.2 l0 l1 l2 l3 (l4 + 0) (l5 + 1))
else (
(recv r3.2 l0 2).bind fun b5 => (cal r3.2 (mX2_fromRest b5 l2 l5 r3.2)).bind fun r4 =>
(recv r4.2 l0 2).bind fun b7 => (cal r4.2 (mX2_fromRest b7 l1 l5 r4.2)).bind fun r6 =>
k49 r6.2 l0 l1 l2 l3 (l4 + (r4.1 - r6.1)) (l5 + 1)))
noncomputable def mX2_saves_l49 : Nat → Wd → (Option Nat) → Int32 → Int32 → Int32 → Int32 → Int32 → Option (Int32 × Wd)
  | 0, _, _, _, _, _, _, _ => none
  | n + 1, w, l0, l1, l2, l3, l4, l5 => mX2_saves_b49 (mX2_saves_l49 n) w l0 l1 l2 l3 l4 l5
noncomputable def mX2_saves (this : Nat) (a0 : Int32) (a1 : Int32) (a2 : Int32) (w : Wd) : Option (Int32 × Wd) :=
(recv w ((some this)) 2).bind fun b2 => (cal w (mX2_isText b2 a0 w)).bind fun r1 =>
if r1.1 = 0 then (
some ((-100000), r1.2))
else (
(recv r1.2 ((some this)) 2).bind fun b4 => (cal r1.2 (mX2_isText b4 a1 r1.2)).bind fun r3 =>
if r3.1 = 0 then (
some ((-100000), r3.2))
else (
if a0 = a1 then (
some ((-100000), r3.2))
else (
(gR r3.2 ((some this)) 2 0).bind fun v5 =>
(ia r3.2 v5 0).bind fun v6 =>
(cal r3.2 (mX2_isIn a2 1 ((1 <<< (v6 &&& 31)) - 1) r3.2)).bind fun r7 =>
if ¬ r7.1 = 0 then (
mX2_saves_l49 FU r7.2 ((some this)) a0 a1 a2 0 0)
else (
some ((-100000), r7.2)))))
theorem eX2_saves_b49 {y : Fx (Int32 × Wd)} (hk : OkF y RX2 cX2_saves 6 9 227) (hR : RetM y rvI (some (.int))) {k49 : Wd → (Option Nat) → Int32 → Int32 → Int32 → Int32 → Int32 → Option (Int32 × Wd)} (h49 : ∀ (w : Wd) (l0 : Option Nat) (l1 : Int32) (l2 : Int32) (l3 : Int32) (l4 : Int32) (l5 : Int32), V y w [(0, va_rf l0), (1, .int l1), (2, .int l2), (3, .int l3), (4, .int l4), (5, .int l5)] [] 49 (k49 w l0 l1 l2 l3 l4 l5)) (w : Wd) (l0 : Option Nat) (l1 : Int32) (l2 : Int32) (l3 : Int32) (l4 : Int32) (l5 : Int32) : V y w [(0, va_rf l0), (1, .int l1), (2, .int l2), (3, .int l3), (4, .int l4), (5, .int l5)] [] 49 (mX2_saves_b49 k49 w l0 l1 l2 l3 l4 l5) := by
  unfold mX2_saves_b49
  refine V_iload (pc := 49) hk dX2_saves_49 5 rfl ?_
  refine V_aload_n (pc := 51) hk dX2_saves_51 0 rfl ?_
  refine g_X2_7 (pc := 52) hk dX2_saves_52 (fun v1 => ?_)
  refine V_iconst (pc := 55) (v := 0) hk dX2_saves_55 rfl ?_
  refine V_iaload (pc := 56) hk dX2_saves_56 (fun v2 => ?_)
  refine V_icmp_ge (pc := 57) (tgt := 99) hk dX2_saves_57 rfl ?_ ?_
  · refine V_iload (pc := 99) hk dX2_saves_99 4 rfl ?_
    exact V_ireturn (pc := 101) hk hR rfl dX2_saves_101
  · refine V_iload (pc := 60) hk dX2_saves_60 4 rfl ?_
    refine V_iload_n (pc := 62) hk dX2_saves_62 3 rfl ?_
    refine V_iload (pc := 63) hk dX2_saves_63 5 rfl ?_
    refine n_X2_241 (pc := 65) hk (fun r h => ctX2_has (fl y) (fK y) hk.2.2.2.2.2.2.2.1 l3 l5 w r h) ⟨Nat.le_of_ble_eq_true rfl, Nat.le_of_ble_eq_true rfl⟩ (Nat.le_of_ble_eq_true rfl) dX2_saves_65 (fun r3 => ?_)
    refine V_if_eq (pc := 68) (tgt := 89) hk dX2_saves_68 rfl ?_ ?_
    · refine V_iconst (pc := 89) (v := 0) hk dX2_saves_89 rfl ?_
      refine V_iadd (pc := 90) hk dX2_saves_90 ?_
      refine V_istore (pc := 91) (lc' := [(4, .int (l4 + 0)), (0, va_rf l0), (1, .int l1), (2, .int l2), (3, .int l3), (5, .int l5)]) (i := 4) hk dX2_saves_91 (Nat.le_of_ble_eq_true rfl) rfl ?_
      refine V_iinc (pc := 93) (v := 1) (lc' := [(5, .int (l5 + 1)), (4, .int (l4 + 0)), (0, va_rf l0), (1, .int l1), (2, .int l2), (3, .int l3)]) hk dX2_saves_93 5 rfl rfl (Nat.le_of_ble_eq_true rfl) rfl ?_
      refine V_goto (pc := 96) (tgt := 49) hk dX2_saves_96 rfl ?_
      refine V_pick (lc' := [(0, va_rf l0), (1, .int l1), (2, .int l2), (3, .int l3), (4, .int (l4 + 0)), (5, .int (l5 + 1))]) [2, 3, 4, 5, 1, 0] rfl ?_
      exact h49 r3.2 l0 l1 l2 l3 (l4 + 0) (l5 + 1)
    · refine V_aload_n (pc := 71) hk dX2_saves_71 0 rfl ?_
      refine V_iload_n (pc := 72) hk dX2_saves_72 2 rfl ?_
      refine V_iload (pc := 73) hk dX2_saves_73 5 rfl ?_
      refine n_X2_427 (pc := 75) hk (fun b r h => ctX2_fromRest (fl y) (fK y) hk.2.2.2.2.2.2.2.1 b l2 l5 r3.2 r h) ⟨Nat.le_of_ble_eq_true rfl, Nat.le_of_ble_eq_true rfl⟩ (Nat.le_of_ble_eq_true rfl) dX2_saves_75 (fun r4 => ?_)
      refine V_aload_n (pc := 78) hk dX2_saves_78 0 rfl ?_
      refine V_iload_n (pc := 79) hk dX2_saves_79 1 rfl ?_
      refine V_iload (pc := 80) hk dX2_saves_80 5 rfl ?_
      refine n_X2_427 (pc := 82) hk (fun b r h => ctX2_fromRest (fl y) (fK y) hk.2.2.2.2.2.2.2.1 b l1 l5 r4.2 r h) ⟨Nat.le_of_ble_eq_true rfl, Nat.le_of_ble_eq_true rfl⟩ (Nat.le_of_ble_eq_true rfl) dX2_saves_82 (fun r6 => ?_)
      refine V_isub (pc := 85) hk dX2_saves_85 ?_
      refine V_goto (pc := 86) (tgt := 90) hk dX2_saves_86 rfl ?_
      refine V_iadd (pc := 90) hk dX2_saves_90 ?_
      refine V_istore (pc := 91) (lc' := [(4, .int (l4 + (r4.1 - r6.1))), (0, va_rf l0), (1, .int l1), (2, .int l2), (3, .int l3), (5, .int l5)]) (i := 4) hk dX2_saves_91 (Nat.le_of_ble_eq_true rfl) rfl ?_
      refine V_iinc (pc := 93) (v := 1) (lc' := [(5, .int (l5 + 1)), (4, .int (l4 + (r4.1 - r6.1))), (0, va_rf l0), (1, .int l1), (2, .int l2), (3, .int l3)]) hk dX2_saves_93 5 rfl rfl (Nat.le_of_ble_eq_true rfl) rfl ?_
      refine V_goto (pc := 96) (tgt := 49) hk dX2_saves_96 rfl ?_
      refine V_pick (lc' := [(0, va_rf l0), (1, .int l1), (2, .int l2), (3, .int l3), (4, .int (l4 + (r4.1 - r6.1))), (5, .int (l5 + 1))]) [2, 3, 4, 5, 1, 0] rfl ?_
      exact h49 r6.2 l0 l1 l2 l3 (l4 + (r4.1 - r6.1)) (l5 + 1)
theorem eX2_saves_l49 {y : Fx (Int32 × Wd)} (hk : OkF y RX2 cX2_saves 6 9 227) (hR : RetM y rvI (some (.int))) : ∀ (n : Nat) (w : Wd) (l0 : Option Nat) (l1 : Int32) (l2 : Int32) (l3 : Int32) (l4 : Int32) (l5 : Int32), V y w [(0, va_rf l0), (1, .int l1), (2, .int l2), (3, .int l3), (4, .int l4), (5, .int l5)] [] 49 (mX2_saves_l49 n w l0 l1 l2 l3 l4 l5) := by
  intro n
  induction n with
  | zero => intro w l0 l1 l2 l3 l4 l5; exact V_none
  | succ n ih => intro w l0 l1 l2 l3 l4 l5; exact eX2_saves_b49 hk hR ih w l0 l1 l2 l3 l4 l5
theorem eX2_saves {y : Fx (Int32 × Wd)} (hk : OkF y RX2 cX2_saves 6 9 227) (hR : RetM y rvI (some (.int))) (this : Nat) (a0 : Int32) (a1 : Int32) (a2 : Int32) (w : Wd) : V y w [(0, va_rf (some this)), (1, .int a0), (2, .int a1), (3, .int a2)] [] 0 (mX2_saves this a0 a1 a2 w) := by
  unfold mX2_saves
  refine V_aload_n (pc := 0) hk dX2_saves_0 0 rfl ?_
  refine V_iload_n (pc := 1) hk dX2_saves_1 1 rfl ?_
  refine n_X2_409 (pc := 2) hk (fun b r h => ctX2_isText (fl y) (fK y) hk.2.2.2.2.2.2.2.1 b a0 w r h) ⟨Nat.le_of_ble_eq_true rfl, Nat.le_of_ble_eq_true rfl⟩ (Nat.le_of_ble_eq_true rfl) dX2_saves_2 (fun r1 => ?_)
  refine V_if_eq (pc := 5) (tgt := 39) hk dX2_saves_5 rfl ?_ ?_
  · refine V_ldcw (pc := 39) (v := (-100000)) hk dX2_saves_39 q1791 ?_
    exact V_ireturn (pc := 42) hk hR rfl dX2_saves_42
  · refine V_aload_n (pc := 8) hk dX2_saves_8 0 rfl ?_
    refine V_iload_n (pc := 9) hk dX2_saves_9 2 rfl ?_
    refine n_X2_409 (pc := 10) hk (fun b r h => ctX2_isText (fl y) (fK y) hk.2.2.2.2.2.2.2.1 b a1 r1.2 r h) ⟨Nat.le_of_ble_eq_true rfl, Nat.le_of_ble_eq_true rfl⟩ (Nat.le_of_ble_eq_true rfl) dX2_saves_10 (fun r3 => ?_)
    refine V_if_eq (pc := 13) (tgt := 39) hk dX2_saves_13 rfl ?_ ?_
    · refine V_ldcw (pc := 39) (v := (-100000)) hk dX2_saves_39 q1791 ?_
      exact V_ireturn (pc := 42) hk hR rfl dX2_saves_42
    · refine V_iload_n (pc := 16) hk dX2_saves_16 1 rfl ?_
      refine V_iload_n (pc := 17) hk dX2_saves_17 2 rfl ?_
      refine V_icmp_eq (pc := 18) (tgt := 39) hk dX2_saves_18 rfl ?_ ?_
      · refine V_ldcw (pc := 39) (v := (-100000)) hk dX2_saves_39 q1791 ?_
        exact V_ireturn (pc := 42) hk hR rfl dX2_saves_42
      · refine V_iload_n (pc := 21) hk dX2_saves_21 3 rfl ?_
        refine V_iconst (pc := 22) (v := 1) hk dX2_saves_22 rfl ?_
        refine V_iconst (pc := 23) (v := 1) hk dX2_saves_23 rfl ?_
        refine V_aload_n (pc := 24) hk dX2_saves_24 0 rfl ?_
        refine g_X2_7 (pc := 25) hk dX2_saves_25 (fun v5 => ?_)
        refine V_iconst (pc := 28) (v := 0) hk dX2_saves_28 rfl ?_
        refine V_iaload (pc := 29) hk dX2_saves_29 (fun v6 => ?_)
        refine V_ishl (pc := 30) hk dX2_saves_30 ?_
        refine V_iconst (pc := 31) (v := 1) hk dX2_saves_31 rfl ?_
        refine V_isub (pc := 32) hk dX2_saves_32 ?_
        refine n_X2_71 (pc := 33) hk (fun r h => ctX2_isIn (fl y) (fK y) hk.2.2.2.2.2.2.2.1 a2 1 ((1 <<< (v6 &&& 31)) - 1) r3.2 r h) ⟨Nat.le_of_ble_eq_true rfl, Nat.le_of_ble_eq_true rfl⟩ (Nat.le_of_ble_eq_true rfl) dX2_saves_33 (fun r7 => ?_)
        refine V_if_ne (pc := 36) (tgt := 43) hk dX2_saves_36 rfl ?_ ?_
        · refine V_iconst (pc := 43) (v := 0) hk dX2_saves_43 rfl ?_
          refine V_istore (pc := 44) (lc' := [(4, .int 0), (0, va_rf ((some this))), (1, .int a0), (2, .int a1), (3, .int a2)]) (i := 4) hk dX2_saves_44 (Nat.le_of_ble_eq_true rfl) rfl ?_
          refine V_iconst (pc := 46) (v := 0) hk dX2_saves_46 rfl ?_
          refine V_istore (pc := 47) (lc' := [(5, .int 0), (4, .int 0), (0, va_rf ((some this))), (1, .int a0), (2, .int a1), (3, .int a2)]) (i := 5) hk dX2_saves_47 (Nat.le_of_ble_eq_true rfl) rfl ?_
          refine V_pick (lc' := [(0, va_rf ((some this))), (1, .int a0), (2, .int a1), (3, .int a2), (4, .int 0), (5, .int 0)]) [2, 3, 4, 5, 1, 0] rfl ?_
          exact eX2_saves_l49 hk hR FU r7.2 ((some this)) a0 a1 a2 0 0
        · refine V_ldcw (pc := 39) (v := (-100000)) hk dX2_saves_39 q1791 ?_
          exact V_ireturn (pc := 42) hk hR rfl dX2_saves_42
theorem ctX2_saves (l : Launch) (K : Kx) (hI : Ini K) (b : Nat) (a0 : Int32) (a1 : Int32) (a2 : Int32) (w : Wd) : ∀ r, mX2_saves b a0 a1 a2 w = some r → Ct l K 9 227 yX2_saves (ws_ yX2_saves cX2_saves 6 (some (.int))) [.ref b, .int a0, .int a1, .int a2] w (rvI r.1) r.2 := Ct_of rvI l K hI 9 227 [.ref b, .int a0, .int a1, .int a2] w (by decide) (lc0 := [(0, .ref b), (1, .int a0), (2, .int a1), (3, .int a2)]) rfl (Nat.le_of_ble_eq_true rfl) (fun y hk hR _ _ hin => eX2_saves hk hR b a0 a1 a2 w)
noncomputable def mX2_goneBy (this : Nat) (a0 : Int32) (w : Wd) : Option (Int32 × Wd) :=
(gR w ((some this)) 2 0).bind fun v1 =>
(ia w v1 4).bind fun v2 =>
(recv w ((some this)) 2).bind fun b4 => (cal w (mX2_stillBy b4 v2 a0 w)).bind fun r3 =>
if ¬ r3.1 = 200 then (
some (r3.1, r3.2))
else (
(recv r3.2 ((some this)) 2).bind fun b6 => (cal r3.2 (mX2_hangsStill b6 r3.2)).bind fun r5 =>
if ¬ r5.1 = 0 then (
some (r3.1, r5.2))
else (
some (100000000, r5.2)))
theorem eX2_goneBy {y : Fx (Int32 × Wd)} (hk : OkF y RX2 cX2_goneBy 3 8 204) (hR : RetM y rvI (some (.int))) (this : Nat) (a0 : Int32) (w : Wd) : V y w [(0, va_rf (some this)), (1, .int a0)] [] 0 (mX2_goneBy this a0 w) := by
  unfold mX2_goneBy
  refine V_aload_n (pc := 0) hk dX2_goneBy_0 0 rfl ?_
  refine V_aload_n (pc := 1) hk dX2_goneBy_1 0 rfl ?_
  refine g_X2_7 (pc := 2) hk dX2_goneBy_2 (fun v1 => ?_)
  refine V_iconst (pc := 5) (v := 4) hk dX2_goneBy_5 rfl ?_
  refine V_iaload (pc := 6) hk dX2_goneBy_6 (fun v2 => ?_)
  refine V_iload_n (pc := 7) hk dX2_goneBy_7 1 rfl ?_
  refine n_X2_421 (pc := 8) hk (fun b r h => ctX2_stillBy (fl y) (fK y) hk.2.2.2.2.2.2.2.1 b v2 a0 w r h) ⟨Nat.le_of_ble_eq_true rfl, Nat.le_of_ble_eq_true rfl⟩ (Nat.le_of_ble_eq_true rfl) dX2_goneBy_8 (fun r3 => ?_)
  refine V_istore_n (pc := 11) (lc' := [(2, .int r3.1), (0, va_rf ((some this))), (1, .int a0)]) (i := 2) hk dX2_goneBy_11 rfl (Nat.le_of_ble_eq_true rfl) rfl ?_
  refine V_iload_n (pc := 12) hk dX2_goneBy_12 0 rfl ?_
  refine V_sipush (pc := 13) (v := 200) hk dX2_goneBy_13 rfl ?_
  refine V_icmp_ne (pc := 16) (tgt := 32) hk dX2_goneBy_16 rfl ?_ ?_
  · refine V_iload_n (pc := 32) hk dX2_goneBy_32 0 rfl ?_
    exact V_ireturn (pc := 33) hk hR rfl dX2_goneBy_33
  · refine V_aload_n (pc := 19) hk dX2_goneBy_19 1 rfl ?_
    refine n_X2_347 (pc := 20) hk (fun b r h => ctX2_hangsStill (fl y) (fK y) hk.2.2.2.2.2.2.2.1 b r3.2 r h) ⟨Nat.le_of_ble_eq_true rfl, Nat.le_of_ble_eq_true rfl⟩ (Nat.le_of_ble_eq_true rfl) dX2_goneBy_20 (fun r5 => ?_)
    refine V_if_ne (pc := 23) (tgt := 32) hk dX2_goneBy_23 rfl ?_ ?_
    · refine V_iload_n (pc := 32) hk dX2_goneBy_32 0 rfl ?_
      exact V_ireturn (pc := 33) hk hR rfl dX2_goneBy_33
    · refine V_ldcw (pc := 26) (v := 100000000) hk dX2_goneBy_26 q1839 ?_
      refine V_goto (pc := 29) (tgt := 33) hk dX2_goneBy_29 rfl ?_
      exact V_ireturn (pc := 33) hk hR rfl dX2_goneBy_33
theorem ctX2_goneBy (l : Launch) (K : Kx) (hI : Ini K) (b : Nat) (a0 : Int32) (w : Wd) : ∀ r, mX2_goneBy b a0 w = some r → Ct l K 8 204 yX2_goneBy (ws_ yX2_goneBy cX2_goneBy 3 (some (.int))) [.ref b, .int a0] w (rvI r.1) r.2 := Ct_of rvI l K hI 8 204 [.ref b, .int a0] w (by decide) (lc0 := [(0, .ref b), (1, .int a0)]) rfl (Nat.le_of_ble_eq_true rfl) (fun y hk hR _ _ hin => eX2_goneBy hk hR b a0 w)
noncomputable def mX2_whenToGo_b8 (k8 : Wd → (Option Nat) → Int32 → Int32 → Int32 → Option (Int32 × Wd)) (w : Wd) (l0 : Option Nat) (l1 : Int32) (l2 : Int32) (l3 : Int32) : Option (Int32 × Wd) :=
if 60 < l3 then (
some (l1, w))
else (
(recv w l0 2).bind fun b2 => (cal w (mX2_begin b2 w)).bind fun r1 =>
(recv r1.2 l0 2).bind fun b4 => (cal r1.2 (mX2_goneBy b4 l3 r1.2)).bind fun r3 =>
(recv r3.2 l0 2).bind fun b6 => (cal r3.2 (mX2_putBack b6 r3.2)).bind fun r5 =>
if r3.1 < l2 then (
k8 r5.2 l0 l3 r3.1 (l3 + 1))
else (
k8 r5.2 l0 l1 l2 (l3 + 1)))
noncomputable def mX2_whenToGo_l8 : Nat → Wd → (Option Nat) → Int32 → Int32 → Int32 → Option (Int32 × Wd)
  | 0, _, _, _, _, _ => none
  | n + 1, w, l0, l1, l2, l3 => mX2_whenToGo_b8 (mX2_whenToGo_l8 n) w l0 l1 l2 l3
noncomputable def mX2_whenToGo (this : Nat) (w : Wd) : Option (Int32 × Wd) :=
mX2_whenToGo_l8 FU w ((some this)) (-1) 100000000 0
theorem eX2_whenToGo_b8 {y : Fx (Int32 × Wd)} (hk : OkF y RX2 cX2_whenToGo 5 9 226) (hR : RetM y rvI (some (.int))) {k8 : Wd → (Option Nat) → Int32 → Int32 → Int32 → Option (Int32 × Wd)} (h8 : ∀ (w : Wd) (l0 : Option Nat) (l1 : Int32) (l2 : Int32) (l3 : Int32), V y w [(0, va_rf l0), (1, .int l1), (2, .int l2), (3, .int l3)] [] 8 (k8 w l0 l1 l2 l3)) (w : Wd) (l0 : Option Nat) (l1 : Int32) (l2 : Int32) (l3 : Int32) : V y w [(0, va_rf l0), (1, .int l1), (2, .int l2), (3, .int l3)] [] 8 (mX2_whenToGo_b8 k8 w l0 l1 l2 l3) := by
  unfold mX2_whenToGo_b8
  refine V_iload_n (pc := 8) hk dX2_whenToGo_8 3 rfl ?_
  refine V_bipush (pc := 9) (v := 60) hk dX2_whenToGo_9 rfl ?_
  refine V_icmp_gt (pc := 11) (tgt := 49) hk dX2_whenToGo_11 rfl ?_ ?_
  · refine V_iload_n (pc := 49) hk dX2_whenToGo_49 1 rfl ?_
    exact V_ireturn (pc := 50) hk hR rfl dX2_whenToGo_50
  · refine V_aload_n (pc := 14) hk dX2_whenToGo_14 0 rfl ?_
    refine n_X2_379 (pc := 15) hk (fun b r h => ctX2_begin (fl y) (fK y) hk.2.2.2.2.2.2.2.1 b w r h) ⟨Nat.le_of_ble_eq_true rfl, Nat.le_of_ble_eq_true rfl⟩ (Nat.le_of_ble_eq_true rfl) dX2_whenToGo_15 (fun r1 => ?_)
    refine V_aload_n (pc := 18) hk dX2_whenToGo_18 0 rfl ?_
    refine V_iload_n (pc := 19) hk dX2_whenToGo_19 3 rfl ?_
    refine n_X2_430 (pc := 20) hk (fun b r h => ctX2_goneBy (fl y) (fK y) hk.2.2.2.2.2.2.2.1 b l3 r1.2 r h) ⟨Nat.le_of_ble_eq_true rfl, Nat.le_of_ble_eq_true rfl⟩ (Nat.le_of_ble_eq_true rfl) dX2_whenToGo_20 (fun r3 => ?_)
    refine V_istore (pc := 23) (lc' := [(4, .int r3.1), (0, va_rf l0), (1, .int l1), (2, .int l2), (3, .int l3)]) (i := 4) hk dX2_whenToGo_23 (Nat.le_of_ble_eq_true rfl) rfl ?_
    refine V_aload_n (pc := 25) hk dX2_whenToGo_25 1 rfl ?_
    refine n_X2_382 (pc := 26) hk (fun b r h => ctX2_putBack (fl y) (fK y) hk.2.2.2.2.2.2.2.1 b r3.2 r h) ⟨Nat.le_of_ble_eq_true rfl, Nat.le_of_ble_eq_true rfl⟩ (Nat.le_of_ble_eq_true rfl) dX2_whenToGo_26 (fun r5 => ?_)
    refine V_iload (pc := 29) hk dX2_whenToGo_29 0 rfl ?_
    refine V_iload_n (pc := 31) hk dX2_whenToGo_31 3 rfl ?_
    refine V_icmp_lt (pc := 32) (tgt := 38) hk dX2_whenToGo_32 rfl ?_ ?_
    · refine V_iload (pc := 38) hk dX2_whenToGo_38 0 rfl ?_
      refine V_istore_n (pc := 40) (lc' := [(2, .int r3.1), (4, .int r3.1), (0, va_rf l0), (1, .int l1), (3, .int l3)]) (i := 2) hk dX2_whenToGo_40 rfl (Nat.le_of_ble_eq_true rfl) rfl ?_
      refine V_iload_n (pc := 41) hk dX2_whenToGo_41 4 rfl ?_
      refine V_istore_n (pc := 42) (lc' := [(1, .int l3), (2, .int r3.1), (4, .int r3.1), (0, va_rf l0), (3, .int l3)]) (i := 1) hk dX2_whenToGo_42 rfl (Nat.le_of_ble_eq_true rfl) (by simp [rf_cat, cat_int, cat_long, cat_ref]) ?_
      refine V_iinc (pc := 43) (v := 1) (lc' := [(3, .int (l3 + 1)), (1, .int l3), (2, .int r3.1), (4, .int r3.1), (0, va_rf l0)]) hk dX2_whenToGo_43 4 rfl rfl (Nat.le_of_ble_eq_true rfl) rfl ?_
      refine V_goto (pc := 46) (tgt := 8) hk dX2_whenToGo_46 rfl ?_
      refine V_pick (lc' := [(0, va_rf l0), (1, .int l3), (2, .int r3.1), (3, .int (l3 + 1))]) [4, 1, 2, 0] rfl ?_
      exact h8 r5.2 l0 l3 r3.1 (l3 + 1)
    · refine V_goto (pc := 35) (tgt := 43) hk dX2_whenToGo_35 rfl ?_
      refine V_iinc (pc := 43) (v := 1) (lc' := [(3, .int (l3 + 1)), (4, .int r3.1), (0, va_rf l0), (1, .int l1), (2, .int l2)]) hk dX2_whenToGo_43 4 rfl rfl (Nat.le_of_ble_eq_true rfl) rfl ?_
      refine V_goto (pc := 46) (tgt := 8) hk dX2_whenToGo_46 rfl ?_
      refine V_pick (lc' := [(0, va_rf l0), (1, .int l1), (2, .int l2), (3, .int (l3 + 1))]) [2, 3, 4, 0] rfl ?_
      exact h8 r5.2 l0 l1 l2 (l3 + 1)
theorem eX2_whenToGo_l8 {y : Fx (Int32 × Wd)} (hk : OkF y RX2 cX2_whenToGo 5 9 226) (hR : RetM y rvI (some (.int))) : ∀ (n : Nat) (w : Wd) (l0 : Option Nat) (l1 : Int32) (l2 : Int32) (l3 : Int32), V y w [(0, va_rf l0), (1, .int l1), (2, .int l2), (3, .int l3)] [] 8 (mX2_whenToGo_l8 n w l0 l1 l2 l3) := by
  intro n
  induction n with
  | zero => intro w l0 l1 l2 l3; exact V_none
  | succ n ih => intro w l0 l1 l2 l3; exact eX2_whenToGo_b8 hk hR ih w l0 l1 l2 l3
theorem eX2_whenToGo {y : Fx (Int32 × Wd)} (hk : OkF y RX2 cX2_whenToGo 5 9 226) (hR : RetM y rvI (some (.int))) (this : Nat) (w : Wd) : V y w [(0, va_rf (some this))] [] 0 (mX2_whenToGo this w) := by
  unfold mX2_whenToGo
  refine V_iconst (pc := 0) (v := (-1)) hk dX2_whenToGo_0 (by decide +kernel) ?_
  refine V_istore_n (pc := 1) (lc' := [(1, .int (-1)), (0, va_rf ((some this)))]) (i := 1) hk dX2_whenToGo_1 rfl (Nat.le_of_ble_eq_true rfl) (by simp [rf_cat, cat_int, cat_long, cat_ref]) ?_
  refine V_ldcw (pc := 2) (v := 100000000) hk dX2_whenToGo_2 q1839 ?_
  refine V_istore_n (pc := 5) (lc' := [(2, .int 100000000), (1, .int (-1)), (0, va_rf ((some this)))]) (i := 2) hk dX2_whenToGo_5 rfl (Nat.le_of_ble_eq_true rfl) rfl ?_
  refine V_iconst (pc := 6) (v := 0) hk dX2_whenToGo_6 rfl ?_
  refine V_istore_n (pc := 7) (lc' := [(3, .int 0), (2, .int 100000000), (1, .int (-1)), (0, va_rf ((some this)))]) (i := 3) hk dX2_whenToGo_7 rfl (Nat.le_of_ble_eq_true rfl) rfl ?_
  refine V_pick (lc' := [(0, va_rf ((some this))), (1, .int (-1)), (2, .int 100000000), (3, .int 0)]) [3, 2, 1, 0] rfl ?_
  exact eX2_whenToGo_l8 hk hR FU w ((some this)) (-1) 100000000 0
theorem ctX2_whenToGo (l : Launch) (K : Kx) (hI : Ini K) (b : Nat) (w : Wd) : ∀ r, mX2_whenToGo b w = some r → Ct l K 9 226 yX2_whenToGo (ws_ yX2_whenToGo cX2_whenToGo 5 (some (.int))) [.ref b] w (rvI r.1) r.2 := Ct_of rvI l K hI 9 226 [.ref b] w (by decide) (lc0 := [(0, .ref b)]) rfl (Nat.le_of_ble_eq_true rfl) (fun y hk hR _ _ hin => eX2_whenToGo hk hR b w)
noncomputable def mX2_whichRope_b8 (k8 : Wd → (Option Nat) → Int32 → Int32 → Int32 → Option (Int32 × Wd)) (w : Wd) (l0 : Option Nat) (l1 : Int32) (l2 : Int32) (l3 : Int32) : Option (Int32 × Wd) :=
if 25 ≤ l3 then (
some (l1, w))
else (
(recv w l0 2).bind fun b2 => (cal w (mX2_begin b2 w)).bind fun r1 =>
(gR r1.2 l0 2 0).bind fun v3 =>
(ias r1.2 v3 12 l3).bind fun w4 =>
(recv w4 l0 2).bind fun b6 => (cal w4 (mX2_goneBy b6 0 w4)).bind fun r5 =>
(recv r5.2 l0 2).bind fun b8 => (cal r5.2 (mX2_putBack b8 r5.2)).bind fun r7 =>
if r5.1 < l2 then (
k8 r7.2 l0 l3 r5.1 (l3 + 1))
else (
k8 r7.2 l0 l1 l2 (l3 + 1)))
noncomputable def mX2_whichRope_l8 : Nat → Wd → (Option Nat) → Int32 → Int32 → Int32 → Option (Int32 × Wd)
  | 0, _, _, _, _, _ => none
  | n + 1, w, l0, l1, l2, l3 => mX2_whichRope_b8 (mX2_whichRope_l8 n) w l0 l1 l2 l3
noncomputable def mX2_whichRope (this : Nat) (w : Wd) : Option (Int32 × Wd) :=
mX2_whichRope_l8 FU w ((some this)) (-1) 100000000 1
theorem eX2_whichRope_b8 {y : Fx (Int32 × Wd)} (hk : OkF y RX2 cX2_whichRope 5 9 226) (hR : RetM y rvI (some (.int))) {k8 : Wd → (Option Nat) → Int32 → Int32 → Int32 → Option (Int32 × Wd)} (h8 : ∀ (w : Wd) (l0 : Option Nat) (l1 : Int32) (l2 : Int32) (l3 : Int32), V y w [(0, va_rf l0), (1, .int l1), (2, .int l2), (3, .int l3)] [] 8 (k8 w l0 l1 l2 l3)) (w : Wd) (l0 : Option Nat) (l1 : Int32) (l2 : Int32) (l3 : Int32) : V y w [(0, va_rf l0), (1, .int l1), (2, .int l2), (3, .int l3)] [] 8 (mX2_whichRope_b8 k8 w l0 l1 l2 l3) := by
  unfold mX2_whichRope_b8
  refine V_iload_n (pc := 8) hk dX2_whichRope_8 3 rfl ?_
  refine V_bipush (pc := 9) (v := 25) hk dX2_whichRope_9 rfl ?_
  refine V_icmp_ge (pc := 11) (tgt := 57) hk dX2_whichRope_11 rfl ?_ ?_
  · refine V_iload_n (pc := 57) hk dX2_whichRope_57 1 rfl ?_
    exact V_ireturn (pc := 58) hk hR rfl dX2_whichRope_58
  · refine V_aload_n (pc := 14) hk dX2_whichRope_14 0 rfl ?_
    refine n_X2_379 (pc := 15) hk (fun b r h => ctX2_begin (fl y) (fK y) hk.2.2.2.2.2.2.2.1 b w r h) ⟨Nat.le_of_ble_eq_true rfl, Nat.le_of_ble_eq_true rfl⟩ (Nat.le_of_ble_eq_true rfl) dX2_whichRope_15 (fun r1 => ?_)
    refine V_aload_n (pc := 18) hk dX2_whichRope_18 0 rfl ?_
    refine g_X2_7 (pc := 19) hk dX2_whichRope_19 (fun v3 => ?_)
    refine V_bipush (pc := 22) (v := 12) hk dX2_whichRope_22 rfl ?_
    refine V_iload_n (pc := 24) hk dX2_whichRope_24 3 rfl ?_
    refine V_iastore (pc := 25) hk dX2_whichRope_25 (fun w4 => ?_)
    refine V_aload_n (pc := 26) hk dX2_whichRope_26 0 rfl ?_
    refine V_iconst (pc := 27) (v := 0) hk dX2_whichRope_27 rfl ?_
    refine n_X2_430 (pc := 28) hk (fun b r h => ctX2_goneBy (fl y) (fK y) hk.2.2.2.2.2.2.2.1 b 0 w4 r h) ⟨Nat.le_of_ble_eq_true rfl, Nat.le_of_ble_eq_true rfl⟩ (Nat.le_of_ble_eq_true rfl) dX2_whichRope_28 (fun r5 => ?_)
    refine V_istore (pc := 31) (lc' := [(4, .int r5.1), (0, va_rf l0), (1, .int l1), (2, .int l2), (3, .int l3)]) (i := 4) hk dX2_whichRope_31 (Nat.le_of_ble_eq_true rfl) rfl ?_
    refine V_aload_n (pc := 33) hk dX2_whichRope_33 1 rfl ?_
    refine n_X2_382 (pc := 34) hk (fun b r h => ctX2_putBack (fl y) (fK y) hk.2.2.2.2.2.2.2.1 b r5.2 r h) ⟨Nat.le_of_ble_eq_true rfl, Nat.le_of_ble_eq_true rfl⟩ (Nat.le_of_ble_eq_true rfl) dX2_whichRope_34 (fun r7 => ?_)
    refine V_iload (pc := 37) hk dX2_whichRope_37 0 rfl ?_
    refine V_iload_n (pc := 39) hk dX2_whichRope_39 3 rfl ?_
    refine V_icmp_lt (pc := 40) (tgt := 46) hk dX2_whichRope_40 rfl ?_ ?_
    · refine V_iload (pc := 46) hk dX2_whichRope_46 0 rfl ?_
      refine V_istore_n (pc := 48) (lc' := [(2, .int r5.1), (4, .int r5.1), (0, va_rf l0), (1, .int l1), (3, .int l3)]) (i := 2) hk dX2_whichRope_48 rfl (Nat.le_of_ble_eq_true rfl) rfl ?_
      refine V_iload_n (pc := 49) hk dX2_whichRope_49 4 rfl ?_
      refine V_istore_n (pc := 50) (lc' := [(1, .int l3), (2, .int r5.1), (4, .int r5.1), (0, va_rf l0), (3, .int l3)]) (i := 1) hk dX2_whichRope_50 rfl (Nat.le_of_ble_eq_true rfl) (by simp [rf_cat, cat_int, cat_long, cat_ref]) ?_
      refine V_iinc (pc := 51) (v := 1) (lc' := [(3, .int (l3 + 1)), (1, .int l3), (2, .int r5.1), (4, .int r5.1), (0, va_rf l0)]) hk dX2_whichRope_51 4 rfl rfl (Nat.le_of_ble_eq_true rfl) rfl ?_
      refine V_goto (pc := 54) (tgt := 8) hk dX2_whichRope_54 rfl ?_
      refine V_pick (lc' := [(0, va_rf l0), (1, .int l3), (2, .int r5.1), (3, .int (l3 + 1))]) [4, 1, 2, 0] rfl ?_
      exact h8 r7.2 l0 l3 r5.1 (l3 + 1)
    · refine V_goto (pc := 43) (tgt := 51) hk dX2_whichRope_43 rfl ?_
      refine V_iinc (pc := 51) (v := 1) (lc' := [(3, .int (l3 + 1)), (4, .int r5.1), (0, va_rf l0), (1, .int l1), (2, .int l2)]) hk dX2_whichRope_51 4 rfl rfl (Nat.le_of_ble_eq_true rfl) rfl ?_
      refine V_goto (pc := 54) (tgt := 8) hk dX2_whichRope_54 rfl ?_
      refine V_pick (lc' := [(0, va_rf l0), (1, .int l1), (2, .int l2), (3, .int (l3 + 1))]) [2, 3, 4, 0] rfl ?_
      exact h8 r7.2 l0 l1 l2 (l3 + 1)
theorem eX2_whichRope_l8 {y : Fx (Int32 × Wd)} (hk : OkF y RX2 cX2_whichRope 5 9 226) (hR : RetM y rvI (some (.int))) : ∀ (n : Nat) (w : Wd) (l0 : Option Nat) (l1 : Int32) (l2 : Int32) (l3 : Int32), V y w [(0, va_rf l0), (1, .int l1), (2, .int l2), (3, .int l3)] [] 8 (mX2_whichRope_l8 n w l0 l1 l2 l3) := by
  intro n
  induction n with
  | zero => intro w l0 l1 l2 l3; exact V_none
  | succ n ih => intro w l0 l1 l2 l3; exact eX2_whichRope_b8 hk hR ih w l0 l1 l2 l3
theorem eX2_whichRope {y : Fx (Int32 × Wd)} (hk : OkF y RX2 cX2_whichRope 5 9 226) (hR : RetM y rvI (some (.int))) (this : Nat) (w : Wd) : V y w [(0, va_rf (some this))] [] 0 (mX2_whichRope this w) := by
  unfold mX2_whichRope
  refine V_iconst (pc := 0) (v := (-1)) hk dX2_whichRope_0 (by decide +kernel) ?_
  refine V_istore_n (pc := 1) (lc' := [(1, .int (-1)), (0, va_rf ((some this)))]) (i := 1) hk dX2_whichRope_1 rfl (Nat.le_of_ble_eq_true rfl) (by simp [rf_cat, cat_int, cat_long, cat_ref]) ?_
  refine V_ldcw (pc := 2) (v := 100000000) hk dX2_whichRope_2 q1839 ?_
  refine V_istore_n (pc := 5) (lc' := [(2, .int 100000000), (1, .int (-1)), (0, va_rf ((some this)))]) (i := 2) hk dX2_whichRope_5 rfl (Nat.le_of_ble_eq_true rfl) rfl ?_
  refine V_iconst (pc := 6) (v := 1) hk dX2_whichRope_6 rfl ?_
  refine V_istore_n (pc := 7) (lc' := [(3, .int 1), (2, .int 100000000), (1, .int (-1)), (0, va_rf ((some this)))]) (i := 3) hk dX2_whichRope_7 rfl (Nat.le_of_ble_eq_true rfl) rfl ?_
  refine V_pick (lc' := [(0, va_rf ((some this))), (1, .int (-1)), (2, .int 100000000), (3, .int 1)]) [3, 2, 1, 0] rfl ?_
  exact eX2_whichRope_l8 hk hR FU w ((some this)) (-1) 100000000 1
theorem ctX2_whichRope (l : Launch) (K : Kx) (hI : Ini K) (b : Nat) (w : Wd) : ∀ r, mX2_whichRope b w = some r → Ct l K 9 226 yX2_whichRope (ws_ yX2_whichRope cX2_whichRope 5 (some (.int))) [.ref b] w (rvI r.1) r.2 := Ct_of rvI l K hI 9 226 [.ref b] w (by decide) (lc0 := [(0, .ref b)]) rfl (Nat.le_of_ble_eq_true rfl) (fun y hk hR _ _ hin => eX2_whichRope hk hR b w)
noncomputable def mX2_bar (this : Nat) (a0 : Int32) (a1 : Int32) (a2 : Int32) (a3 : Int32) (w : Wd) : Option (Int32 × Wd) :=
if ¬ a0 = (-1) then (
(cal w (mX2_isIn a0 0 600 w)).bind fun r1 =>
if r1.1 = 0 then (
some ((-2), r1.2))
else (
(cal r1.2 (mX2_isIn a1 a0 600 r1.2)).bind fun r2 =>
if r2.1 = 0 then (
some ((-2), r2.2))
else (
(cal r2.2 (mX2_isIn a2 0 9999 r2.2)).bind fun r3 =>
if r3.1 = 0 then (
some ((-2), r3.2))
else (
(cal r3.2 (mX2_isIn a3 a2 9999 r3.2)).bind fun r4 =>
if r4.1 = 0 then (
some ((-2), r4.2))
else (
(gR r4.2 ((some this)) 2 0).bind fun v5 =>
(ia r4.2 v5 18).bind fun v6 =>
if ¬ v6 = 4 then (
(gR r4.2 ((some this)) 2 0).bind fun v7 =>
(ia r4.2 v7 18).bind fun v8 =>
(gR r4.2 ((some this)) 2 0).bind fun v9 =>
(ias r4.2 v9 (9818 + (4 * v8)) a0).bind fun w10 =>
(gR w10 ((some this)) 2 0).bind fun v11 =>
(ias w10 v11 ((9818 + (4 * v8)) + 1) a1).bind fun w12 =>
(gR w12 ((some this)) 2 0).bind fun v13 =>
(ias w12 v13 ((9818 + (4 * v8)) + 2) a2).bind fun w14 =>
(gR w14 ((some this)) 2 0).bind fun v15 =>
(ias w14 v15 ((9818 + (4 * v8)) + 3) a3).bind fun w16 =>
(gR w16 ((some this)) 2 0).bind fun v17 =>
(ia w16 v17 18).bind fun v18 =>
(ias w16 v17 18 (v18 + 1)).bind fun w19 =>
(gR w19 ((some this)) 2 0).bind fun v20 =>
(ia w19 v20 18).bind fun v21 =>
some (v21, w19))
else (
some ((-2), r4.2)))))))
else (
(gR w ((some this)) 2 0).bind fun v22 =>
(ias w v22 18 0).bind fun w23 =>
some (0, w23))
theorem eX2_bar {y : Fx (Int32 × Wd)} (hk : OkF y RX2 cX2_bar 6 3 82) (hR : RetM y rvI (some (.int))) (this : Nat) (a0 : Int32) (a1 : Int32) (a2 : Int32) (a3 : Int32) (w : Wd) : V y w [(0, va_rf (some this)), (1, .int a0), (2, .int a1), (3, .int a2), (4, .int a3)] [] 0 (mX2_bar this a0 a1 a2 a3 w) := by
  unfold mX2_bar
  refine V_iload_n (pc := 0) hk dX2_bar_0 1 rfl ?_
  refine V_iconst (pc := 1) (v := (-1)) hk dX2_bar_1 (by decide +kernel) ?_
  refine V_icmp_ne (pc := 2) (tgt := 15) hk dX2_bar_2 rfl ?_ ?_
  · refine V_iload_n (pc := 15) hk dX2_bar_15 1 rfl ?_
    refine V_iconst (pc := 16) (v := 0) hk dX2_bar_16 rfl ?_
    refine V_sipush (pc := 17) (v := 600) hk dX2_bar_17 rfl ?_
    refine n_X2_71 (pc := 20) hk (fun r h => ctX2_isIn (fl y) (fK y) hk.2.2.2.2.2.2.2.1 a0 0 600 w r h) ⟨Nat.le_of_ble_eq_true rfl, Nat.le_of_ble_eq_true rfl⟩ (Nat.le_of_ble_eq_true rfl) dX2_bar_20 (fun r1 => ?_)
    refine V_if_eq (pc := 23) (tgt := 71) hk dX2_bar_23 rfl ?_ ?_
    · refine V_bipush (pc := 71) (v := (-2)) hk dX2_bar_71 (by decide +kernel) ?_
      exact V_ireturn (pc := 73) hk hR rfl dX2_bar_73
    · refine V_iload_n (pc := 26) hk dX2_bar_26 2 rfl ?_
      refine V_iload_n (pc := 27) hk dX2_bar_27 1 rfl ?_
      refine V_sipush (pc := 28) (v := 600) hk dX2_bar_28 rfl ?_
      refine n_X2_71 (pc := 31) hk (fun r h => ctX2_isIn (fl y) (fK y) hk.2.2.2.2.2.2.2.1 a1 a0 600 r1.2 r h) ⟨Nat.le_of_ble_eq_true rfl, Nat.le_of_ble_eq_true rfl⟩ (Nat.le_of_ble_eq_true rfl) dX2_bar_31 (fun r2 => ?_)
      refine V_if_eq (pc := 34) (tgt := 71) hk dX2_bar_34 rfl ?_ ?_
      · refine V_bipush (pc := 71) (v := (-2)) hk dX2_bar_71 (by decide +kernel) ?_
        exact V_ireturn (pc := 73) hk hR rfl dX2_bar_73
      · refine V_iload_n (pc := 37) hk dX2_bar_37 3 rfl ?_
        refine V_iconst (pc := 38) (v := 0) hk dX2_bar_38 rfl ?_
        refine V_sipush (pc := 39) (v := 9999) hk dX2_bar_39 rfl ?_
        refine n_X2_71 (pc := 42) hk (fun r h => ctX2_isIn (fl y) (fK y) hk.2.2.2.2.2.2.2.1 a2 0 9999 r2.2 r h) ⟨Nat.le_of_ble_eq_true rfl, Nat.le_of_ble_eq_true rfl⟩ (Nat.le_of_ble_eq_true rfl) dX2_bar_42 (fun r3 => ?_)
        refine V_if_eq (pc := 45) (tgt := 71) hk dX2_bar_45 rfl ?_ ?_
        · refine V_bipush (pc := 71) (v := (-2)) hk dX2_bar_71 (by decide +kernel) ?_
          exact V_ireturn (pc := 73) hk hR rfl dX2_bar_73
        · refine V_iload (pc := 48) hk dX2_bar_48 4 rfl ?_
          refine V_iload_n (pc := 50) hk dX2_bar_50 3 rfl ?_
          refine V_sipush (pc := 51) (v := 9999) hk dX2_bar_51 rfl ?_
          refine n_X2_71 (pc := 54) hk (fun r h => ctX2_isIn (fl y) (fK y) hk.2.2.2.2.2.2.2.1 a3 a2 9999 r3.2 r h) ⟨Nat.le_of_ble_eq_true rfl, Nat.le_of_ble_eq_true rfl⟩ (Nat.le_of_ble_eq_true rfl) dX2_bar_54 (fun r4 => ?_)
          refine V_if_eq (pc := 57) (tgt := 71) hk dX2_bar_57 rfl ?_ ?_
          · refine V_bipush (pc := 71) (v := (-2)) hk dX2_bar_71 (by decide +kernel) ?_
            exact V_ireturn (pc := 73) hk hR rfl dX2_bar_73
          · refine V_aload_n (pc := 60) hk dX2_bar_60 0 rfl ?_
            refine g_X2_7 (pc := 61) hk dX2_bar_61 (fun v5 => ?_)
            refine V_bipush (pc := 64) (v := 18) hk dX2_bar_64 rfl ?_
            refine V_iaload (pc := 66) hk dX2_bar_66 (fun v6 => ?_)
            refine V_iconst (pc := 67) (v := 4) hk dX2_bar_67 rfl ?_
            refine V_icmp_ne (pc := 68) (tgt := 74) hk dX2_bar_68 rfl ?_ ?_
            · refine V_sipush (pc := 74) (v := 9818) hk dX2_bar_74 rfl ?_
              refine V_iconst (pc := 77) (v := 4) hk dX2_bar_77 rfl ?_
              refine V_aload_n (pc := 78) hk dX2_bar_78 0 rfl ?_
              refine g_X2_7 (pc := 79) hk dX2_bar_79 (fun v7 => ?_)
              refine V_bipush (pc := 82) (v := 18) hk dX2_bar_82 rfl ?_
              refine V_iaload (pc := 84) hk dX2_bar_84 (fun v8 => ?_)
              refine V_imul (pc := 85) hk dX2_bar_85 ?_
              refine V_iadd (pc := 86) hk dX2_bar_86 ?_
              refine V_istore (pc := 87) (lc' := [(5, .int (9818 + (4 * v8))), (0, va_rf ((some this))), (1, .int a0), (2, .int a1), (3, .int a2), (4, .int a3)]) (i := 5) hk dX2_bar_87 (Nat.le_of_ble_eq_true rfl) rfl ?_
              refine V_aload_n (pc := 89) hk dX2_bar_89 1 rfl ?_
              refine g_X2_7 (pc := 90) hk dX2_bar_90 (fun v9 => ?_)
              refine V_iload (pc := 93) hk dX2_bar_93 0 rfl ?_
              refine V_iload_n (pc := 95) hk dX2_bar_95 2 rfl ?_
              refine V_iastore (pc := 96) hk dX2_bar_96 (fun w10 => ?_)
              refine V_aload_n (pc := 97) hk dX2_bar_97 1 rfl ?_
              refine g_X2_7 (pc := 98) hk dX2_bar_98 (fun v11 => ?_)
              refine V_iload (pc := 101) hk dX2_bar_101 0 rfl ?_
              refine V_iconst (pc := 103) (v := 1) hk dX2_bar_103 rfl ?_
              refine V_iadd (pc := 104) hk dX2_bar_104 ?_
              refine V_iload_n (pc := 105) hk dX2_bar_105 3 rfl ?_
              refine V_iastore (pc := 106) hk dX2_bar_106 (fun w12 => ?_)
              refine V_aload_n (pc := 107) hk dX2_bar_107 1 rfl ?_
              refine g_X2_7 (pc := 108) hk dX2_bar_108 (fun v13 => ?_)
              refine V_iload (pc := 111) hk dX2_bar_111 0 rfl ?_
              refine V_iconst (pc := 113) (v := 2) hk dX2_bar_113 rfl ?_
              refine V_iadd (pc := 114) hk dX2_bar_114 ?_
              refine V_iload_n (pc := 115) hk dX2_bar_115 4 rfl ?_
              refine V_iastore (pc := 116) hk dX2_bar_116 (fun w14 => ?_)
              refine V_aload_n (pc := 117) hk dX2_bar_117 1 rfl ?_
              refine g_X2_7 (pc := 118) hk dX2_bar_118 (fun v15 => ?_)
              refine V_iload (pc := 121) hk dX2_bar_121 0 rfl ?_
              refine V_iconst (pc := 123) (v := 3) hk dX2_bar_123 rfl ?_
              refine V_iadd (pc := 124) hk dX2_bar_124 ?_
              refine V_iload (pc := 125) hk dX2_bar_125 5 rfl ?_
              refine V_iastore (pc := 127) hk dX2_bar_127 (fun w16 => ?_)
              refine V_aload_n (pc := 128) hk dX2_bar_128 1 rfl ?_
              refine g_X2_7 (pc := 129) hk dX2_bar_129 (fun v17 => ?_)
              refine V_bipush (pc := 132) (v := 18) hk dX2_bar_132 rfl ?_
              refine V_dup2 (pc := 134) hk dX2_bar_134 rfl (rf_cat _) ?_
              refine V_iaload (pc := 135) hk dX2_bar_135 (fun v18 => ?_)
              refine V_iconst (pc := 136) (v := 1) hk dX2_bar_136 rfl ?_
              refine V_iadd (pc := 137) hk dX2_bar_137 ?_
              refine V_iastore (pc := 138) hk dX2_bar_138 (fun w19 => ?_)
              refine V_aload_n (pc := 139) hk dX2_bar_139 1 rfl ?_
              refine g_X2_7 (pc := 140) hk dX2_bar_140 (fun v20 => ?_)
              refine V_bipush (pc := 143) (v := 18) hk dX2_bar_143 rfl ?_
              refine V_iaload (pc := 145) hk dX2_bar_145 (fun v21 => ?_)
              exact V_ireturn (pc := 146) hk hR rfl dX2_bar_146
            · refine V_bipush (pc := 71) (v := (-2)) hk dX2_bar_71 (by decide +kernel) ?_
              exact V_ireturn (pc := 73) hk hR rfl dX2_bar_73
  · refine V_aload_n (pc := 5) hk dX2_bar_5 0 rfl ?_
    refine g_X2_7 (pc := 6) hk dX2_bar_6 (fun v22 => ?_)
    refine V_bipush (pc := 9) (v := 18) hk dX2_bar_9 rfl ?_
    refine V_iconst (pc := 11) (v := 0) hk dX2_bar_11 rfl ?_
    refine V_iastore (pc := 12) hk dX2_bar_12 (fun w23 => ?_)
    refine V_iconst (pc := 13) (v := 0) hk dX2_bar_13 rfl ?_
    exact V_ireturn (pc := 14) hk hR rfl dX2_bar_14
theorem ctX2_bar (l : Launch) (K : Kx) (hI : Ini K) (b : Nat) (a0 : Int32) (a1 : Int32) (a2 : Int32) (a3 : Int32) (w : Wd) : ∀ r, mX2_bar b a0 a1 a2 a3 w = some r → Ct l K 3 82 yX2_bar (ws_ yX2_bar cX2_bar 6 (some (.int))) [.ref b, .int a0, .int a1, .int a2, .int a3] w (rvI r.1) r.2 := Ct_of rvI l K hI 3 82 [.ref b, .int a0, .int a1, .int a2, .int a3] w (by decide) (lc0 := [(0, .ref b), (1, .int a0), (2, .int a1), (3, .int a2), (4, .int a3)]) rfl (Nat.le_of_ble_eq_true rfl) (fun y hk hR _ _ hin => eX2_bar hk hR b a0 a1 a2 a3 w)
noncomputable def mX2_isBarred_b2 (k2 : Wd → (Option Nat) → Int32 → Option (Int32 × Wd)) (w : Wd) (l0 : Option Nat) (l1 : Int32) : Option (Int32 × Wd) :=
(gR w l0 2 0).bind fun v1 =>
(ia w v1 18).bind fun v2 =>
if v2 ≤ l1 then (
(nok (.boolean) 0).bind fun _ => some (0, w))
else (
(gR w l0 2 0).bind fun v3 =>
(ia w v3 8).bind fun v4 =>
(gR w l0 2 0).bind fun v5 =>
(ia w v5 (9818 + (4 * l1))).bind fun v6 =>
(gR w l0 2 0).bind fun v7 =>
(ia w v7 ((9818 + (4 * l1)) + 1)).bind fun v8 =>
(cal w (mX2_isIn v4 v6 v8 w)).bind fun r9 =>
if r9.1 = 0 then (
k2 r9.2 l0 (l1 + 1))
else (
(gR r9.2 l0 2 0).bind fun v10 =>
(ia r9.2 v10 16).bind fun v11 =>
(gR r9.2 l0 2 0).bind fun v12 =>
(ia r9.2 v12 ((9818 + (4 * l1)) + 2)).bind fun v13 =>
(gR r9.2 l0 2 0).bind fun v14 =>
(ia r9.2 v14 ((9818 + (4 * l1)) + 3)).bind fun v15 =>
(cal r9.2 (mX2_isIn v11 v13 v15 r9.2)).bind fun r16 =>
if r16.1 = 0 then (
k2 r16.2 l0 (l1 + 1))
else (
(nok (.boolean) 1).bind fun _ => some (1, r16.2))))
noncomputable def mX2_isBarred_l2 : Nat → Wd → (Option Nat) → Int32 → Option (Int32 × Wd)
  | 0, _, _, _ => none
  | n + 1, w, l0, l1 => mX2_isBarred_b2 (mX2_isBarred_l2 n) w l0 l1
noncomputable def mX2_isBarred (this : Nat) (w : Wd) : Option (Int32 × Wd) :=
mX2_isBarred_l2 FU w ((some this)) 0
theorem eX2_isBarred_b2 {y : Fx (Int32 × Wd)} (hk : OkF y RX2 cX2_isBarred 3 3 82) (hR : RetM y rvI (some (.boolean))) {k2 : Wd → (Option Nat) → Int32 → Option (Int32 × Wd)} (h2 : ∀ (w : Wd) (l0 : Option Nat) (l1 : Int32), V y w [(0, va_rf l0), (1, .int l1)] [] 2 (k2 w l0 l1)) (w : Wd) (l0 : Option Nat) (l1 : Int32) : V y w [(0, va_rf l0), (1, .int l1)] [] 2 (mX2_isBarred_b2 k2 w l0 l1) := by
  unfold mX2_isBarred_b2
  refine V_iload_n (pc := 2) hk dX2_isBarred_2 1 rfl ?_
  refine V_aload_n (pc := 3) hk dX2_isBarred_3 0 rfl ?_
  refine g_X2_7 (pc := 4) hk dX2_isBarred_4 (fun v1 => ?_)
  refine V_bipush (pc := 7) (v := 18) hk dX2_isBarred_7 rfl ?_
  refine V_iaload (pc := 9) hk dX2_isBarred_9 (fun v2 => ?_)
  refine V_icmp_ge (pc := 10) (tgt := 85) hk dX2_isBarred_10 rfl ?_ ?_
  · refine V_iconst (pc := 85) (v := 0) hk dX2_isBarred_85 rfl ?_
    exact V_zreturn (pc := 86) hk hR rfl dX2_isBarred_86
  · refine V_sipush (pc := 13) (v := 9818) hk dX2_isBarred_13 rfl ?_
    refine V_iconst (pc := 16) (v := 4) hk dX2_isBarred_16 rfl ?_
    refine V_iload_n (pc := 17) hk dX2_isBarred_17 1 rfl ?_
    refine V_imul (pc := 18) hk dX2_isBarred_18 ?_
    refine V_iadd (pc := 19) hk dX2_isBarred_19 ?_
    refine V_istore_n (pc := 20) (lc' := [(2, .int (9818 + (4 * l1))), (0, va_rf l0), (1, .int l1)]) (i := 2) hk dX2_isBarred_20 rfl (Nat.le_of_ble_eq_true rfl) rfl ?_
    refine V_aload_n (pc := 21) hk dX2_isBarred_21 1 rfl ?_
    refine g_X2_7 (pc := 22) hk dX2_isBarred_22 (fun v3 => ?_)
    refine V_bipush (pc := 25) (v := 8) hk dX2_isBarred_25 rfl ?_
    refine V_iaload (pc := 27) hk dX2_isBarred_27 (fun v4 => ?_)
    refine V_aload_n (pc := 28) hk dX2_isBarred_28 1 rfl ?_
    refine g_X2_7 (pc := 29) hk dX2_isBarred_29 (fun v5 => ?_)
    refine V_iload_n (pc := 32) hk dX2_isBarred_32 0 rfl ?_
    refine V_iaload (pc := 33) hk dX2_isBarred_33 (fun v6 => ?_)
    refine V_aload_n (pc := 34) hk dX2_isBarred_34 1 rfl ?_
    refine g_X2_7 (pc := 35) hk dX2_isBarred_35 (fun v7 => ?_)
    refine V_iload_n (pc := 38) hk dX2_isBarred_38 0 rfl ?_
    refine V_iconst (pc := 39) (v := 1) hk dX2_isBarred_39 rfl ?_
    refine V_iadd (pc := 40) hk dX2_isBarred_40 ?_
    refine V_iaload (pc := 41) hk dX2_isBarred_41 (fun v8 => ?_)
    refine n_X2_71 (pc := 42) hk (fun r h => ctX2_isIn (fl y) (fK y) hk.2.2.2.2.2.2.2.1 v4 v6 v8 w r h) ⟨Nat.le_of_ble_eq_true rfl, Nat.le_of_ble_eq_true rfl⟩ (Nat.le_of_ble_eq_true rfl) dX2_isBarred_42 (fun r9 => ?_)
    refine V_if_eq (pc := 45) (tgt := 79) hk dX2_isBarred_45 rfl ?_ ?_
    · refine V_iinc (pc := 79) (v := 1) (lc' := [(1, .int (l1 + 1)), (2, .int (9818 + (4 * l1))), (0, va_rf l0)]) hk dX2_isBarred_79 2 rfl rfl (Nat.le_of_ble_eq_true rfl) (by simp [rf_cat, cat_int, cat_long, cat_ref]) ?_
      refine V_goto (pc := 82) (tgt := 2) hk dX2_isBarred_82 rfl ?_
      refine V_pick (lc' := [(0, va_rf l0), (1, .int (l1 + 1))]) [2, 0] rfl ?_
      exact h2 r9.2 l0 (l1 + 1)
    · refine V_aload_n (pc := 48) hk dX2_isBarred_48 1 rfl ?_
      refine g_X2_7 (pc := 49) hk dX2_isBarred_49 (fun v10 => ?_)
      refine V_bipush (pc := 52) (v := 16) hk dX2_isBarred_52 rfl ?_
      refine V_iaload (pc := 54) hk dX2_isBarred_54 (fun v11 => ?_)
      refine V_aload_n (pc := 55) hk dX2_isBarred_55 1 rfl ?_
      refine g_X2_7 (pc := 56) hk dX2_isBarred_56 (fun v12 => ?_)
      refine V_iload_n (pc := 59) hk dX2_isBarred_59 0 rfl ?_
      refine V_iconst (pc := 60) (v := 2) hk dX2_isBarred_60 rfl ?_
      refine V_iadd (pc := 61) hk dX2_isBarred_61 ?_
      refine V_iaload (pc := 62) hk dX2_isBarred_62 (fun v13 => ?_)
      refine V_aload_n (pc := 63) hk dX2_isBarred_63 1 rfl ?_
      refine g_X2_7 (pc := 64) hk dX2_isBarred_64 (fun v14 => ?_)
      refine V_iload_n (pc := 67) hk dX2_isBarred_67 0 rfl ?_
      refine V_iconst (pc := 68) (v := 3) hk dX2_isBarred_68 rfl ?_
      refine V_iadd (pc := 69) hk dX2_isBarred_69 ?_
      refine V_iaload (pc := 70) hk dX2_isBarred_70 (fun v15 => ?_)
      refine n_X2_71 (pc := 71) hk (fun r h => ctX2_isIn (fl y) (fK y) hk.2.2.2.2.2.2.2.1 v11 v13 v15 r9.2 r h) ⟨Nat.le_of_ble_eq_true rfl, Nat.le_of_ble_eq_true rfl⟩ (Nat.le_of_ble_eq_true rfl) dX2_isBarred_71 (fun r16 => ?_)
      refine V_if_eq (pc := 74) (tgt := 79) hk dX2_isBarred_74 rfl ?_ ?_
      · refine V_iinc (pc := 79) (v := 1) (lc' := [(1, .int (l1 + 1)), (2, .int (9818 + (4 * l1))), (0, va_rf l0)]) hk dX2_isBarred_79 2 rfl rfl (Nat.le_of_ble_eq_true rfl) (by simp [rf_cat, cat_int, cat_long, cat_ref]) ?_
        refine V_goto (pc := 82) (tgt := 2) hk dX2_isBarred_82 rfl ?_
        refine V_pick (lc' := [(0, va_rf l0), (1, .int (l1 + 1))]) [2, 0] rfl ?_
        exact h2 r16.2 l0 (l1 + 1)
      · refine V_iconst (pc := 77) (v := 1) hk dX2_isBarred_77 rfl ?_
        exact V_zreturn (pc := 78) hk hR rfl dX2_isBarred_78
theorem eX2_isBarred_l2 {y : Fx (Int32 × Wd)} (hk : OkF y RX2 cX2_isBarred 3 3 82) (hR : RetM y rvI (some (.boolean))) : ∀ (n : Nat) (w : Wd) (l0 : Option Nat) (l1 : Int32), V y w [(0, va_rf l0), (1, .int l1)] [] 2 (mX2_isBarred_l2 n w l0 l1) := by
  intro n
  induction n with
  | zero => intro w l0 l1; exact V_none
  | succ n ih => intro w l0 l1; exact eX2_isBarred_b2 hk hR ih w l0 l1
theorem eX2_isBarred {y : Fx (Int32 × Wd)} (hk : OkF y RX2 cX2_isBarred 3 3 82) (hR : RetM y rvI (some (.boolean))) (this : Nat) (w : Wd) : V y w [(0, va_rf (some this))] [] 0 (mX2_isBarred this w) := by
  unfold mX2_isBarred
  refine V_iconst (pc := 0) (v := 0) hk dX2_isBarred_0 rfl ?_
  refine V_istore_n (pc := 1) (lc' := [(1, .int 0), (0, va_rf ((some this)))]) (i := 1) hk dX2_isBarred_1 rfl (Nat.le_of_ble_eq_true rfl) (by simp [rf_cat, cat_int, cat_long, cat_ref]) ?_
  refine V_pick (lc' := [(0, va_rf ((some this))), (1, .int 0)]) [1, 0] rfl ?_
  exact eX2_isBarred_l2 hk hR FU w ((some this)) 0
theorem ctX2_isBarred (l : Launch) (K : Kx) (hI : Ini K) (b : Nat) (w : Wd) : ∀ r, mX2_isBarred b w = some r → Ct l K 3 82 yX2_isBarred (ws_ yX2_isBarred cX2_isBarred 3 (some (.boolean))) [.ref b] w (rvI r.1) r.2 := Ct_of rvI l K hI 3 82 [.ref b] w (by decide) (lc0 := [(0, .ref b)]) rfl (Nat.le_of_ble_eq_true rfl) (fun y hk hR _ _ hin => eX2_isBarred hk hR b w)
noncomputable def mX2_barred_p71 (w : Wd) (l0 : Option Nat) (l3 : Int32) : Option (Int32 × Wd) :=
(recv w l0 2).bind fun b2 => (cal w (mX2_putBack b2 w)).bind fun r1 =>
some (l3, r1.2)
noncomputable def mX2_barred_p52 (k22 : Wd → (Option Nat) → Int32 → Int32 → Int32 → Int32 → Option (Int32 × Wd)) (w : Wd) (l0 : Option Nat) (l1 : Int32) (l2 : Int32) (l3 : Int32) (l4 : Int32) (t0 : Int32) (t1 : Option Nat) : Option (Int32 × Wd) :=
(recv w t1 2).bind fun b2 => (cal w (mX2_pass b2 t0 w)).bind fun r1 =>
(recv r1.2 l0 2).bind fun b4 => (cal r1.2 (mX2_isBarred b4 r1.2)).bind fun r3 =>
if r3.1 = 0 then (
k22 r3.2 l0 l1 l2 l3 (l4 + 1))
else (
k22 r3.2 l0 l1 l2 l4 (l4 + 1))
noncomputable def mX2_barred_b22 (k22 : Wd → (Option Nat) → Int32 → Int32 → Int32 → Int32 → Option (Int32 × Wd)) (w : Wd) (l0 : Option Nat) (l1 : Int32) (l2 : Int32) (l3 : Int32) (l4 : Int32) : Option (Int32 × Wd) :=
if l1 < l4 then (
mX2_barred_p71 w l0 l3)
else (
if ¬ l3 = (-1) then (
mX2_barred_p71 w l0 l3)
else (
if l2 = 0 then (
mX2_barred_p52 k22 w l0 l1 l2 l3 l4 0 l0)
else (
(gR w l0 2 0).bind fun v1 =>
(ia w v1 4).bind fun v2 =>
(recv w l0 2).bind fun b4 => (cal w (mX2_commandNow b4 v2 w)).bind fun r3 =>
mX2_barred_p52 k22 r3.2 l0 l1 l2 l3 l4 r3.1 l0)))
noncomputable def mX2_barred_l22 : Nat → Wd → (Option Nat) → Int32 → Int32 → Int32 → Int32 → Option (Int32 × Wd)
  | 0, _, _, _, _, _, _ => none
  | n + 1, w, l0, l1, l2, l3, l4 => mX2_barred_b22 (mX2_barred_l22 n) w l0 l1 l2 l3 l4
noncomputable def mX2_barred (this : Nat) (a0 : Int32) (a1 : Int32) (w : Wd) : Option (Int32 × Wd) :=
(cal w (mX2_isIn a0 1 200 w)).bind fun r1 =>
if ¬ r1.1 = 0 then (
(recv r1.2 ((some this)) 2).bind fun b3 => (cal r1.2 (mX2_begin b3 r1.2)).bind fun r2 =>
mX2_barred_l22 FU r2.2 ((some this)) a0 a1 (-1) 1)
else (
some ((-1), r1.2))
theorem eX2_barred_p71 {y : Fx (Int32 × Wd)} (hk : OkF y RX2 cX2_barred 5 7 181) (hR : RetM y rvI (some (.int))) (w : Wd) (l0 : Option Nat) (l3 : Int32) : V y w [(0, va_rf l0), (3, .int l3)] [] 71 (mX2_barred_p71 w l0 l3) := by
  unfold mX2_barred_p71
  refine V_aload_n (pc := 71) hk dX2_barred_71 0 rfl ?_
  refine n_X2_382 (pc := 72) hk (fun b r h => ctX2_putBack (fl y) (fK y) hk.2.2.2.2.2.2.2.1 b w r h) ⟨Nat.le_of_ble_eq_true rfl, Nat.le_of_ble_eq_true rfl⟩ (Nat.le_of_ble_eq_true rfl) dX2_barred_72 (fun r1 => ?_)
  refine V_iload_n (pc := 75) hk dX2_barred_75 1 rfl ?_
  exact V_ireturn (pc := 76) hk hR rfl dX2_barred_76
theorem eX2_barred_p52 {y : Fx (Int32 × Wd)} (hk : OkF y RX2 cX2_barred 5 7 181) (hR : RetM y rvI (some (.int))) {k22 : Wd → (Option Nat) → Int32 → Int32 → Int32 → Int32 → Option (Int32 × Wd)} (h22 : ∀ (w : Wd) (l0 : Option Nat) (l1 : Int32) (l2 : Int32) (l3 : Int32) (l4 : Int32), V y w [(0, va_rf l0), (1, .int l1), (2, .int l2), (3, .int l3), (4, .int l4)] [] 22 (k22 w l0 l1 l2 l3 l4)) (w : Wd) (l0 : Option Nat) (l1 : Int32) (l2 : Int32) (l3 : Int32) (l4 : Int32) (t0 : Int32) (t1 : Option Nat) : V y w [(0, va_rf l0), (1, .int l1), (2, .int l2), (3, .int l3), (4, .int l4)] [.int t0, va_rf t1] 52 (mX2_barred_p52 k22 w l0 l1 l2 l3 l4 t0 t1) := by
  unfold mX2_barred_p52
  refine n_X2_332 (pc := 52) hk (fun b r h => ctX2_pass (fl y) (fK y) hk.2.2.2.2.2.2.2.1 b t0 w r h) ⟨Nat.le_of_ble_eq_true rfl, Nat.le_of_ble_eq_true rfl⟩ (Nat.le_of_ble_eq_true rfl) dX2_barred_52 (fun r1 => ?_)
  refine V_aload_n (pc := 55) hk dX2_barred_55 0 rfl ?_
  refine n_X2_433 (pc := 56) hk (fun b r h => ctX2_isBarred (fl y) (fK y) hk.2.2.2.2.2.2.2.1 b r1.2 r h) ⟨Nat.le_of_ble_eq_true rfl, Nat.le_of_ble_eq_true rfl⟩ (Nat.le_of_ble_eq_true rfl) dX2_barred_56 (fun r3 => ?_)
  refine V_if_eq (pc := 59) (tgt := 65) hk dX2_barred_59 rfl ?_ ?_
  · refine V_iinc (pc := 65) (v := 1) (lc' := [(4, .int (l4 + 1)), (0, va_rf l0), (1, .int l1), (2, .int l2), (3, .int l3)]) hk dX2_barred_65 4 rfl rfl (Nat.le_of_ble_eq_true rfl) rfl ?_
    refine V_goto (pc := 68) (tgt := 22) hk dX2_barred_68 rfl ?_
    refine V_pick (lc' := [(0, va_rf l0), (1, .int l1), (2, .int l2), (3, .int l3), (4, .int (l4 + 1))]) [1, 2, 3, 4, 0] rfl ?_
    exact h22 r3.2 l0 l1 l2 l3 (l4 + 1)
  · refine V_iload (pc := 62) hk dX2_barred_62 4 rfl ?_
    refine V_istore_n (pc := 64) (lc' := [(3, .int l4), (0, va_rf l0), (1, .int l1), (2, .int l2), (4, .int l4)]) (i := 3) hk dX2_barred_64 rfl (Nat.le_of_ble_eq_true rfl) rfl ?_
    refine V_iinc (pc := 65) (v := 1) (lc' := [(4, .int (l4 + 1)), (3, .int l4), (0, va_rf l0), (1, .int l1), (2, .int l2)]) hk dX2_barred_65 4 rfl rfl (Nat.le_of_ble_eq_true rfl) rfl ?_
    refine V_goto (pc := 68) (tgt := 22) hk dX2_barred_68 rfl ?_
    refine V_pick (lc' := [(0, va_rf l0), (1, .int l1), (2, .int l2), (3, .int l4), (4, .int (l4 + 1))]) [2, 3, 4, 1, 0] rfl ?_
    exact h22 r3.2 l0 l1 l2 l4 (l4 + 1)
theorem eX2_barred_b22 {y : Fx (Int32 × Wd)} (hk : OkF y RX2 cX2_barred 5 7 181) (hR : RetM y rvI (some (.int))) {k22 : Wd → (Option Nat) → Int32 → Int32 → Int32 → Int32 → Option (Int32 × Wd)} (h22 : ∀ (w : Wd) (l0 : Option Nat) (l1 : Int32) (l2 : Int32) (l3 : Int32) (l4 : Int32), V y w [(0, va_rf l0), (1, .int l1), (2, .int l2), (3, .int l3), (4, .int l4)] [] 22 (k22 w l0 l1 l2 l3 l4)) (w : Wd) (l0 : Option Nat) (l1 : Int32) (l2 : Int32) (l3 : Int32) (l4 : Int32) : V y w [(0, va_rf l0), (1, .int l1), (2, .int l2), (3, .int l3), (4, .int l4)] [] 22 (mX2_barred_b22 k22 w l0 l1 l2 l3 l4) := by
  unfold mX2_barred_b22
  refine V_iload (pc := 22) hk dX2_barred_22 4 rfl ?_
  refine V_iload_n (pc := 24) hk dX2_barred_24 1 rfl ?_
  refine V_icmp_gt (pc := 25) (tgt := 71) hk dX2_barred_25 rfl ?_ ?_
  · refine V_pick (lc' := [(0, va_rf l0), (3, .int l3)]) [0, 3] rfl ?_
    exact eX2_barred_p71 hk hR w l0 l3
  · refine V_iload_n (pc := 28) hk dX2_barred_28 3 rfl ?_
    refine V_iconst (pc := 29) (v := (-1)) hk dX2_barred_29 (by decide +kernel) ?_
    refine V_icmp_ne (pc := 30) (tgt := 71) hk dX2_barred_30 rfl ?_ ?_
    · refine V_pick (lc' := [(0, va_rf l0), (3, .int l3)]) [0, 3] rfl ?_
      exact eX2_barred_p71 hk hR w l0 l3
    · refine V_aload_n (pc := 33) hk dX2_barred_33 0 rfl ?_
      refine V_iload_n (pc := 34) hk dX2_barred_34 2 rfl ?_
      refine V_if_eq (pc := 35) (tgt := 51) hk dX2_barred_35 rfl ?_ ?_
      · refine V_iconst (pc := 51) (v := 0) hk dX2_barred_51 rfl ?_
        exact eX2_barred_p52 hk hR h22 w l0 l1 l2 l3 l4 0 l0
      · refine V_aload_n (pc := 38) hk dX2_barred_38 0 rfl ?_
        refine V_aload_n (pc := 39) hk dX2_barred_39 0 rfl ?_
        refine g_X2_7 (pc := 40) hk dX2_barred_40 (fun v1 => ?_)
        refine V_iconst (pc := 43) (v := 4) hk dX2_barred_43 rfl ?_
        refine V_iaload (pc := 44) hk dX2_barred_44 (fun v2 => ?_)
        refine n_X2_338 (pc := 45) hk (fun b r h => ctX2_commandNow (fl y) (fK y) hk.2.2.2.2.2.2.2.1 b v2 w r h) ⟨Nat.le_of_ble_eq_true rfl, Nat.le_of_ble_eq_true rfl⟩ (by simp [rf_cat, cat_int, cat_long, cat_ref]) dX2_barred_45 (fun r3 => ?_)
        refine V_goto (pc := 48) (tgt := 52) hk dX2_barred_48 rfl ?_
        exact eX2_barred_p52 hk hR h22 r3.2 l0 l1 l2 l3 l4 r3.1 l0
theorem eX2_barred_l22 {y : Fx (Int32 × Wd)} (hk : OkF y RX2 cX2_barred 5 7 181) (hR : RetM y rvI (some (.int))) : ∀ (n : Nat) (w : Wd) (l0 : Option Nat) (l1 : Int32) (l2 : Int32) (l3 : Int32) (l4 : Int32), V y w [(0, va_rf l0), (1, .int l1), (2, .int l2), (3, .int l3), (4, .int l4)] [] 22 (mX2_barred_l22 n w l0 l1 l2 l3 l4) := by
  intro n
  induction n with
  | zero => intro w l0 l1 l2 l3 l4; exact V_none
  | succ n ih => intro w l0 l1 l2 l3 l4; exact eX2_barred_b22 hk hR ih w l0 l1 l2 l3 l4
theorem eX2_barred {y : Fx (Int32 × Wd)} (hk : OkF y RX2 cX2_barred 5 7 181) (hR : RetM y rvI (some (.int))) (this : Nat) (a0 : Int32) (a1 : Int32) (w : Wd) : V y w [(0, va_rf (some this)), (1, .int a0), (2, .int a1)] [] 0 (mX2_barred this a0 a1 w) := by
  unfold mX2_barred
  refine V_iload_n (pc := 0) hk dX2_barred_0 1 rfl ?_
  refine V_iconst (pc := 1) (v := 1) hk dX2_barred_1 rfl ?_
  refine V_sipush (pc := 2) (v := 200) hk dX2_barred_2 rfl ?_
  refine n_X2_71 (pc := 5) hk (fun r h => ctX2_isIn (fl y) (fK y) hk.2.2.2.2.2.2.2.1 a0 1 200 w r h) ⟨Nat.le_of_ble_eq_true rfl, Nat.le_of_ble_eq_true rfl⟩ (Nat.le_of_ble_eq_true rfl) dX2_barred_5 (fun r1 => ?_)
  refine V_if_ne (pc := 8) (tgt := 13) hk dX2_barred_8 rfl ?_ ?_
  · refine V_aload_n (pc := 13) hk dX2_barred_13 0 rfl ?_
    refine n_X2_379 (pc := 14) hk (fun b r h => ctX2_begin (fl y) (fK y) hk.2.2.2.2.2.2.2.1 b r1.2 r h) ⟨Nat.le_of_ble_eq_true rfl, Nat.le_of_ble_eq_true rfl⟩ (Nat.le_of_ble_eq_true rfl) dX2_barred_14 (fun r2 => ?_)
    refine V_iconst (pc := 17) (v := (-1)) hk dX2_barred_17 (by decide +kernel) ?_
    refine V_istore_n (pc := 18) (lc' := [(3, .int (-1)), (0, va_rf ((some this))), (1, .int a0), (2, .int a1)]) (i := 3) hk dX2_barred_18 rfl (Nat.le_of_ble_eq_true rfl) rfl ?_
    refine V_iconst (pc := 19) (v := 1) hk dX2_barred_19 rfl ?_
    refine V_istore (pc := 20) (lc' := [(4, .int 1), (3, .int (-1)), (0, va_rf ((some this))), (1, .int a0), (2, .int a1)]) (i := 4) hk dX2_barred_20 (Nat.le_of_ble_eq_true rfl) rfl ?_
    refine V_pick (lc' := [(0, va_rf ((some this))), (1, .int a0), (2, .int a1), (3, .int (-1)), (4, .int 1)]) [2, 3, 4, 1, 0] rfl ?_
    exact eX2_barred_l22 hk hR FU r2.2 ((some this)) a0 a1 (-1) 1
  · refine V_iconst (pc := 11) (v := (-1)) hk dX2_barred_11 (by decide +kernel) ?_
    exact V_ireturn (pc := 12) hk hR rfl dX2_barred_12
theorem ctX2_barred (l : Launch) (K : Kx) (hI : Ini K) (b : Nat) (a0 : Int32) (a1 : Int32) (w : Wd) : ∀ r, mX2_barred b a0 a1 w = some r → Ct l K 7 181 yX2_barred (ws_ yX2_barred cX2_barred 5 (some (.int))) [.ref b, .int a0, .int a1] w (rvI r.1) r.2 := Ct_of rvI l K hI 7 181 [.ref b, .int a0, .int a1] w (by decide) (lc0 := [(0, .ref b), (1, .int a0), (2, .int a1)]) rfl (Nat.le_of_ble_eq_true rfl) (fun y hk hR _ _ hin => eX2_barred hk hR b a0 a1 w)
noncomputable def mX2_isTooMuch_p63 (w : Wd) (l0 : Option Nat) (l4 : Int32) : Option (Int32 × Wd) :=
(recv w l0 2).bind fun b2 => (cal w (mX2_putBack b2 w)).bind fun r1 =>
(nok (.boolean) l4).bind fun _ => some (l4, r1.2)
noncomputable def mX2_isTooMuch_b23 (k23 : Wd → (Option Nat) → Int32 → Int32 → Int32 → Int32 → Option (Int32 × Wd)) (w : Wd) (l0 : Option Nat) (l2 : Int32) (l3 : Int32) (l4 : Int32) (l5 : Int32) : Option (Int32 × Wd) :=
if l2 ≤ l5 then (
mX2_isTooMuch_p63 w l0 l4)
else (
if ¬ l4 = 0 then (
mX2_isTooMuch_p63 w l0 l4)
else (
(recv w l0 2).bind fun b2 => (cal w (mX2_pass b2 0 w)).bind fun r1 =>
(recv r1.2 l0 2).bind fun b4 => (cal r1.2 (mX2_away b4 r1.2)).bind fun r3 =>
(cal r3.2 (mX2_sizeOf r3.1 r3.2)).bind fun r5 =>
if r5.1 ≤ l3 then (
k23 r5.2 l0 l2 l3 0 (l5 + 1))
else (
k23 r5.2 l0 l2 l3 1 (l5 + 1))))
noncomputable def mX2_isTooMuch_l23 : Nat → Wd → (Option Nat) → Int32 → Int32 → Int32 → Int32 → Option (Int32 × Wd)
  | 0, _, _, _, _, _, _ => none
  | n + 1, w, l0, l2, l3, l4, l5 => mX2_isTooMuch_b23 (mX2_isTooMuch_l23 n) w l0 l2 l3 l4 l5
noncomputable def mX2_isTooMuch (this : Nat) (a0 : Int32) (a1 : Int32) (a2 : Int32) (w : Wd) : Option (Int32 × Wd) :=
(recv w ((some this)) 2).bind fun b2 => (cal w (mX2_begin b2 w)).bind fun r1 =>
(gR r1.2 ((some this)) 2 0).bind fun v3 =>
(ias r1.2 v3 14 a0).bind fun w4 =>
(zok 1).bind fun _ => (pf w4 ((some this)) 2 25 (.int 1)).bind fun w5 =>
mX2_isTooMuch_l23 FU w5 ((some this)) a1 a2 0 0
theorem eX2_isTooMuch_p63 {y : Fx (Int32 × Wd)} (hk : OkF y RX2 cX2_isTooMuch 6 7 181) (hR : RetM y rvI (some (.boolean))) (w : Wd) (l0 : Option Nat) (l4 : Int32) : V y w [(0, va_rf l0), (4, .int l4)] [] 63 (mX2_isTooMuch_p63 w l0 l4) := by
  unfold mX2_isTooMuch_p63
  refine V_aload_n (pc := 63) hk dX2_isTooMuch_63 0 rfl ?_
  refine n_X2_382 (pc := 64) hk (fun b r h => ctX2_putBack (fl y) (fK y) hk.2.2.2.2.2.2.2.1 b w r h) ⟨Nat.le_of_ble_eq_true rfl, Nat.le_of_ble_eq_true rfl⟩ (Nat.le_of_ble_eq_true rfl) dX2_isTooMuch_64 (fun r1 => ?_)
  refine V_iload (pc := 67) hk dX2_isTooMuch_67 1 rfl ?_
  exact V_zreturn (pc := 69) hk hR rfl dX2_isTooMuch_69
theorem eX2_isTooMuch_b23 {y : Fx (Int32 × Wd)} (hk : OkF y RX2 cX2_isTooMuch 6 7 181) (hR : RetM y rvI (some (.boolean))) {k23 : Wd → (Option Nat) → Int32 → Int32 → Int32 → Int32 → Option (Int32 × Wd)} (h23 : ∀ (w : Wd) (l0 : Option Nat) (l2 : Int32) (l3 : Int32) (l4 : Int32) (l5 : Int32), V y w [(0, va_rf l0), (2, .int l2), (3, .int l3), (4, .int l4), (5, .int l5)] [] 23 (k23 w l0 l2 l3 l4 l5)) (w : Wd) (l0 : Option Nat) (l2 : Int32) (l3 : Int32) (l4 : Int32) (l5 : Int32) : V y w [(0, va_rf l0), (2, .int l2), (3, .int l3), (4, .int l4), (5, .int l5)] [] 23 (mX2_isTooMuch_b23 k23 w l0 l2 l3 l4 l5) := by
  unfold mX2_isTooMuch_b23
  refine V_iload (pc := 23) hk dX2_isTooMuch_23 4 rfl ?_
  refine V_iload_n (pc := 25) hk dX2_isTooMuch_25 1 rfl ?_
  refine V_icmp_ge (pc := 26) (tgt := 63) hk dX2_isTooMuch_26 rfl ?_ ?_
  · refine V_pick (lc' := [(0, va_rf l0), (4, .int l4)]) [0, 3] rfl ?_
    exact eX2_isTooMuch_p63 hk hR w l0 l4
  · refine V_iload (pc := 29) hk dX2_isTooMuch_29 3 rfl ?_
    refine V_if_ne (pc := 31) (tgt := 63) hk dX2_isTooMuch_31 rfl ?_ ?_
    · refine V_pick (lc' := [(0, va_rf l0), (4, .int l4)]) [0, 3] rfl ?_
      exact eX2_isTooMuch_p63 hk hR w l0 l4
    · refine V_aload_n (pc := 34) hk dX2_isTooMuch_34 0 rfl ?_
      refine V_iconst (pc := 35) (v := 0) hk dX2_isTooMuch_35 rfl ?_
      refine n_X2_332 (pc := 36) hk (fun b r h => ctX2_pass (fl y) (fK y) hk.2.2.2.2.2.2.2.1 b 0 w r h) ⟨Nat.le_of_ble_eq_true rfl, Nat.le_of_ble_eq_true rfl⟩ (Nat.le_of_ble_eq_true rfl) dX2_isTooMuch_36 (fun r1 => ?_)
      refine V_aload_n (pc := 39) hk dX2_isTooMuch_39 0 rfl ?_
      refine n_X2_292 (pc := 40) hk (fun b r h => ctX2_away (fl y) (fK y) hk.2.2.2.2.2.2.2.1 b r1.2 r h) ⟨Nat.le_of_ble_eq_true rfl, Nat.le_of_ble_eq_true rfl⟩ (Nat.le_of_ble_eq_true rfl) dX2_isTooMuch_40 (fun r3 => ?_)
      refine n_X2_323 (pc := 43) hk (fun r h => ctX2_sizeOf (fl y) (fK y) hk.2.2.2.2.2.2.2.1 r3.1 r3.2 r h) ⟨Nat.le_of_ble_eq_true rfl, Nat.le_of_ble_eq_true rfl⟩ (Nat.le_of_ble_eq_true rfl) dX2_isTooMuch_43 (fun r5 => ?_)
      refine V_iload_n (pc := 46) hk dX2_isTooMuch_46 2 rfl ?_
      refine V_icmp_le (pc := 47) (tgt := 54) hk dX2_isTooMuch_47 rfl ?_ ?_
      · refine V_iconst (pc := 54) (v := 0) hk dX2_isTooMuch_54 rfl ?_
        refine V_istore (pc := 55) (lc' := [(4, .int 0), (0, va_rf l0), (2, .int l2), (3, .int l3), (5, .int l5)]) (i := 4) hk dX2_isTooMuch_55 (Nat.le_of_ble_eq_true rfl) rfl ?_
        refine V_iinc (pc := 57) (v := 1) (lc' := [(5, .int (l5 + 1)), (4, .int 0), (0, va_rf l0), (2, .int l2), (3, .int l3)]) hk dX2_isTooMuch_57 4 rfl rfl (Nat.le_of_ble_eq_true rfl) rfl ?_
        refine V_goto (pc := 60) (tgt := 23) hk dX2_isTooMuch_60 rfl ?_
        refine V_pick (lc' := [(0, va_rf l0), (2, .int l2), (3, .int l3), (4, .int 0), (5, .int (l5 + 1))]) [2, 3, 4, 1, 0] rfl ?_
        exact h23 r5.2 l0 l2 l3 0 (l5 + 1)
      · refine V_iconst (pc := 50) (v := 1) hk dX2_isTooMuch_50 rfl ?_
        refine V_goto (pc := 51) (tgt := 55) hk dX2_isTooMuch_51 rfl ?_
        refine V_istore (pc := 55) (lc' := [(4, .int 1), (0, va_rf l0), (2, .int l2), (3, .int l3), (5, .int l5)]) (i := 4) hk dX2_isTooMuch_55 (Nat.le_of_ble_eq_true rfl) rfl ?_
        refine V_iinc (pc := 57) (v := 1) (lc' := [(5, .int (l5 + 1)), (4, .int 1), (0, va_rf l0), (2, .int l2), (3, .int l3)]) hk dX2_isTooMuch_57 4 rfl rfl (Nat.le_of_ble_eq_true rfl) rfl ?_
        refine V_goto (pc := 60) (tgt := 23) hk dX2_isTooMuch_60 rfl ?_
        refine V_pick (lc' := [(0, va_rf l0), (2, .int l2), (3, .int l3), (4, .int 1), (5, .int (l5 + 1))]) [2, 3, 4, 1, 0] rfl ?_
        exact h23 r5.2 l0 l2 l3 1 (l5 + 1)
theorem eX2_isTooMuch_l23 {y : Fx (Int32 × Wd)} (hk : OkF y RX2 cX2_isTooMuch 6 7 181) (hR : RetM y rvI (some (.boolean))) : ∀ (n : Nat) (w : Wd) (l0 : Option Nat) (l2 : Int32) (l3 : Int32) (l4 : Int32) (l5 : Int32), V y w [(0, va_rf l0), (2, .int l2), (3, .int l3), (4, .int l4), (5, .int l5)] [] 23 (mX2_isTooMuch_l23 n w l0 l2 l3 l4 l5) := by
  intro n
  induction n with
  | zero => intro w l0 l2 l3 l4 l5; exact V_none
  | succ n ih => intro w l0 l2 l3 l4 l5; exact eX2_isTooMuch_b23 hk hR ih w l0 l2 l3 l4 l5
theorem eX2_isTooMuch {y : Fx (Int32 × Wd)} (hk : OkF y RX2 cX2_isTooMuch 6 7 181) (hR : RetM y rvI (some (.boolean))) (this : Nat) (a0 : Int32) (a1 : Int32) (a2 : Int32) (w : Wd) : V y w [(0, va_rf (some this)), (1, .int a0), (2, .int a1), (3, .int a2)] [] 0 (mX2_isTooMuch this a0 a1 a2 w) := by
  unfold mX2_isTooMuch
  refine V_aload_n (pc := 0) hk dX2_isTooMuch_0 0 rfl ?_
  refine n_X2_379 (pc := 1) hk (fun b r h => ctX2_begin (fl y) (fK y) hk.2.2.2.2.2.2.2.1 b w r h) ⟨Nat.le_of_ble_eq_true rfl, Nat.le_of_ble_eq_true rfl⟩ (Nat.le_of_ble_eq_true rfl) dX2_isTooMuch_1 (fun r1 => ?_)
  refine V_aload_n (pc := 4) hk dX2_isTooMuch_4 0 rfl ?_
  refine g_X2_7 (pc := 5) hk dX2_isTooMuch_5 (fun v3 => ?_)
  refine V_bipush (pc := 8) (v := 14) hk dX2_isTooMuch_8 rfl ?_
  refine V_iload_n (pc := 10) hk dX2_isTooMuch_10 1 rfl ?_
  refine V_iastore (pc := 11) hk dX2_isTooMuch_11 (fun w4 => ?_)
  refine V_aload_n (pc := 12) hk dX2_isTooMuch_12 0 rfl ?_
  refine V_iconst (pc := 13) (v := 1) hk dX2_isTooMuch_13 rfl ?_
  refine p_X2_317 (pc := 14) hk dX2_isTooMuch_14 (fun w5 => ?_)
  refine V_iconst (pc := 17) (v := 0) hk dX2_isTooMuch_17 rfl ?_
  refine V_istore (pc := 18) (lc' := [(4, .int 0), (0, va_rf ((some this))), (1, .int a0), (2, .int a1), (3, .int a2)]) (i := 4) hk dX2_isTooMuch_18 (Nat.le_of_ble_eq_true rfl) rfl ?_
  refine V_iconst (pc := 20) (v := 0) hk dX2_isTooMuch_20 rfl ?_
  refine V_istore (pc := 21) (lc' := [(5, .int 0), (4, .int 0), (0, va_rf ((some this))), (1, .int a0), (2, .int a1), (3, .int a2)]) (i := 5) hk dX2_isTooMuch_21 (Nat.le_of_ble_eq_true rfl) rfl ?_
  refine V_pick (lc' := [(0, va_rf ((some this))), (2, .int a1), (3, .int a2), (4, .int 0), (5, .int 0)]) [2, 4, 5, 1, 0] rfl ?_
  exact eX2_isTooMuch_l23 hk hR FU w5 ((some this)) a1 a2 0 0
theorem ctX2_isTooMuch (l : Launch) (K : Kx) (hI : Ini K) (b : Nat) (a0 : Int32) (a1 : Int32) (a2 : Int32) (w : Wd) : ∀ r, mX2_isTooMuch b a0 a1 a2 w = some r → Ct l K 7 181 yX2_isTooMuch (ws_ yX2_isTooMuch cX2_isTooMuch 6 (some (.boolean))) [.ref b, .int a0, .int a1, .int a2] w (rvI r.1) r.2 := Ct_of rvI l K hI 7 181 [.ref b, .int a0, .int a1, .int a2] w (by decide) (lc0 := [(0, .ref b), (1, .int a0), (2, .int a1), (3, .int a2)]) rfl (Nat.le_of_ble_eq_true rfl) (fun y hk hR _ _ hin => eX2_isTooMuch hk hR b a0 a1 a2 w)
noncomputable def mX2_dayEnds_b26 (k26 : Wd → (Option Nat) → Int32 → Int32 → Int32 → Option (Int32 × Wd)) (w : Wd) (l0 : Option Nat) (l1 : Int32) (l2 : Int32) (l3 : Int32) : Option (Int32 × Wd) :=
if 10 ≤ l3 then (
some ((-1), w))
else (
(recv w l0 2).bind fun b2 => (cal w (mX2_isTooMuch b2 l3 l1 l2 w)).bind fun r1 =>
if r1.1 = 0 then (
k26 r1.2 l0 l1 l2 (l3 + 1))
else (
some (l3, r1.2)))
noncomputable def mX2_dayEnds_l26 : Nat → Wd → (Option Nat) → Int32 → Int32 → Int32 → Option (Int32 × Wd)
  | 0, _, _, _, _, _ => none
  | n + 1, w, l0, l1, l2, l3 => mX2_dayEnds_b26 (mX2_dayEnds_l26 n) w l0 l1 l2 l3
noncomputable def mX2_dayEnds (this : Nat) (a0 : Int32) (a1 : Int32) (w : Wd) : Option (Int32 × Wd) :=
(cal w (mX2_isIn a0 1 200 w)).bind fun r1 =>
if r1.1 = 0 then (
some ((-1), r1.2))
else (
(cal r1.2 (mX2_isIn a1 0 9999 r1.2)).bind fun r2 =>
if ¬ r2.1 = 0 then (
mX2_dayEnds_l26 FU r2.2 ((some this)) a0 a1 1)
else (
some ((-1), r2.2)))
theorem eX2_dayEnds_b26 {y : Fx (Int32 × Wd)} (hk : OkF y RX2 cX2_dayEnds 4 8 206) (hR : RetM y rvI (some (.int))) {k26 : Wd → (Option Nat) → Int32 → Int32 → Int32 → Option (Int32 × Wd)} (h26 : ∀ (w : Wd) (l0 : Option Nat) (l1 : Int32) (l2 : Int32) (l3 : Int32), V y w [(0, va_rf l0), (1, .int l1), (2, .int l2), (3, .int l3)] [] 26 (k26 w l0 l1 l2 l3)) (w : Wd) (l0 : Option Nat) (l1 : Int32) (l2 : Int32) (l3 : Int32) : V y w [(0, va_rf l0), (1, .int l1), (2, .int l2), (3, .int l3)] [] 26 (mX2_dayEnds_b26 k26 w l0 l1 l2 l3) := by
  unfold mX2_dayEnds_b26
  refine V_iload_n (pc := 26) hk dX2_dayEnds_26 3 rfl ?_
  refine V_bipush (pc := 27) (v := 10) hk dX2_dayEnds_27 rfl ?_
  refine V_icmp_ge (pc := 29) (tgt := 50) hk dX2_dayEnds_29 rfl ?_ ?_
  · refine V_iconst (pc := 50) (v := (-1)) hk dX2_dayEnds_50 (by decide +kernel) ?_
    exact V_ireturn (pc := 51) hk hR rfl dX2_dayEnds_51
  · refine V_aload_n (pc := 32) hk dX2_dayEnds_32 0 rfl ?_
    refine V_iload_n (pc := 33) hk dX2_dayEnds_33 3 rfl ?_
    refine V_iload_n (pc := 34) hk dX2_dayEnds_34 1 rfl ?_
    refine V_iload_n (pc := 35) hk dX2_dayEnds_35 2 rfl ?_
    refine n_X2_436 (pc := 36) hk (fun b r h => ctX2_isTooMuch (fl y) (fK y) hk.2.2.2.2.2.2.2.1 b l3 l1 l2 w r h) ⟨Nat.le_of_ble_eq_true rfl, Nat.le_of_ble_eq_true rfl⟩ (Nat.le_of_ble_eq_true rfl) dX2_dayEnds_36 (fun r1 => ?_)
    refine V_if_eq (pc := 39) (tgt := 44) hk dX2_dayEnds_39 rfl ?_ ?_
    · refine V_iinc (pc := 44) (v := 1) (lc' := [(3, .int (l3 + 1)), (0, va_rf l0), (1, .int l1), (2, .int l2)]) hk dX2_dayEnds_44 3 rfl rfl (Nat.le_of_ble_eq_true rfl) rfl ?_
      refine V_goto (pc := 47) (tgt := 26) hk dX2_dayEnds_47 rfl ?_
      refine V_pick (lc' := [(0, va_rf l0), (1, .int l1), (2, .int l2), (3, .int (l3 + 1))]) [1, 2, 3, 0] rfl ?_
      exact h26 r1.2 l0 l1 l2 (l3 + 1)
    · refine V_iload_n (pc := 42) hk dX2_dayEnds_42 3 rfl ?_
      exact V_ireturn (pc := 43) hk hR rfl dX2_dayEnds_43
theorem eX2_dayEnds_l26 {y : Fx (Int32 × Wd)} (hk : OkF y RX2 cX2_dayEnds 4 8 206) (hR : RetM y rvI (some (.int))) : ∀ (n : Nat) (w : Wd) (l0 : Option Nat) (l1 : Int32) (l2 : Int32) (l3 : Int32), V y w [(0, va_rf l0), (1, .int l1), (2, .int l2), (3, .int l3)] [] 26 (mX2_dayEnds_l26 n w l0 l1 l2 l3) := by
  intro n
  induction n with
  | zero => intro w l0 l1 l2 l3; exact V_none
  | succ n ih => intro w l0 l1 l2 l3; exact eX2_dayEnds_b26 hk hR ih w l0 l1 l2 l3
theorem eX2_dayEnds {y : Fx (Int32 × Wd)} (hk : OkF y RX2 cX2_dayEnds 4 8 206) (hR : RetM y rvI (some (.int))) (this : Nat) (a0 : Int32) (a1 : Int32) (w : Wd) : V y w [(0, va_rf (some this)), (1, .int a0), (2, .int a1)] [] 0 (mX2_dayEnds this a0 a1 w) := by
  unfold mX2_dayEnds
  refine V_iload_n (pc := 0) hk dX2_dayEnds_0 1 rfl ?_
  refine V_iconst (pc := 1) (v := 1) hk dX2_dayEnds_1 rfl ?_
  refine V_sipush (pc := 2) (v := 200) hk dX2_dayEnds_2 rfl ?_
  refine n_X2_71 (pc := 5) hk (fun r h => ctX2_isIn (fl y) (fK y) hk.2.2.2.2.2.2.2.1 a0 1 200 w r h) ⟨Nat.le_of_ble_eq_true rfl, Nat.le_of_ble_eq_true rfl⟩ (Nat.le_of_ble_eq_true rfl) dX2_dayEnds_5 (fun r1 => ?_)
  refine V_if_eq (pc := 8) (tgt := 22) hk dX2_dayEnds_8 rfl ?_ ?_
  · refine V_iconst (pc := 22) (v := (-1)) hk dX2_dayEnds_22 (by decide +kernel) ?_
    exact V_ireturn (pc := 23) hk hR rfl dX2_dayEnds_23
  · refine V_iload_n (pc := 11) hk dX2_dayEnds_11 2 rfl ?_
    refine V_iconst (pc := 12) (v := 0) hk dX2_dayEnds_12 rfl ?_
    refine V_sipush (pc := 13) (v := 9999) hk dX2_dayEnds_13 rfl ?_
    refine n_X2_71 (pc := 16) hk (fun r h => ctX2_isIn (fl y) (fK y) hk.2.2.2.2.2.2.2.1 a1 0 9999 r1.2 r h) ⟨Nat.le_of_ble_eq_true rfl, Nat.le_of_ble_eq_true rfl⟩ (Nat.le_of_ble_eq_true rfl) dX2_dayEnds_16 (fun r2 => ?_)
    refine V_if_ne (pc := 19) (tgt := 24) hk dX2_dayEnds_19 rfl ?_ ?_
    · refine V_iconst (pc := 24) (v := 1) hk dX2_dayEnds_24 rfl ?_
      refine V_istore_n (pc := 25) (lc' := [(3, .int 1), (0, va_rf ((some this))), (1, .int a0), (2, .int a1)]) (i := 3) hk dX2_dayEnds_25 rfl (Nat.le_of_ble_eq_true rfl) rfl ?_
      refine V_pick (lc' := [(0, va_rf ((some this))), (1, .int a0), (2, .int a1), (3, .int 1)]) [1, 2, 3, 0] rfl ?_
      exact eX2_dayEnds_l26 hk hR FU r2.2 ((some this)) a0 a1 1
    · refine V_iconst (pc := 22) (v := (-1)) hk dX2_dayEnds_22 (by decide +kernel) ?_
      exact V_ireturn (pc := 23) hk hR rfl dX2_dayEnds_23
theorem ctX2_dayEnds (l : Launch) (K : Kx) (hI : Ini K) (b : Nat) (a0 : Int32) (a1 : Int32) (w : Wd) : ∀ r, mX2_dayEnds b a0 a1 w = some r → Ct l K 8 206 yX2_dayEnds (ws_ yX2_dayEnds cX2_dayEnds 4 (some (.int))) [.ref b, .int a0, .int a1] w (rvI r.1) r.2 := Ct_of rvI l K hI 8 206 [.ref b, .int a0, .int a1] w (by decide) (lc0 := [(0, .ref b), (1, .int a0), (2, .int a1)]) rfl (Nat.le_of_ble_eq_true rfl) (fun y hk hR _ _ hin => eX2_dayEnds hk hR b a0 a1 w)
noncomputable def mX2_howFar_b14 (k14 : Wd → (Option Nat) → Int32 → Int32 → Option (Int32 × Wd)) (w : Wd) (l0 : Option Nat) (l1 : Int32) (l2 : Int32) : Option (Int32 × Wd) :=
if 61 ≤ l2 then (
some (l2 - 1, w))
else (
(recv w l0 2).bind fun b2 => (cal w (mX2_holdsAt b2 l2 w)).bind fun r1 =>
if r1.1 < l1 then (
some (l2 - 1, r1.2))
else (
k14 r1.2 l0 l1 (l2 + 1)))
noncomputable def mX2_howFar_l14 : Nat → Wd → (Option Nat) → Int32 → Int32 → Option (Int32 × Wd)
  | 0, _, _, _, _ => none
  | n + 1, w, l0, l1, l2 => mX2_howFar_b14 (mX2_howFar_l14 n) w l0 l1 l2
noncomputable def mX2_howFar (this : Nat) (a0 : Int32) (w : Wd) : Option (Int32 × Wd) :=
(cal w (mX2_isIn a0 1 99 w)).bind fun r1 =>
if ¬ r1.1 = 0 then (
mX2_howFar_l14 FU r1.2 ((some this)) a0 0)
else (
some ((-1), r1.2))
theorem eX2_howFar_b14 {y : Fx (Int32 × Wd)} (hk : OkF y RX2 cX2_howFar 3 7 180) (hR : RetM y rvI (some (.int))) {k14 : Wd → (Option Nat) → Int32 → Int32 → Option (Int32 × Wd)} (h14 : ∀ (w : Wd) (l0 : Option Nat) (l1 : Int32) (l2 : Int32), V y w [(0, va_rf l0), (1, .int l1), (2, .int l2)] [] 14 (k14 w l0 l1 l2)) (w : Wd) (l0 : Option Nat) (l1 : Int32) (l2 : Int32) : V y w [(0, va_rf l0), (1, .int l1), (2, .int l2)] [] 14 (mX2_howFar_b14 k14 w l0 l1 l2) := by
  unfold mX2_howFar_b14
  refine V_iload_n (pc := 14) hk dX2_howFar_14 2 rfl ?_
  refine V_bipush (pc := 15) (v := 61) hk dX2_howFar_15 rfl ?_
  refine V_icmp_ge (pc := 17) (tgt := 35) hk dX2_howFar_17 rfl ?_ ?_
  · refine V_iload_n (pc := 35) hk dX2_howFar_35 2 rfl ?_
    refine V_iconst (pc := 36) (v := 1) hk dX2_howFar_36 rfl ?_
    refine V_isub (pc := 37) hk dX2_howFar_37 ?_
    exact V_ireturn (pc := 38) hk hR rfl dX2_howFar_38
  · refine V_aload_n (pc := 20) hk dX2_howFar_20 0 rfl ?_
    refine V_iload_n (pc := 21) hk dX2_howFar_21 2 rfl ?_
    refine n_X2_373 (pc := 22) hk (fun b r h => ctX2_holdsAt (fl y) (fK y) hk.2.2.2.2.2.2.2.1 b l2 w r h) ⟨Nat.le_of_ble_eq_true rfl, Nat.le_of_ble_eq_true rfl⟩ (Nat.le_of_ble_eq_true rfl) dX2_howFar_22 (fun r1 => ?_)
    refine V_iload_n (pc := 25) hk dX2_howFar_25 1 rfl ?_
    refine V_icmp_lt (pc := 26) (tgt := 35) hk dX2_howFar_26 rfl ?_ ?_
    · refine V_iload_n (pc := 35) hk dX2_howFar_35 2 rfl ?_
      refine V_iconst (pc := 36) (v := 1) hk dX2_howFar_36 rfl ?_
      refine V_isub (pc := 37) hk dX2_howFar_37 ?_
      exact V_ireturn (pc := 38) hk hR rfl dX2_howFar_38
    · refine V_iinc (pc := 29) (v := 1) (lc' := [(2, .int (l2 + 1)), (0, va_rf l0), (1, .int l1)]) hk dX2_howFar_29 2 rfl rfl (Nat.le_of_ble_eq_true rfl) rfl ?_
      refine V_goto (pc := 32) (tgt := 14) hk dX2_howFar_32 rfl ?_
      refine V_pick (lc' := [(0, va_rf l0), (1, .int l1), (2, .int (l2 + 1))]) [1, 2, 0] rfl ?_
      exact h14 r1.2 l0 l1 (l2 + 1)
theorem eX2_howFar_l14 {y : Fx (Int32 × Wd)} (hk : OkF y RX2 cX2_howFar 3 7 180) (hR : RetM y rvI (some (.int))) : ∀ (n : Nat) (w : Wd) (l0 : Option Nat) (l1 : Int32) (l2 : Int32), V y w [(0, va_rf l0), (1, .int l1), (2, .int l2)] [] 14 (mX2_howFar_l14 n w l0 l1 l2) := by
  intro n
  induction n with
  | zero => intro w l0 l1 l2; exact V_none
  | succ n ih => intro w l0 l1 l2; exact eX2_howFar_b14 hk hR ih w l0 l1 l2
theorem eX2_howFar {y : Fx (Int32 × Wd)} (hk : OkF y RX2 cX2_howFar 3 7 180) (hR : RetM y rvI (some (.int))) (this : Nat) (a0 : Int32) (w : Wd) : V y w [(0, va_rf (some this)), (1, .int a0)] [] 0 (mX2_howFar this a0 w) := by
  unfold mX2_howFar
  refine V_iload_n (pc := 0) hk dX2_howFar_0 1 rfl ?_
  refine V_iconst (pc := 1) (v := 1) hk dX2_howFar_1 rfl ?_
  refine V_bipush (pc := 2) (v := 99) hk dX2_howFar_2 rfl ?_
  refine n_X2_71 (pc := 4) hk (fun r h => ctX2_isIn (fl y) (fK y) hk.2.2.2.2.2.2.2.1 a0 1 99 w r h) ⟨Nat.le_of_ble_eq_true rfl, Nat.le_of_ble_eq_true rfl⟩ (Nat.le_of_ble_eq_true rfl) dX2_howFar_4 (fun r1 => ?_)
  refine V_if_ne (pc := 7) (tgt := 12) hk dX2_howFar_7 rfl ?_ ?_
  · refine V_iconst (pc := 12) (v := 0) hk dX2_howFar_12 rfl ?_
    refine V_istore_n (pc := 13) (lc' := [(2, .int 0), (0, va_rf ((some this))), (1, .int a0)]) (i := 2) hk dX2_howFar_13 rfl (Nat.le_of_ble_eq_true rfl) rfl ?_
    refine V_pick (lc' := [(0, va_rf ((some this))), (1, .int a0), (2, .int 0)]) [1, 2, 0] rfl ?_
    exact eX2_howFar_l14 hk hR FU r1.2 ((some this)) a0 0
  · refine V_iconst (pc := 10) (v := (-1)) hk dX2_howFar_10 (by decide +kernel) ?_
    exact V_ireturn (pc := 11) hk hR rfl dX2_howFar_11
theorem ctX2_howFar (l : Launch) (K : Kx) (hI : Ini K) (b : Nat) (a0 : Int32) (w : Wd) : ∀ r, mX2_howFar b a0 w = some r → Ct l K 7 180 yX2_howFar (ws_ yX2_howFar cX2_howFar 3 (some (.int))) [.ref b, .int a0] w (rvI r.1) r.2 := Ct_of rvI l K hI 7 180 [.ref b, .int a0] w (by decide) (lc0 := [(0, .ref b), (1, .int a0)]) rfl (Nat.le_of_ble_eq_true rfl) (fun y hk hR _ _ hin => eX2_howFar hk hR b a0 w)
noncomputable def mX2_over_b4 (k4 : Wd → (Option Nat) → Int32 → Int32 → Option (Int32 × Wd)) (w : Wd) (l0 : Option Nat) (l1 : Int32) (l2 : Int32) : Option (Int32 × Wd) :=
(gR w l0 2 0).bind fun v1 =>
(ia w v1 0).bind fun v2 =>
if v2 ≤ l2 then (
some (l1, w))
else (
(recv w l0 2).bind fun b4 => (cal w (mX2_get b4 l2 0 w)).bind fun r3 =>
(recv r3.2 l0 2).bind fun b6 => (cal r3.2 (mX2_get b6 l2 1 r3.2)).bind fun r5 =>
(recv r5.2 l0 2).bind fun b8 => (cal r5.2 (mX2_holdsAt b8 r5.1 r5.2)).bind fun r7 =>
if r3.1 ≤ r7.1 then (
k4 r7.2 l0 (l1 ||| 0) (l2 + 1))
else (
(some (l1 ||| (1 <<< (l2 &&& 31)))).bind fun (x9 : Int32) =>
k4 r7.2 l0 x9 (l2 + 1)))
noncomputable def mX2_over_l4 : Nat → Wd → (Option Nat) → Int32 → Int32 → Option (Int32 × Wd)
  | 0, _, _, _, _ => none
  | n + 1, w, l0, l1, l2 => mX2_over_b4 (mX2_over_l4 n) w l0 l1 l2
noncomputable def mX2_over (this : Nat) (w : Wd) : Option (Int32 × Wd) :=
mX2_over_l4 FU w ((some this)) 0 0
theorem eX2_over_b4 {y : Fx (Int32 × Wd)} (hk : OkF y RX2 cX2_over 3 7 180) (hR : RetM y rvI (some (.int))) {k4 : Wd → (Option Nat) → Int32 → Int32 → Option (Int32 × Wd)} (h4 : ∀ (w : Wd) (l0 : Option Nat) (l1 : Int32) (l2 : Int32), V y w [(0, va_rf l0), (1, .int l1), (2, .int l2)] [] 4 (k4 w l0 l1 l2)) (w : Wd) (l0 : Option Nat) (l1 : Int32) (l2 : Int32) : V y w [(0, va_rf l0), (1, .int l1), (2, .int l2)] [] 4 (mX2_over_b4 k4 w l0 l1 l2) := by
  unfold mX2_over_b4
  refine V_iload_n (pc := 4) hk dX2_over_4 2 rfl ?_
  refine V_aload_n (pc := 5) hk dX2_over_5 0 rfl ?_
  refine g_X2_7 (pc := 6) hk dX2_over_6 (fun v1 => ?_)
  refine V_iconst (pc := 9) (v := 0) hk dX2_over_9 rfl ?_
  refine V_iaload (pc := 10) hk dX2_over_10 (fun v2 => ?_)
  refine V_icmp_ge (pc := 11) (tgt := 49) hk dX2_over_11 rfl ?_ ?_
  · refine V_iload_n (pc := 49) hk dX2_over_49 1 rfl ?_
    exact V_ireturn (pc := 50) hk hR rfl dX2_over_50
  · refine V_iload_n (pc := 14) hk dX2_over_14 1 rfl ?_
    refine V_aload_n (pc := 15) hk dX2_over_15 0 rfl ?_
    refine V_iload_n (pc := 16) hk dX2_over_16 2 rfl ?_
    refine V_iconst (pc := 17) (v := 0) hk dX2_over_17 rfl ?_
    refine n_X2_295 (pc := 18) hk (fun b r h => ctX2_get (fl y) (fK y) hk.2.2.2.2.2.2.2.1 b l2 0 w r h) ⟨Nat.le_of_ble_eq_true rfl, Nat.le_of_ble_eq_true rfl⟩ (Nat.le_of_ble_eq_true rfl) dX2_over_18 (fun r3 => ?_)
    refine V_aload_n (pc := 21) hk dX2_over_21 0 rfl ?_
    refine V_aload_n (pc := 22) hk dX2_over_22 0 rfl ?_
    refine V_iload_n (pc := 23) hk dX2_over_23 2 rfl ?_
    refine V_iconst (pc := 24) (v := 1) hk dX2_over_24 rfl ?_
    refine n_X2_295 (pc := 25) hk (fun b r h => ctX2_get (fl y) (fK y) hk.2.2.2.2.2.2.2.1 b l2 1 r3.2 r h) ⟨Nat.le_of_ble_eq_true rfl, Nat.le_of_ble_eq_true rfl⟩ (by simp [rf_cat, cat_int, cat_long, cat_ref]) dX2_over_25 (fun r5 => ?_)
    refine n_X2_373 (pc := 28) hk (fun b r h => ctX2_holdsAt (fl y) (fK y) hk.2.2.2.2.2.2.2.1 b r5.1 r5.2 r h) ⟨Nat.le_of_ble_eq_true rfl, Nat.le_of_ble_eq_true rfl⟩ (Nat.le_of_ble_eq_true rfl) dX2_over_28 (fun r7 => ?_)
    refine V_icmp_le (pc := 31) (tgt := 40) hk dX2_over_31 rfl ?_ ?_
    · refine V_iconst (pc := 40) (v := 0) hk dX2_over_40 rfl ?_
      refine V_ior (pc := 41) hk dX2_over_41 ?_
      refine V_istore_n (pc := 42) (lc' := [(1, .int (l1 ||| 0)), (0, va_rf l0), (2, .int l2)]) (i := 1) hk dX2_over_42 rfl (Nat.le_of_ble_eq_true rfl) (by simp [rf_cat, cat_int, cat_long, cat_ref]) ?_
      refine V_iinc (pc := 43) (v := 1) (lc' := [(2, .int (l2 + 1)), (1, .int (l1 ||| 0)), (0, va_rf l0)]) hk dX2_over_43 2 rfl rfl (Nat.le_of_ble_eq_true rfl) rfl ?_
      refine V_goto (pc := 46) (tgt := 4) hk dX2_over_46 rfl ?_
      refine V_pick (lc' := [(0, va_rf l0), (1, .int (l1 ||| 0)), (2, .int (l2 + 1))]) [2, 1, 0] rfl ?_
      exact h4 r7.2 l0 (l1 ||| 0) (l2 + 1)
    · refine V_iconst (pc := 34) (v := 1) hk dX2_over_34 rfl ?_
      refine V_iload_n (pc := 35) hk dX2_over_35 2 rfl ?_
      refine V_ishl (pc := 36) hk dX2_over_36 ?_
      refine V_goto (pc := 37) (tgt := 41) hk dX2_over_37 rfl ?_
      refine V_ior (pc := 41) hk dX2_over_41 ?_
      refine V_nmI (fun x9 => ?_)
      refine V_istore_n (pc := 42) (lc' := [(1, .int x9), (0, va_rf l0), (2, .int l2)]) (i := 1) hk dX2_over_42 rfl (Nat.le_of_ble_eq_true rfl) (by simp [rf_cat, cat_int, cat_long, cat_ref]) ?_
      refine V_iinc (pc := 43) (v := 1) (lc' := [(2, .int (l2 + 1)), (1, .int x9), (0, va_rf l0)]) hk dX2_over_43 2 rfl rfl (Nat.le_of_ble_eq_true rfl) rfl ?_
      refine V_goto (pc := 46) (tgt := 4) hk dX2_over_46 rfl ?_
      refine V_pick (lc' := [(0, va_rf l0), (1, .int x9), (2, .int (l2 + 1))]) [2, 1, 0] rfl ?_
      exact h4 r7.2 l0 x9 (l2 + 1)
theorem eX2_over_l4 {y : Fx (Int32 × Wd)} (hk : OkF y RX2 cX2_over 3 7 180) (hR : RetM y rvI (some (.int))) : ∀ (n : Nat) (w : Wd) (l0 : Option Nat) (l1 : Int32) (l2 : Int32), V y w [(0, va_rf l0), (1, .int l1), (2, .int l2)] [] 4 (mX2_over_l4 n w l0 l1 l2) := by
  intro n
  induction n with
  | zero => intro w l0 l1 l2; exact V_none
  | succ n ih => intro w l0 l1 l2; exact eX2_over_b4 hk hR ih w l0 l1 l2
theorem eX2_over {y : Fx (Int32 × Wd)} (hk : OkF y RX2 cX2_over 3 7 180) (hR : RetM y rvI (some (.int))) (this : Nat) (w : Wd) : V y w [(0, va_rf (some this))] [] 0 (mX2_over this w) := by
  unfold mX2_over
  refine V_iconst (pc := 0) (v := 0) hk dX2_over_0 rfl ?_
  refine V_istore_n (pc := 1) (lc' := [(1, .int 0), (0, va_rf ((some this)))]) (i := 1) hk dX2_over_1 rfl (Nat.le_of_ble_eq_true rfl) (by simp [rf_cat, cat_int, cat_long, cat_ref]) ?_
  refine V_iconst (pc := 2) (v := 0) hk dX2_over_2 rfl ?_
  refine V_istore_n (pc := 3) (lc' := [(2, .int 0), (1, .int 0), (0, va_rf ((some this)))]) (i := 2) hk dX2_over_3 rfl (Nat.le_of_ble_eq_true rfl) rfl ?_
  refine V_pick (lc' := [(0, va_rf ((some this))), (1, .int 0), (2, .int 0)]) [2, 1, 0] rfl ?_
  exact eX2_over_l4 hk hR FU w ((some this)) 0 0
theorem ctX2_over (l : Launch) (K : Kx) (hI : Ini K) (b : Nat) (w : Wd) : ∀ r, mX2_over b w = some r → Ct l K 7 180 yX2_over (ws_ yX2_over cX2_over 3 (some (.int))) [.ref b] w (rvI r.1) r.2 := Ct_of rvI l K hI 7 180 [.ref b] w (by decide) (lc0 := [(0, .ref b)]) rfl (Nat.le_of_ble_eq_true rfl) (fun y hk hR _ _ hin => eX2_over hk hR b w)
noncomputable def mX2_bits_b4 (k4 : Wd → Int32 → Int32 → Int32 → Option (Int32 × Wd)) (w : Wd) (l0 : Int32) (l1 : Int32) (l2 : Int32) : Option (Int32 × Wd) :=
if 8 ≤ l2 then (
some (l1, w))
else (
(some (l1 + ((l0 >>> (l2 &&& 31)) &&& 1))).bind fun (x1 : Int32) =>
k4 w l0 x1 (l2 + 1))
noncomputable def mX2_bits_l4 : Nat → Wd → Int32 → Int32 → Int32 → Option (Int32 × Wd)
  | 0, _, _, _, _ => none
  | n + 1, w, l0, l1, l2 => mX2_bits_b4 (mX2_bits_l4 n) w l0 l1 l2
noncomputable def mX2_bits (a0 : Int32) (w : Wd) : Option (Int32 × Wd) :=
mX2_bits_l4 FU w a0 0 0
theorem eX2_bits_b4 {y : Fx (Int32 × Wd)} (hk : OkF y RX2 cX2_bits 3 2 60) (hR : RetM y rvI (some (.int))) {k4 : Wd → Int32 → Int32 → Int32 → Option (Int32 × Wd)} (h4 : ∀ (w : Wd) (l0 : Int32) (l1 : Int32) (l2 : Int32), V y w [(0, .int l0), (1, .int l1), (2, .int l2)] [] 4 (k4 w l0 l1 l2)) (w : Wd) (l0 : Int32) (l1 : Int32) (l2 : Int32) : V y w [(0, .int l0), (1, .int l1), (2, .int l2)] [] 4 (mX2_bits_b4 k4 w l0 l1 l2) := by
  unfold mX2_bits_b4
  refine V_iload_n (pc := 4) hk dX2_bits_4 2 rfl ?_
  refine V_bipush (pc := 5) (v := 8) hk dX2_bits_5 rfl ?_
  refine V_icmp_ge (pc := 7) (tgt := 24) hk dX2_bits_7 rfl ?_ ?_
  · refine V_iload_n (pc := 24) hk dX2_bits_24 1 rfl ?_
    exact V_ireturn (pc := 25) hk hR rfl dX2_bits_25
  · refine V_iload_n (pc := 10) hk dX2_bits_10 1 rfl ?_
    refine V_iload_n (pc := 11) hk dX2_bits_11 0 rfl ?_
    refine V_iload_n (pc := 12) hk dX2_bits_12 2 rfl ?_
    refine V_ishr (pc := 13) hk dX2_bits_13 ?_
    refine V_iconst (pc := 14) (v := 1) hk dX2_bits_14 rfl ?_
    refine V_iand (pc := 15) hk dX2_bits_15 ?_
    refine V_iadd (pc := 16) hk dX2_bits_16 ?_
    refine V_nmI (fun x1 => ?_)
    refine V_istore_n (pc := 17) (lc' := [(1, .int x1), (0, .int l0), (2, .int l2)]) (i := 1) hk dX2_bits_17 rfl (Nat.le_of_ble_eq_true rfl) rfl ?_
    refine V_iinc (pc := 18) (v := 1) (lc' := [(2, .int (l2 + 1)), (1, .int x1), (0, .int l0)]) hk dX2_bits_18 2 rfl rfl (Nat.le_of_ble_eq_true rfl) rfl ?_
    refine V_goto (pc := 21) (tgt := 4) hk dX2_bits_21 rfl ?_
    refine V_pick (lc' := [(0, .int l0), (1, .int x1), (2, .int (l2 + 1))]) [2, 1, 0] rfl ?_
    exact h4 w l0 x1 (l2 + 1)
theorem eX2_bits_l4 {y : Fx (Int32 × Wd)} (hk : OkF y RX2 cX2_bits 3 2 60) (hR : RetM y rvI (some (.int))) : ∀ (n : Nat) (w : Wd) (l0 : Int32) (l1 : Int32) (l2 : Int32), V y w [(0, .int l0), (1, .int l1), (2, .int l2)] [] 4 (mX2_bits_l4 n w l0 l1 l2) := by
  intro n
  induction n with
  | zero => intro w l0 l1 l2; exact V_none
  | succ n ih => intro w l0 l1 l2; exact eX2_bits_b4 hk hR ih w l0 l1 l2
theorem eX2_bits {y : Fx (Int32 × Wd)} (hk : OkF y RX2 cX2_bits 3 2 60) (hR : RetM y rvI (some (.int))) (a0 : Int32) (w : Wd) : V y w [(0, .int a0)] [] 0 (mX2_bits a0 w) := by
  unfold mX2_bits
  refine V_iconst (pc := 0) (v := 0) hk dX2_bits_0 rfl ?_
  refine V_istore_n (pc := 1) (lc' := [(1, .int 0), (0, .int a0)]) (i := 1) hk dX2_bits_1 rfl (Nat.le_of_ble_eq_true rfl) rfl ?_
  refine V_iconst (pc := 2) (v := 0) hk dX2_bits_2 rfl ?_
  refine V_istore_n (pc := 3) (lc' := [(2, .int 0), (1, .int 0), (0, .int a0)]) (i := 2) hk dX2_bits_3 rfl (Nat.le_of_ble_eq_true rfl) rfl ?_
  refine V_pick (lc' := [(0, .int a0), (1, .int 0), (2, .int 0)]) [2, 1, 0] rfl ?_
  exact eX2_bits_l4 hk hR FU w a0 0 0
theorem ctX2_bits (l : Launch) (K : Kx) (hI : Ini K) (a0 : Int32) (w : Wd) : ∀ r, mX2_bits a0 w = some r → Ct l K 2 60 yX2_bits (ws_ yX2_bits cX2_bits 3 (some (.int))) [.int a0] w (rvI r.1) r.2 := Ct_of rvI l K hI 2 60 [.int a0] w (by decide) (lc0 := [(0, .int a0)]) rfl (Nat.le_of_ble_eq_true rfl) (fun y hk hR _ _ hin => eX2_bits hk hR a0 w)
noncomputable def mX2_layMembers_b35 (k35 : Wd → (Option Nat) → Int32 → Int32 → Option (Int32 × Wd)) (w : Wd) (l0 : Option Nat) (l1 : Int32) (l3 : Int32) : Option (Int32 × Wd) :=
(gR w l0 2 0).bind fun v1 =>
(ia w v1 0).bind fun v2 =>
if v2 ≤ l3 then (
(nok (.boolean) 1).bind fun _ => some (1, w))
else (
(cal w (mX2_has l1 l3 w)).bind fun r3 =>
if ¬ r3.1 = 0 then (
(gR r3.2 l0 2 30).bind fun v4 =>
(gI r3.2 l0 2 34).bind fun v5 =>
(ias r3.2 v4 v5 l3).bind fun w6 =>
(gR w6 l0 2 31).bind fun v7 =>
(gI w6 l0 2 34).bind fun v8 =>
(recv w6 l0 2).bind fun b10 => (cal w6 (mX2_lastsOf b10 l3 w6)).bind fun r9 =>
(ias r9.2 v7 v8 r9.1).bind fun w11 =>
(gR w11 l0 2 32).bind fun v12 =>
(gI w11 l0 2 34).bind fun v13 =>
(gI w11 l0 2 34).bind fun v14 =>
(ias w11 v12 v13 v14).bind fun w15 =>
(gI w15 l0 2 34).bind fun v16 =>
(pf w15 l0 2 34 (.int (v16 + 1))).bind fun w17 =>
k35 w17 l0 l1 (l3 + 1))
else (
k35 r3.2 l0 l1 (l3 + 1)))
noncomputable def mX2_layMembers_l35 : Nat → Wd → (Option Nat) → Int32 → Int32 → Option (Int32 × Wd)
  | 0, _, _, _, _ => none
  | n + 1, w, l0, l1, l3 => mX2_layMembers_b35 (mX2_layMembers_l35 n) w l0 l1 l3
noncomputable def mX2_layMembers (this : Nat) (a0 : Int32) (a1 : Int32) (w : Wd) : Option (Int32 × Wd) :=
(gR w ((some this)) 2 0).bind fun v1 =>
(ia w v1 0).bind fun v2 =>
(cal w (mX2_isIn a0 1 ((1 <<< (v2 &&& 31)) - 1) w)).bind fun r3 =>
if r3.1 = 0 then (
(nok (.boolean) 0).bind fun _ => some (0, r3.2))
else (
(cal r3.2 (mX2_bits a0 r3.2)).bind fun r4 =>
if r4.1 ≤ a1 then (
(pf r4.2 ((some this)) 2 34 (.int 0)).bind fun w5 =>
mX2_layMembers_l35 FU w5 ((some this)) a0 0)
else (
(nok (.boolean) 0).bind fun _ => some (0, r4.2)))
theorem eX2_layMembers_b35 {y : Fx (Int32 × Wd)} (hk : OkF y RX2 cX2_layMembers 4 7 180) (hR : RetM y rvI (some (.boolean))) {k35 : Wd → (Option Nat) → Int32 → Int32 → Option (Int32 × Wd)} (h35 : ∀ (w : Wd) (l0 : Option Nat) (l1 : Int32) (l3 : Int32), V y w [(0, va_rf l0), (1, .int l1), (3, .int l3)] [] 35 (k35 w l0 l1 l3)) (w : Wd) (l0 : Option Nat) (l1 : Int32) (l3 : Int32) : V y w [(0, va_rf l0), (1, .int l1), (3, .int l3)] [] 35 (mX2_layMembers_b35 k35 w l0 l1 l3) := by
  unfold mX2_layMembers_b35
  refine V_iload_n (pc := 35) hk dX2_layMembers_35 2 rfl ?_
  refine V_aload_n (pc := 36) hk dX2_layMembers_36 0 rfl ?_
  refine g_X2_7 (pc := 37) hk dX2_layMembers_37 (fun v1 => ?_)
  refine V_iconst (pc := 40) (v := 0) hk dX2_layMembers_40 rfl ?_
  refine V_iaload (pc := 41) hk dX2_layMembers_41 (fun v2 => ?_)
  refine V_icmp_ge (pc := 42) (tgt := 109) hk dX2_layMembers_42 rfl ?_ ?_
  · refine V_iconst (pc := 109) (v := 1) hk dX2_layMembers_109 rfl ?_
    exact V_zreturn (pc := 110) hk hR rfl dX2_layMembers_110
  · refine V_iload_n (pc := 45) hk dX2_layMembers_45 1 rfl ?_
    refine V_iload_n (pc := 46) hk dX2_layMembers_46 2 rfl ?_
    refine n_X2_241 (pc := 47) hk (fun r h => ctX2_has (fl y) (fK y) hk.2.2.2.2.2.2.2.1 l1 l3 w r h) ⟨Nat.le_of_ble_eq_true rfl, Nat.le_of_ble_eq_true rfl⟩ (Nat.le_of_ble_eq_true rfl) dX2_layMembers_47 (fun r3 => ?_)
    refine V_if_ne (pc := 50) (tgt := 56) hk dX2_layMembers_50 rfl ?_ ?_
    · refine V_aload_n (pc := 56) hk dX2_layMembers_56 0 rfl ?_
      refine g_X2_49 (pc := 57) hk dX2_layMembers_57 (fun v4 => ?_)
      refine V_aload_n (pc := 60) hk dX2_layMembers_60 0 rfl ?_
      refine g_X2_442 (pc := 61) hk dX2_layMembers_61 (fun v5 => ?_)
      refine V_iload_n (pc := 64) hk dX2_layMembers_64 2 rfl ?_
      refine V_iastore (pc := 65) hk dX2_layMembers_65 (fun w6 => ?_)
      refine V_aload_n (pc := 66) hk dX2_layMembers_66 0 rfl ?_
      refine g_X2_52 (pc := 67) hk dX2_layMembers_67 (fun v7 => ?_)
      refine V_aload_n (pc := 70) hk dX2_layMembers_70 0 rfl ?_
      refine g_X2_442 (pc := 71) hk dX2_layMembers_71 (fun v8 => ?_)
      refine V_aload_n (pc := 74) hk dX2_layMembers_74 0 rfl ?_
      refine V_iload_n (pc := 75) hk dX2_layMembers_75 2 rfl ?_
      refine n_X2_370 (pc := 76) hk (fun b r h => ctX2_lastsOf (fl y) (fK y) hk.2.2.2.2.2.2.2.1 b l3 w6 r h) ⟨Nat.le_of_ble_eq_true rfl, Nat.le_of_ble_eq_true rfl⟩ (by simp [rf_cat, cat_int, cat_long, cat_ref]) dX2_layMembers_76 (fun r9 => ?_)
      refine V_iastore (pc := 79) hk dX2_layMembers_79 (fun w11 => ?_)
      refine V_aload_n (pc := 80) hk dX2_layMembers_80 0 rfl ?_
      refine g_X2_55 (pc := 81) hk dX2_layMembers_81 (fun v12 => ?_)
      refine V_aload_n (pc := 84) hk dX2_layMembers_84 0 rfl ?_
      refine g_X2_442 (pc := 85) hk dX2_layMembers_85 (fun v13 => ?_)
      refine V_aload_n (pc := 88) hk dX2_layMembers_88 0 rfl ?_
      refine g_X2_442 (pc := 89) hk dX2_layMembers_89 (fun v14 => ?_)
      refine V_iastore (pc := 92) hk dX2_layMembers_92 (fun w15 => ?_)
      refine V_aload_n (pc := 93) hk dX2_layMembers_93 0 rfl ?_
      refine V_dup (pc := 94) hk dX2_layMembers_94 (rf_cat _) ?_
      refine g_X2_442 (pc := 95) hk dX2_layMembers_95 (fun v16 => ?_)
      refine V_iconst (pc := 98) (v := 1) hk dX2_layMembers_98 rfl ?_
      refine V_iadd (pc := 99) hk dX2_layMembers_99 ?_
      refine p_X2_442 (pc := 100) hk dX2_layMembers_100 (fun w17 => ?_)
      refine V_iinc (pc := 103) (v := 1) (lc' := [(3, .int (l3 + 1)), (0, va_rf l0), (1, .int l1)]) hk dX2_layMembers_103 2 rfl rfl (Nat.le_of_ble_eq_true rfl) rfl ?_
      refine V_goto (pc := 106) (tgt := 35) hk dX2_layMembers_106 rfl ?_
      refine V_pick (lc' := [(0, va_rf l0), (1, .int l1), (3, .int (l3 + 1))]) [1, 2, 0] rfl ?_
      exact h35 w17 l0 l1 (l3 + 1)
    · refine V_goto (pc := 53) (tgt := 103) hk dX2_layMembers_53 rfl ?_
      refine V_iinc (pc := 103) (v := 1) (lc' := [(3, .int (l3 + 1)), (0, va_rf l0), (1, .int l1)]) hk dX2_layMembers_103 2 rfl rfl (Nat.le_of_ble_eq_true rfl) rfl ?_
      refine V_goto (pc := 106) (tgt := 35) hk dX2_layMembers_106 rfl ?_
      refine V_pick (lc' := [(0, va_rf l0), (1, .int l1), (3, .int (l3 + 1))]) [1, 2, 0] rfl ?_
      exact h35 r3.2 l0 l1 (l3 + 1)
theorem eX2_layMembers_l35 {y : Fx (Int32 × Wd)} (hk : OkF y RX2 cX2_layMembers 4 7 180) (hR : RetM y rvI (some (.boolean))) : ∀ (n : Nat) (w : Wd) (l0 : Option Nat) (l1 : Int32) (l3 : Int32), V y w [(0, va_rf l0), (1, .int l1), (3, .int l3)] [] 35 (mX2_layMembers_l35 n w l0 l1 l3) := by
  intro n
  induction n with
  | zero => intro w l0 l1 l3; exact V_none
  | succ n ih => intro w l0 l1 l3; exact eX2_layMembers_b35 hk hR ih w l0 l1 l3
theorem eX2_layMembers {y : Fx (Int32 × Wd)} (hk : OkF y RX2 cX2_layMembers 4 7 180) (hR : RetM y rvI (some (.boolean))) (this : Nat) (a0 : Int32) (a1 : Int32) (w : Wd) : V y w [(0, va_rf (some this)), (1, .int a0), (2, .int a1)] [] 0 (mX2_layMembers this a0 a1 w) := by
  unfold mX2_layMembers
  refine V_iload_n (pc := 0) hk dX2_layMembers_0 1 rfl ?_
  refine V_iconst (pc := 1) (v := 1) hk dX2_layMembers_1 rfl ?_
  refine V_iconst (pc := 2) (v := 1) hk dX2_layMembers_2 rfl ?_
  refine V_aload_n (pc := 3) hk dX2_layMembers_3 0 rfl ?_
  refine g_X2_7 (pc := 4) hk dX2_layMembers_4 (fun v1 => ?_)
  refine V_iconst (pc := 7) (v := 0) hk dX2_layMembers_7 rfl ?_
  refine V_iaload (pc := 8) hk dX2_layMembers_8 (fun v2 => ?_)
  refine V_ishl (pc := 9) hk dX2_layMembers_9 ?_
  refine V_iconst (pc := 10) (v := 1) hk dX2_layMembers_10 rfl ?_
  refine V_isub (pc := 11) hk dX2_layMembers_11 ?_
  refine n_X2_71 (pc := 12) hk (fun r h => ctX2_isIn (fl y) (fK y) hk.2.2.2.2.2.2.2.1 a0 1 ((1 <<< (v2 &&& 31)) - 1) w r h) ⟨Nat.le_of_ble_eq_true rfl, Nat.le_of_ble_eq_true rfl⟩ (Nat.le_of_ble_eq_true rfl) dX2_layMembers_12 (fun r3 => ?_)
  refine V_if_eq (pc := 15) (tgt := 26) hk dX2_layMembers_15 rfl ?_ ?_
  · refine V_iconst (pc := 26) (v := 0) hk dX2_layMembers_26 rfl ?_
    exact V_zreturn (pc := 27) hk hR rfl dX2_layMembers_27
  · refine V_iload_n (pc := 18) hk dX2_layMembers_18 1 rfl ?_
    refine n_X2_439 (pc := 19) hk (fun r h => ctX2_bits (fl y) (fK y) hk.2.2.2.2.2.2.2.1 a0 r3.2 r h) ⟨Nat.le_of_ble_eq_true rfl, Nat.le_of_ble_eq_true rfl⟩ (Nat.le_of_ble_eq_true rfl) dX2_layMembers_19 (fun r4 => ?_)
    refine V_iload_n (pc := 22) hk dX2_layMembers_22 2 rfl ?_
    refine V_icmp_le (pc := 23) (tgt := 28) hk dX2_layMembers_23 rfl ?_ ?_
    · refine V_aload_n (pc := 28) hk dX2_layMembers_28 0 rfl ?_
      refine V_iconst (pc := 29) (v := 0) hk dX2_layMembers_29 rfl ?_
      refine p_X2_442 (pc := 30) hk dX2_layMembers_30 (fun w5 => ?_)
      refine V_iconst (pc := 33) (v := 0) hk dX2_layMembers_33 rfl ?_
      refine V_istore_n (pc := 34) (lc' := [(3, .int 0), (0, va_rf ((some this))), (1, .int a0), (2, .int a1)]) (i := 3) hk dX2_layMembers_34 rfl (Nat.le_of_ble_eq_true rfl) rfl ?_
      refine V_pick (lc' := [(0, va_rf ((some this))), (1, .int a0), (3, .int 0)]) [1, 2, 0] rfl ?_
      exact eX2_layMembers_l35 hk hR FU w5 ((some this)) a0 0
    · refine V_iconst (pc := 26) (v := 0) hk dX2_layMembers_26 rfl ?_
      exact V_zreturn (pc := 27) hk hR rfl dX2_layMembers_27
theorem ctX2_layMembers (l : Launch) (K : Kx) (hI : Ini K) (b : Nat) (a0 : Int32) (a1 : Int32) (w : Wd) : ∀ r, mX2_layMembers b a0 a1 w = some r → Ct l K 7 180 yX2_layMembers (ws_ yX2_layMembers cX2_layMembers 4 (some (.boolean))) [.ref b, .int a0, .int a1] w (rvI r.1) r.2 := Ct_of rvI l K hI 7 180 [.ref b, .int a0, .int a1] w (by decide) (lc0 := [(0, .ref b), (1, .int a0), (2, .int a1)]) rfl (Nat.le_of_ble_eq_true rfl) (fun y hk hR _ _ hin => eX2_layMembers hk hR b a0 a1 w)
noncomputable def mX2_waited_b6 (k6 : Wd → (Option Nat) → Int32 → Int32 → Int32 → Option (Int32 × Wd)) (w : Wd) (l0 : Option Nat) (l1 : Int32) (l2 : Int32) (l3 : Int32) : Option (Int32 × Wd) :=
(gI w l0 2 34).bind fun v1 =>
if v1 ≤ l3 then (
some (l2, w))
else (
(gR w l0 2 30).bind fun v2 =>
(gR w l0 2 32).bind fun v3 =>
(ia w v3 l3).bind fun v4 =>
(ia w v2 v4).bind fun v5 =>
(gR w l0 2 31).bind fun v6 =>
(gR w l0 2 32).bind fun v7 =>
(ia w v7 l3).bind fun v8 =>
(ia w v6 v8).bind fun v9 =>
(recv w l0 2).bind fun b11 => (cal w (mX2_get b11 v5 2 w)).bind fun r10 =>
if (l1 + v9) ≤ r10.1 then (
(recv r10.2 l0 2).bind fun b13 => (cal r10.2 (mX2_get b13 v5 3 r10.2)).bind fun r12 =>
(some (l2 + (r12.1 * (l1 + v9)))).bind fun (x14 : Int32) =>
k6 r12.2 l0 (l1 + v9) x14 (l3 + 1))
else (
some ((-1), r10.2)))
noncomputable def mX2_waited_l6 : Nat → Wd → (Option Nat) → Int32 → Int32 → Int32 → Option (Int32 × Wd)
  | 0, _, _, _, _, _ => none
  | n + 1, w, l0, l1, l2, l3 => mX2_waited_b6 (mX2_waited_l6 n) w l0 l1 l2 l3
noncomputable def mX2_waited (this : Nat) (w : Wd) : Option (Int32 × Wd) :=
mX2_waited_l6 FU w ((some this)) 0 0 0
theorem eX2_waited_b6 {y : Fx (Int32 × Wd)} (hk : OkF y RX2 cX2_waited 5 3 82) (hR : RetM y rvI (some (.int))) {k6 : Wd → (Option Nat) → Int32 → Int32 → Int32 → Option (Int32 × Wd)} (h6 : ∀ (w : Wd) (l0 : Option Nat) (l1 : Int32) (l2 : Int32) (l3 : Int32), V y w [(0, va_rf l0), (1, .int l1), (2, .int l2), (3, .int l3)] [] 6 (k6 w l0 l1 l2 l3)) (w : Wd) (l0 : Option Nat) (l1 : Int32) (l2 : Int32) (l3 : Int32) : V y w [(0, va_rf l0), (1, .int l1), (2, .int l2), (3, .int l3)] [] 6 (mX2_waited_b6 k6 w l0 l1 l2 l3) := by
  unfold mX2_waited_b6
  refine V_iload_n (pc := 6) hk dX2_waited_6 3 rfl ?_
  refine V_aload_n (pc := 7) hk dX2_waited_7 0 rfl ?_
  refine g_X2_442 (pc := 8) hk dX2_waited_8 (fun v1 => ?_)
  refine V_icmp_ge (pc := 11) (tgt := 72) hk dX2_waited_11 rfl ?_ ?_
  · refine V_iload_n (pc := 72) hk dX2_waited_72 2 rfl ?_
    exact V_ireturn (pc := 73) hk hR rfl dX2_waited_73
  · refine V_aload_n (pc := 14) hk dX2_waited_14 0 rfl ?_
    refine g_X2_49 (pc := 15) hk dX2_waited_15 (fun v2 => ?_)
    refine V_aload_n (pc := 18) hk dX2_waited_18 0 rfl ?_
    refine g_X2_55 (pc := 19) hk dX2_waited_19 (fun v3 => ?_)
    refine V_iload_n (pc := 22) hk dX2_waited_22 3 rfl ?_
    refine V_iaload (pc := 23) hk dX2_waited_23 (fun v4 => ?_)
    refine V_iaload (pc := 24) hk dX2_waited_24 (fun v5 => ?_)
    refine V_istore (pc := 25) (lc' := [(4, .int v5), (0, va_rf l0), (1, .int l1), (2, .int l2), (3, .int l3)]) (i := 4) hk dX2_waited_25 (Nat.le_of_ble_eq_true rfl) rfl ?_
    refine V_iload_n (pc := 27) hk dX2_waited_27 2 rfl ?_
    refine V_aload_n (pc := 28) hk dX2_waited_28 1 rfl ?_
    refine g_X2_52 (pc := 29) hk dX2_waited_29 (fun v6 => ?_)
    refine V_aload_n (pc := 32) hk dX2_waited_32 1 rfl ?_
    refine g_X2_55 (pc := 33) hk dX2_waited_33 (fun v7 => ?_)
    refine V_iload_n (pc := 36) hk dX2_waited_36 4 rfl ?_
    refine V_iaload (pc := 37) hk dX2_waited_37 (fun v8 => ?_)
    refine V_iaload (pc := 38) hk dX2_waited_38 (fun v9 => ?_)
    refine V_iadd (pc := 39) hk dX2_waited_39 ?_
    refine V_istore_n (pc := 40) (lc' := [(1, .int (l1 + v9)), (4, .int v5), (0, va_rf l0), (2, .int l2), (3, .int l3)]) (i := 1) hk dX2_waited_40 rfl (Nat.le_of_ble_eq_true rfl) (by simp [rf_cat, cat_int, cat_long, cat_ref]) ?_
    refine V_iload_n (pc := 41) hk dX2_waited_41 0 rfl ?_
    refine V_aload_n (pc := 42) hk dX2_waited_42 2 rfl ?_
    refine V_iload (pc := 43) hk dX2_waited_43 1 rfl ?_
    refine V_iconst (pc := 45) (v := 2) hk dX2_waited_45 rfl ?_
    refine n_X2_295 (pc := 46) hk (fun b r h => ctX2_get (fl y) (fK y) hk.2.2.2.2.2.2.2.1 b v5 2 w r h) ⟨Nat.le_of_ble_eq_true rfl, Nat.le_of_ble_eq_true rfl⟩ (Nat.le_of_ble_eq_true rfl) dX2_waited_46 (fun r10 => ?_)
    refine V_icmp_le (pc := 49) (tgt := 54) hk dX2_waited_49 rfl ?_ ?_
    · refine V_iload_n (pc := 54) hk dX2_waited_54 3 rfl ?_
      refine V_aload_n (pc := 55) hk dX2_waited_55 2 rfl ?_
      refine V_iload (pc := 56) hk dX2_waited_56 1 rfl ?_
      refine V_iconst (pc := 58) (v := 3) hk dX2_waited_58 rfl ?_
      refine n_X2_295 (pc := 59) hk (fun b r h => ctX2_get (fl y) (fK y) hk.2.2.2.2.2.2.2.1 b v5 3 r10.2 r h) ⟨Nat.le_of_ble_eq_true rfl, Nat.le_of_ble_eq_true rfl⟩ (Nat.le_of_ble_eq_true rfl) dX2_waited_59 (fun r12 => ?_)
      refine V_iload_n (pc := 62) hk dX2_waited_62 0 rfl ?_
      refine V_imul (pc := 63) hk dX2_waited_63 ?_
      refine V_iadd (pc := 64) hk dX2_waited_64 ?_
      refine V_nmI (fun x14 => ?_)
      refine V_istore_n (pc := 65) (lc' := [(2, .int x14), (1, .int (l1 + v9)), (4, .int v5), (0, va_rf l0), (3, .int l3)]) (i := 2) hk dX2_waited_65 rfl (Nat.le_of_ble_eq_true rfl) rfl ?_
      refine V_iinc (pc := 66) (v := 1) (lc' := [(3, .int (l3 + 1)), (2, .int x14), (1, .int (l1 + v9)), (4, .int v5), (0, va_rf l0)]) hk dX2_waited_66 4 rfl rfl (Nat.le_of_ble_eq_true rfl) rfl ?_
      refine V_goto (pc := 69) (tgt := 6) hk dX2_waited_69 rfl ?_
      refine V_pick (lc' := [(0, va_rf l0), (1, .int (l1 + v9)), (2, .int x14), (3, .int (l3 + 1))]) [4, 2, 1, 0] rfl ?_
      exact h6 r12.2 l0 (l1 + v9) x14 (l3 + 1)
    · refine V_iconst (pc := 52) (v := (-1)) hk dX2_waited_52 (by decide +kernel) ?_
      exact V_ireturn (pc := 53) hk hR rfl dX2_waited_53
theorem eX2_waited_l6 {y : Fx (Int32 × Wd)} (hk : OkF y RX2 cX2_waited 5 3 82) (hR : RetM y rvI (some (.int))) : ∀ (n : Nat) (w : Wd) (l0 : Option Nat) (l1 : Int32) (l2 : Int32) (l3 : Int32), V y w [(0, va_rf l0), (1, .int l1), (2, .int l2), (3, .int l3)] [] 6 (mX2_waited_l6 n w l0 l1 l2 l3) := by
  intro n
  induction n with
  | zero => intro w l0 l1 l2 l3; exact V_none
  | succ n ih => intro w l0 l1 l2 l3; exact eX2_waited_b6 hk hR ih w l0 l1 l2 l3
theorem eX2_waited {y : Fx (Int32 × Wd)} (hk : OkF y RX2 cX2_waited 5 3 82) (hR : RetM y rvI (some (.int))) (this : Nat) (w : Wd) : V y w [(0, va_rf (some this))] [] 0 (mX2_waited this w) := by
  unfold mX2_waited
  refine V_iconst (pc := 0) (v := 0) hk dX2_waited_0 rfl ?_
  refine V_istore_n (pc := 1) (lc' := [(1, .int 0), (0, va_rf ((some this)))]) (i := 1) hk dX2_waited_1 rfl (Nat.le_of_ble_eq_true rfl) (by simp [rf_cat, cat_int, cat_long, cat_ref]) ?_
  refine V_iconst (pc := 2) (v := 0) hk dX2_waited_2 rfl ?_
  refine V_istore_n (pc := 3) (lc' := [(2, .int 0), (1, .int 0), (0, va_rf ((some this)))]) (i := 2) hk dX2_waited_3 rfl (Nat.le_of_ble_eq_true rfl) rfl ?_
  refine V_iconst (pc := 4) (v := 0) hk dX2_waited_4 rfl ?_
  refine V_istore_n (pc := 5) (lc' := [(3, .int 0), (2, .int 0), (1, .int 0), (0, va_rf ((some this)))]) (i := 3) hk dX2_waited_5 rfl (Nat.le_of_ble_eq_true rfl) rfl ?_
  refine V_pick (lc' := [(0, va_rf ((some this))), (1, .int 0), (2, .int 0), (3, .int 0)]) [3, 2, 1, 0] rfl ?_
  exact eX2_waited_l6 hk hR FU w ((some this)) 0 0 0
theorem ctX2_waited (l : Launch) (K : Kx) (hI : Ini K) (b : Nat) (w : Wd) : ∀ r, mX2_waited b w = some r → Ct l K 3 82 yX2_waited (ws_ yX2_waited cX2_waited 5 (some (.int))) [.ref b] w (rvI r.1) r.2 := Ct_of rvI l K hI 3 82 [.ref b] w (by decide) (lc0 := [(0, .ref b)]) rfl (Nat.le_of_ble_eq_true rfl) (fun y hk hR _ _ hin => eX2_waited hk hR b w)
noncomputable def mX2_nextRow_b107 (k107 : Wd → (Option Nat) → Int32 → Int32 → Option (Int32 × Wd)) (w : Wd) (l0 : Option Nat) (l4 : Int32) (l5 : Int32) : Option (Int32 × Wd) :=
if l5 ≤ l4 then (
(nok (.boolean) 1).bind fun _ => some (1, w))
else (
(gR w l0 2 32).bind fun v1 =>
(ia w v1 l4).bind fun v2 =>
(gR w l0 2 32).bind fun v3 =>
(gR w l0 2 32).bind fun v4 =>
(ia w v4 l5).bind fun v5 =>
(ias w v3 l4 v5).bind fun w6 =>
(gR w6 l0 2 32).bind fun v7 =>
(ias w6 v7 l5 v2).bind fun w8 =>
k107 w8 l0 (l4 + 1) (l5 + (-1)))
noncomputable def mX2_nextRow_l107 : Nat → Wd → (Option Nat) → Int32 → Int32 → Option (Int32 × Wd)
  | 0, _, _, _, _ => none
  | n + 1, w, l0, l4, l5 => mX2_nextRow_b107 (mX2_nextRow_l107 n) w l0 l4 l5
noncomputable def mX2_nextRow_b47 (k47 : Wd → (Option Nat) → Int32 → Int32 → Option (Int32 × Wd)) (w : Wd) (l0 : Option Nat) (l1 : Int32) (l2 : Int32) : Option (Int32 × Wd) :=
(gR w l0 2 32).bind fun v1 =>
(ia w v1 l2).bind fun v2 =>
(gR w l0 2 32).bind fun v3 =>
(ia w v3 l1).bind fun v4 =>
if v4 ≤ v2 then (
(gR w l0 2 32).bind fun v5 =>
(ia w v5 l1).bind fun v6 =>
(gR w l0 2 32).bind fun v7 =>
(gR w l0 2 32).bind fun v8 =>
(ia w v8 l2).bind fun v9 =>
(ias w v7 l1 v9).bind fun w10 =>
(gR w10 l0 2 32).bind fun v11 =>
(ias w10 v11 l2 v6).bind fun w12 =>
(gI w12 l0 2 34).bind fun v13 =>
mX2_nextRow_l107 FU w12 l0 (l1 + 1) (v13 - 1))
else (
k47 w l0 l1 (l2 + (-1)))
noncomputable def mX2_nextRow_l47 : Nat → Wd → (Option Nat) → Int32 → Int32 → Option (Int32 × Wd)
  | 0, _, _, _, _ => none
  | n + 1, w, l0, l1, l2 => mX2_nextRow_b47 (mX2_nextRow_l47 n) w l0 l1 l2
noncomputable def mX2_nextRow_p34 (w : Wd) (l0 : Option Nat) (l1 : Int32) : Option (Int32 × Wd) :=
if 0 ≤ l1 then (
(gI w l0 2 34).bind fun v1 =>
mX2_nextRow_l47 FU w l0 l1 (v1 - 1))
else (
(nok (.boolean) 0).bind fun _ => some (0, w))
noncomputable def mX2_nextRow_b7 (k7 : Wd → (Option Nat) → Int32 → Option (Int32 × Wd)) (w : Wd) (l0 : Option Nat) (l1 : Int32) : Option (Int32 × Wd) :=
if l1 < 0 then (
mX2_nextRow_p34 w l0 l1)
else (
(gR w l0 2 32).bind fun v1 =>
(ia w v1 l1).bind fun v2 =>
(gR w l0 2 32).bind fun v3 =>
(ia w v3 (l1 + 1)).bind fun v4 =>
if v2 ≤ v4 then (
mX2_nextRow_p34 w l0 l1)
else (
k7 w l0 (l1 + (-1))))
noncomputable def mX2_nextRow_l7 : Nat → Wd → (Option Nat) → Int32 → Option (Int32 × Wd)
  | 0, _, _, _ => none
  | n + 1, w, l0, l1 => mX2_nextRow_b7 (mX2_nextRow_l7 n) w l0 l1
noncomputable def mX2_nextRow (this : Nat) (w : Wd) : Option (Int32 × Wd) :=
(gI w ((some this)) 2 34).bind fun v1 =>
mX2_nextRow_l7 FU w ((some this)) (v1 - 2)
theorem eX2_nextRow_b107 {y : Fx (Int32 × Wd)} (hk : OkF y RX2 cX2_nextRow 6 2 60) (hR : RetM y rvI (some (.boolean))) {k107 : Wd → (Option Nat) → Int32 → Int32 → Option (Int32 × Wd)} (h107 : ∀ (w : Wd) (l0 : Option Nat) (l4 : Int32) (l5 : Int32), V y w [(0, va_rf l0), (4, .int l4), (5, .int l5)] [] 107 (k107 w l0 l4 l5)) (w : Wd) (l0 : Option Nat) (l4 : Int32) (l5 : Int32) : V y w [(0, va_rf l0), (4, .int l4), (5, .int l5)] [] 107 (mX2_nextRow_b107 k107 w l0 l4 l5) := by
  unfold mX2_nextRow_b107
  refine V_iload (pc := 107) hk dX2_nextRow_107 1 rfl ?_
  refine V_iload (pc := 109) hk dX2_nextRow_109 2 rfl ?_
  refine V_icmp_ge (pc := 111) (tgt := 153) hk dX2_nextRow_111 rfl ?_ ?_
  · refine V_iconst (pc := 153) (v := 1) hk dX2_nextRow_153 rfl ?_
    exact V_zreturn (pc := 154) hk hR rfl dX2_nextRow_154
  · refine V_aload_n (pc := 114) hk dX2_nextRow_114 0 rfl ?_
    refine g_X2_55 (pc := 115) hk dX2_nextRow_115 (fun v1 => ?_)
    refine V_iload (pc := 118) hk dX2_nextRow_118 1 rfl ?_
    refine V_iaload (pc := 120) hk dX2_nextRow_120 (fun v2 => ?_)
    refine V_istore_n (pc := 121) (lc' := [(3, .int v2), (0, va_rf l0), (4, .int l4), (5, .int l5)]) (i := 3) hk dX2_nextRow_121 rfl (Nat.le_of_ble_eq_true rfl) rfl ?_
    refine V_aload_n (pc := 122) hk dX2_nextRow_122 1 rfl ?_
    refine g_X2_55 (pc := 123) hk dX2_nextRow_123 (fun v3 => ?_)
    refine V_iload (pc := 126) hk dX2_nextRow_126 2 rfl ?_
    refine V_aload_n (pc := 128) hk dX2_nextRow_128 1 rfl ?_
    refine g_X2_55 (pc := 129) hk dX2_nextRow_129 (fun v4 => ?_)
    refine V_iload (pc := 132) hk dX2_nextRow_132 3 rfl ?_
    refine V_iaload (pc := 134) hk dX2_nextRow_134 (fun v5 => ?_)
    refine V_iastore (pc := 135) hk dX2_nextRow_135 (fun w6 => ?_)
    refine V_aload_n (pc := 136) hk dX2_nextRow_136 1 rfl ?_
    refine g_X2_55 (pc := 137) hk dX2_nextRow_137 (fun v7 => ?_)
    refine V_iload (pc := 140) hk dX2_nextRow_140 3 rfl ?_
    refine V_iload_n (pc := 142) hk dX2_nextRow_142 0 rfl ?_
    refine V_iastore (pc := 143) hk dX2_nextRow_143 (fun w8 => ?_)
    refine V_iinc (pc := 144) (v := 1) (lc' := [(4, .int (l4 + 1)), (3, .int v2), (0, va_rf l0), (5, .int l5)]) hk dX2_nextRow_144 2 rfl rfl (Nat.le_of_ble_eq_true rfl) rfl ?_
    refine V_iinc (pc := 147) (v := (-1)) (lc' := [(5, .int (l5 + (-1))), (4, .int (l4 + 1)), (3, .int v2), (0, va_rf l0)]) hk dX2_nextRow_147 3 rfl (by decide +kernel) (Nat.le_of_ble_eq_true rfl) rfl ?_
    refine V_goto (pc := 150) (tgt := 107) hk dX2_nextRow_150 rfl ?_
    refine V_pick (lc' := [(0, va_rf l0), (4, .int (l4 + 1)), (5, .int (l5 + (-1)))]) [3, 1, 0] rfl ?_
    exact h107 w8 l0 (l4 + 1) (l5 + (-1))
theorem eX2_nextRow_l107 {y : Fx (Int32 × Wd)} (hk : OkF y RX2 cX2_nextRow 6 2 60) (hR : RetM y rvI (some (.boolean))) : ∀ (n : Nat) (w : Wd) (l0 : Option Nat) (l4 : Int32) (l5 : Int32), V y w [(0, va_rf l0), (4, .int l4), (5, .int l5)] [] 107 (mX2_nextRow_l107 n w l0 l4 l5) := by
  intro n
  induction n with
  | zero => intro w l0 l4 l5; exact V_none
  | succ n ih => intro w l0 l4 l5; exact eX2_nextRow_b107 hk hR ih w l0 l4 l5
theorem eX2_nextRow_b47 {y : Fx (Int32 × Wd)} (hk : OkF y RX2 cX2_nextRow 6 2 60) (hR : RetM y rvI (some (.boolean))) {k47 : Wd → (Option Nat) → Int32 → Int32 → Option (Int32 × Wd)} (h47 : ∀ (w : Wd) (l0 : Option Nat) (l1 : Int32) (l2 : Int32), V y w [(0, va_rf l0), (1, .int l1), (2, .int l2)] [] 47 (k47 w l0 l1 l2)) (w : Wd) (l0 : Option Nat) (l1 : Int32) (l2 : Int32) : V y w [(0, va_rf l0), (1, .int l1), (2, .int l2)] [] 47 (mX2_nextRow_b47 k47 w l0 l1 l2) := by
  unfold mX2_nextRow_b47
  refine V_aload_n (pc := 47) hk dX2_nextRow_47 0 rfl ?_
  refine g_X2_55 (pc := 48) hk dX2_nextRow_48 (fun v1 => ?_)
  refine V_iload_n (pc := 51) hk dX2_nextRow_51 2 rfl ?_
  refine V_iaload (pc := 52) hk dX2_nextRow_52 (fun v2 => ?_)
  refine V_aload_n (pc := 53) hk dX2_nextRow_53 0 rfl ?_
  refine g_X2_55 (pc := 54) hk dX2_nextRow_54 (fun v3 => ?_)
  refine V_iload_n (pc := 57) hk dX2_nextRow_57 1 rfl ?_
  refine V_iaload (pc := 58) hk dX2_nextRow_58 (fun v4 => ?_)
  refine V_icmp_ge (pc := 59) (tgt := 68) hk dX2_nextRow_59 rfl ?_ ?_
  · refine V_aload_n (pc := 68) hk dX2_nextRow_68 0 rfl ?_
    refine g_X2_55 (pc := 69) hk dX2_nextRow_69 (fun v5 => ?_)
    refine V_iload_n (pc := 72) hk dX2_nextRow_72 1 rfl ?_
    refine V_iaload (pc := 73) hk dX2_nextRow_73 (fun v6 => ?_)
    refine V_istore_n (pc := 74) (lc' := [(3, .int v6), (0, va_rf l0), (1, .int l1), (2, .int l2)]) (i := 3) hk dX2_nextRow_74 rfl (Nat.le_of_ble_eq_true rfl) rfl ?_
    refine V_aload_n (pc := 75) hk dX2_nextRow_75 1 rfl ?_
    refine g_X2_55 (pc := 76) hk dX2_nextRow_76 (fun v7 => ?_)
    refine V_iload_n (pc := 79) hk dX2_nextRow_79 2 rfl ?_
    refine V_aload_n (pc := 80) hk dX2_nextRow_80 1 rfl ?_
    refine g_X2_55 (pc := 81) hk dX2_nextRow_81 (fun v8 => ?_)
    refine V_iload_n (pc := 84) hk dX2_nextRow_84 3 rfl ?_
    refine V_iaload (pc := 85) hk dX2_nextRow_85 (fun v9 => ?_)
    refine V_iastore (pc := 86) hk dX2_nextRow_86 (fun w10 => ?_)
    refine V_aload_n (pc := 87) hk dX2_nextRow_87 1 rfl ?_
    refine g_X2_55 (pc := 88) hk dX2_nextRow_88 (fun v11 => ?_)
    refine V_iload_n (pc := 91) hk dX2_nextRow_91 3 rfl ?_
    refine V_iload_n (pc := 92) hk dX2_nextRow_92 0 rfl ?_
    refine V_iastore (pc := 93) hk dX2_nextRow_93 (fun w12 => ?_)
    refine V_iload_n (pc := 94) hk dX2_nextRow_94 2 rfl ?_
    refine V_iconst (pc := 95) (v := 1) hk dX2_nextRow_95 rfl ?_
    refine V_iadd (pc := 96) hk dX2_nextRow_96 ?_
    refine V_istore (pc := 97) (lc' := [(4, .int (l1 + 1)), (3, .int v6), (0, va_rf l0), (1, .int l1), (2, .int l2)]) (i := 4) hk dX2_nextRow_97 (Nat.le_of_ble_eq_true rfl) rfl ?_
    refine V_aload_n (pc := 99) hk dX2_nextRow_99 2 rfl ?_
    refine g_X2_442 (pc := 100) hk dX2_nextRow_100 (fun v13 => ?_)
    refine V_iconst (pc := 103) (v := 1) hk dX2_nextRow_103 rfl ?_
    refine V_isub (pc := 104) hk dX2_nextRow_104 ?_
    refine V_istore (pc := 105) (lc' := [(5, .int (v13 - 1)), (4, .int (l1 + 1)), (3, .int v6), (0, va_rf l0), (1, .int l1), (2, .int l2)]) (i := 5) hk dX2_nextRow_105 (Nat.le_of_ble_eq_true rfl) rfl ?_
    refine V_pick (lc' := [(0, va_rf l0), (4, .int (l1 + 1)), (5, .int (v13 - 1))]) [3, 1, 0] rfl ?_
    exact eX2_nextRow_l107 hk hR FU w12 l0 (l1 + 1) (v13 - 1)
  · refine V_iinc (pc := 62) (v := (-1)) (lc' := [(2, .int (l2 + (-1))), (0, va_rf l0), (1, .int l1)]) hk dX2_nextRow_62 2 rfl (by decide +kernel) (Nat.le_of_ble_eq_true rfl) rfl ?_
    refine V_goto (pc := 65) (tgt := 47) hk dX2_nextRow_65 rfl ?_
    refine V_pick (lc' := [(0, va_rf l0), (1, .int l1), (2, .int (l2 + (-1)))]) [1, 2, 0] rfl ?_
    exact h47 w l0 l1 (l2 + (-1))
theorem eX2_nextRow_l47 {y : Fx (Int32 × Wd)} (hk : OkF y RX2 cX2_nextRow 6 2 60) (hR : RetM y rvI (some (.boolean))) : ∀ (n : Nat) (w : Wd) (l0 : Option Nat) (l1 : Int32) (l2 : Int32), V y w [(0, va_rf l0), (1, .int l1), (2, .int l2)] [] 47 (mX2_nextRow_l47 n w l0 l1 l2) := by
  intro n
  induction n with
  | zero => intro w l0 l1 l2; exact V_none
  | succ n ih => intro w l0 l1 l2; exact eX2_nextRow_b47 hk hR ih w l0 l1 l2
theorem eX2_nextRow_p34 {y : Fx (Int32 × Wd)} (hk : OkF y RX2 cX2_nextRow 6 2 60) (hR : RetM y rvI (some (.boolean))) (w : Wd) (l0 : Option Nat) (l1 : Int32) : V y w [(0, va_rf l0), (1, .int l1)] [] 34 (mX2_nextRow_p34 w l0 l1) := by
  unfold mX2_nextRow_p34
  refine V_iload_n (pc := 34) hk dX2_nextRow_34 1 rfl ?_
  refine V_if_ge (pc := 35) (tgt := 40) hk dX2_nextRow_35 rfl ?_ ?_
  · refine V_aload_n (pc := 40) hk dX2_nextRow_40 0 rfl ?_
    refine g_X2_442 (pc := 41) hk dX2_nextRow_41 (fun v1 => ?_)
    refine V_iconst (pc := 44) (v := 1) hk dX2_nextRow_44 rfl ?_
    refine V_isub (pc := 45) hk dX2_nextRow_45 ?_
    refine V_istore_n (pc := 46) (lc' := [(2, .int (v1 - 1)), (0, va_rf l0), (1, .int l1)]) (i := 2) hk dX2_nextRow_46 rfl (Nat.le_of_ble_eq_true rfl) rfl ?_
    refine V_pick (lc' := [(0, va_rf l0), (1, .int l1), (2, .int (v1 - 1))]) [1, 2, 0] rfl ?_
    exact eX2_nextRow_l47 hk hR FU w l0 l1 (v1 - 1)
  · refine V_iconst (pc := 38) (v := 0) hk dX2_nextRow_38 rfl ?_
    exact V_zreturn (pc := 39) hk hR rfl dX2_nextRow_39
theorem eX2_nextRow_b7 {y : Fx (Int32 × Wd)} (hk : OkF y RX2 cX2_nextRow 6 2 60) (hR : RetM y rvI (some (.boolean))) {k7 : Wd → (Option Nat) → Int32 → Option (Int32 × Wd)} (h7 : ∀ (w : Wd) (l0 : Option Nat) (l1 : Int32), V y w [(0, va_rf l0), (1, .int l1)] [] 7 (k7 w l0 l1)) (w : Wd) (l0 : Option Nat) (l1 : Int32) : V y w [(0, va_rf l0), (1, .int l1)] [] 7 (mX2_nextRow_b7 k7 w l0 l1) := by
  unfold mX2_nextRow_b7
  refine V_iload_n (pc := 7) hk dX2_nextRow_7 1 rfl ?_
  refine V_if_lt (pc := 8) (tgt := 34) hk dX2_nextRow_8 rfl ?_ ?_
  · exact eX2_nextRow_p34 hk hR w l0 l1
  · refine V_aload_n (pc := 11) hk dX2_nextRow_11 0 rfl ?_
    refine g_X2_55 (pc := 12) hk dX2_nextRow_12 (fun v1 => ?_)
    refine V_iload_n (pc := 15) hk dX2_nextRow_15 1 rfl ?_
    refine V_iaload (pc := 16) hk dX2_nextRow_16 (fun v2 => ?_)
    refine V_aload_n (pc := 17) hk dX2_nextRow_17 0 rfl ?_
    refine g_X2_55 (pc := 18) hk dX2_nextRow_18 (fun v3 => ?_)
    refine V_iload_n (pc := 21) hk dX2_nextRow_21 1 rfl ?_
    refine V_iconst (pc := 22) (v := 1) hk dX2_nextRow_22 rfl ?_
    refine V_iadd (pc := 23) hk dX2_nextRow_23 ?_
    refine V_iaload (pc := 24) hk dX2_nextRow_24 (fun v4 => ?_)
    refine V_icmp_le (pc := 25) (tgt := 34) hk dX2_nextRow_25 rfl ?_ ?_
    · exact eX2_nextRow_p34 hk hR w l0 l1
    · refine V_iinc (pc := 28) (v := (-1)) (lc' := [(1, .int (l1 + (-1))), (0, va_rf l0)]) hk dX2_nextRow_28 1 rfl (by decide +kernel) (Nat.le_of_ble_eq_true rfl) (by simp [rf_cat, cat_int, cat_long, cat_ref]) ?_
      refine V_goto (pc := 31) (tgt := 7) hk dX2_nextRow_31 rfl ?_
      refine V_pick (lc' := [(0, va_rf l0), (1, .int (l1 + (-1)))]) [1, 0] rfl ?_
      exact h7 w l0 (l1 + (-1))
theorem eX2_nextRow_l7 {y : Fx (Int32 × Wd)} (hk : OkF y RX2 cX2_nextRow 6 2 60) (hR : RetM y rvI (some (.boolean))) : ∀ (n : Nat) (w : Wd) (l0 : Option Nat) (l1 : Int32), V y w [(0, va_rf l0), (1, .int l1)] [] 7 (mX2_nextRow_l7 n w l0 l1) := by
  intro n
  induction n with
  | zero => intro w l0 l1; exact V_none
  | succ n ih => intro w l0 l1; exact eX2_nextRow_b7 hk hR ih w l0 l1
theorem eX2_nextRow {y : Fx (Int32 × Wd)} (hk : OkF y RX2 cX2_nextRow 6 2 60) (hR : RetM y rvI (some (.boolean))) (this : Nat) (w : Wd) : V y w [(0, va_rf (some this))] [] 0 (mX2_nextRow this w) := by
  unfold mX2_nextRow
  refine V_aload_n (pc := 0) hk dX2_nextRow_0 0 rfl ?_
  refine g_X2_442 (pc := 1) hk dX2_nextRow_1 (fun v1 => ?_)
  refine V_iconst (pc := 4) (v := 2) hk dX2_nextRow_4 rfl ?_
  refine V_isub (pc := 5) hk dX2_nextRow_5 ?_
  refine V_istore_n (pc := 6) (lc' := [(1, .int (v1 - 2)), (0, va_rf ((some this)))]) (i := 1) hk dX2_nextRow_6 rfl (Nat.le_of_ble_eq_true rfl) (by simp [rf_cat, cat_int, cat_long, cat_ref]) ?_
  refine V_pick (lc' := [(0, va_rf ((some this))), (1, .int (v1 - 2))]) [1, 0] rfl ?_
  exact eX2_nextRow_l7 hk hR FU w ((some this)) (v1 - 2)
theorem ctX2_nextRow (l : Launch) (K : Kx) (hI : Ini K) (b : Nat) (w : Wd) : ∀ r, mX2_nextRow b w = some r → Ct l K 2 60 yX2_nextRow (ws_ yX2_nextRow cX2_nextRow 6 (some (.boolean))) [.ref b] w (rvI r.1) r.2 := Ct_of rvI l K hI 2 60 [.ref b] w (by decide) (lc0 := [(0, .ref b)]) rfl (Nat.le_of_ble_eq_true rfl) (fun y hk hR _ _ hin => eX2_nextRow hk hR b w)
noncomputable def mX2_first_p88 (k22 : Wd → (Option Nat) → Int32 → Int32 → Int32 → Option (Int32 × Wd)) (w : Wd) (l0 : Option Nat) (l2 : Int32) (l3 : Int32) : Option (Int32 × Wd) :=
(recv w l0 2).bind fun b2 => (cal w (mX2_nextRow b2 w)).bind fun r1 =>
k22 r1.2 l0 l2 l3 r1.1
noncomputable def mX2_first_b54 (k22 : Wd → (Option Nat) → Int32 → Int32 → Int32 → Option (Int32 × Wd)) (k54 : Wd → (Option Nat) → Int32 → Int32 → Int32 → Option (Int32 × Wd)) (w : Wd) (l0 : Option Nat) (l2 : Int32) (l3 : Int32) (l6 : Int32) : Option (Int32 × Wd) :=
(gI w l0 2 34).bind fun v1 =>
if v1 ≤ l6 then (
mX2_first_p88 k22 w l0 l2 l3)
else (
(gR w l0 2 33).bind fun v2 =>
(gR w l0 2 30).bind fun v3 =>
(gR w l0 2 32).bind fun v4 =>
(ia w v4 l6).bind fun v5 =>
(ia w v3 v5).bind fun v6 =>
(ias w v2 l6 v6).bind fun w7 =>
k54 w7 l0 l2 l3 (l6 + 1))
noncomputable def mX2_first_l54 (k22 : Wd → (Option Nat) → Int32 → Int32 → Int32 → Option (Int32 × Wd)) : Nat → Wd → (Option Nat) → Int32 → Int32 → Int32 → Option (Int32 × Wd)
  | 0, _, _, _, _, _ => none
  | n + 1, w, l0, l2, l3, l6 => mX2_first_b54 k22 (mX2_first_l54 k22 n) w l0 l2 l3 l6
noncomputable def mX2_first_b22 (k22 : Wd → (Option Nat) → Int32 → Int32 → Int32 → Option (Int32 × Wd)) (w : Wd) (l0 : Option Nat) (l2 : Int32) (l3 : Int32) (l4 : Int32) : Option (Int32 × Wd) :=
if l4 = 0 then (
if 0 ≤ l3 then (
if ¬ l2 = (-1) then (
(gI w l0 2 34).bind fun v1 =>
if v1 ≤ l2 then (
some ((-1), w))
else (
(gR w l0 2 33).bind fun v2 =>
(ia w v2 l2).bind fun v3 =>
some (v3, w)))
else (
some (l3, w)))
else (
some ((-1), w)))
else (
(recv w l0 2).bind fun b5 => (cal w (mX2_waited b5 w)).bind fun r4 =>
if r4.1 < 0 then (
mX2_first_p88 k22 r4.2 l0 l2 l3)
else (
if l3 < 0 then (
mX2_first_l54 k22 FU r4.2 l0 l2 r4.1 0)
else (
if l3 ≤ r4.1 then (
mX2_first_p88 k22 r4.2 l0 l2 l3)
else (
mX2_first_l54 k22 FU r4.2 l0 l2 r4.1 0))))
noncomputable def mX2_first_l22 : Nat → Wd → (Option Nat) → Int32 → Int32 → Int32 → Option (Int32 × Wd)
  | 0, _, _, _, _, _ => none
  | n + 1, w, l0, l2, l3, l4 => mX2_first_b22 (mX2_first_l22 n) w l0 l2 l3 l4
noncomputable def mX2_first (this : Nat) (a0 : Int32) (a1 : Int32) (w : Wd) : Option (Int32 × Wd) :=
(recv w ((some this)) 2).bind fun b2 => (cal w (mX2_layMembers b2 a0 7 w)).bind fun r1 =>
if r1.1 = 0 then (
some ((-1), r1.2))
else (
if (-1) ≤ a1 then (
mX2_first_l22 FU r1.2 ((some this)) a1 (-1) 1)
else (
some ((-1), r1.2)))
theorem eX2_first_p88 {y : Fx (Int32 × Wd)} (hk : OkF y RX2 cX2_first 7 8 203) (hR : RetM y rvI (some (.int))) {k22 : Wd → (Option Nat) → Int32 → Int32 → Int32 → Option (Int32 × Wd)} (h22 : ∀ (w : Wd) (l0 : Option Nat) (l2 : Int32) (l3 : Int32) (l4 : Int32), V y w [(0, va_rf l0), (2, .int l2), (3, .int l3), (4, .int l4)] [] 22 (k22 w l0 l2 l3 l4)) (w : Wd) (l0 : Option Nat) (l2 : Int32) (l3 : Int32) : V y w [(0, va_rf l0), (2, .int l2), (3, .int l3)] [] 88 (mX2_first_p88 k22 w l0 l2 l3) := by
  unfold mX2_first_p88
  refine V_aload_n (pc := 88) hk dX2_first_88 0 rfl ?_
  refine n_X2_451 (pc := 89) hk (fun b r h => ctX2_nextRow (fl y) (fK y) hk.2.2.2.2.2.2.2.1 b w r h) ⟨Nat.le_of_ble_eq_true rfl, Nat.le_of_ble_eq_true rfl⟩ (Nat.le_of_ble_eq_true rfl) dX2_first_89 (fun r1 => ?_)
  refine V_istore (pc := 92) (lc' := [(4, .int r1.1), (0, va_rf l0), (2, .int l2), (3, .int l3)]) (i := 4) hk dX2_first_92 (Nat.le_of_ble_eq_true rfl) rfl ?_
  refine V_goto (pc := 94) (tgt := 22) hk dX2_first_94 rfl ?_
  refine V_pick (lc' := [(0, va_rf l0), (2, .int l2), (3, .int l3), (4, .int r1.1)]) [1, 2, 3, 0] rfl ?_
  exact h22 r1.2 l0 l2 l3 r1.1
theorem eX2_first_b54 {y : Fx (Int32 × Wd)} (hk : OkF y RX2 cX2_first 7 8 203) (hR : RetM y rvI (some (.int))) {k22 : Wd → (Option Nat) → Int32 → Int32 → Int32 → Option (Int32 × Wd)} (h22 : ∀ (w : Wd) (l0 : Option Nat) (l2 : Int32) (l3 : Int32) (l4 : Int32), V y w [(0, va_rf l0), (2, .int l2), (3, .int l3), (4, .int l4)] [] 22 (k22 w l0 l2 l3 l4)) {k54 : Wd → (Option Nat) → Int32 → Int32 → Int32 → Option (Int32 × Wd)} (h54 : ∀ (w : Wd) (l0 : Option Nat) (l2 : Int32) (l3 : Int32) (l6 : Int32), V y w [(0, va_rf l0), (2, .int l2), (3, .int l3), (6, .int l6)] [] 54 (k54 w l0 l2 l3 l6)) (w : Wd) (l0 : Option Nat) (l2 : Int32) (l3 : Int32) (l6 : Int32) : V y w [(0, va_rf l0), (2, .int l2), (3, .int l3), (6, .int l6)] [] 54 (mX2_first_b54 k22 k54 w l0 l2 l3 l6) := by
  unfold mX2_first_b54
  refine V_iload (pc := 54) hk dX2_first_54 3 rfl ?_
  refine V_aload_n (pc := 56) hk dX2_first_56 0 rfl ?_
  refine g_X2_442 (pc := 57) hk dX2_first_57 (fun v1 => ?_)
  refine V_icmp_ge (pc := 60) (tgt := 88) hk dX2_first_60 rfl ?_ ?_
  · refine V_pick (lc' := [(0, va_rf l0), (2, .int l2), (3, .int l3)]) [0, 1, 2] rfl ?_
    exact eX2_first_p88 hk hR h22 w l0 l2 l3
  · refine V_aload_n (pc := 63) hk dX2_first_63 0 rfl ?_
    refine g_X2_58 (pc := 64) hk dX2_first_64 (fun v2 => ?_)
    refine V_iload (pc := 67) hk dX2_first_67 3 rfl ?_
    refine V_aload_n (pc := 69) hk dX2_first_69 0 rfl ?_
    refine g_X2_49 (pc := 70) hk dX2_first_70 (fun v3 => ?_)
    refine V_aload_n (pc := 73) hk dX2_first_73 0 rfl ?_
    refine g_X2_55 (pc := 74) hk dX2_first_74 (fun v4 => ?_)
    refine V_iload (pc := 77) hk dX2_first_77 3 rfl ?_
    refine V_iaload (pc := 79) hk dX2_first_79 (fun v5 => ?_)
    refine V_iaload (pc := 80) hk dX2_first_80 (fun v6 => ?_)
    refine V_iastore (pc := 81) hk dX2_first_81 (fun w7 => ?_)
    refine V_iinc (pc := 82) (v := 1) (lc' := [(6, .int (l6 + 1)), (0, va_rf l0), (2, .int l2), (3, .int l3)]) hk dX2_first_82 3 rfl rfl (Nat.le_of_ble_eq_true rfl) rfl ?_
    refine V_goto (pc := 85) (tgt := 54) hk dX2_first_85 rfl ?_
    refine V_pick (lc' := [(0, va_rf l0), (2, .int l2), (3, .int l3), (6, .int (l6 + 1))]) [1, 2, 3, 0] rfl ?_
    exact h54 w7 l0 l2 l3 (l6 + 1)
theorem eX2_first_l54 {y : Fx (Int32 × Wd)} (hk : OkF y RX2 cX2_first 7 8 203) (hR : RetM y rvI (some (.int))) {k22 : Wd → (Option Nat) → Int32 → Int32 → Int32 → Option (Int32 × Wd)} (h22 : ∀ (w : Wd) (l0 : Option Nat) (l2 : Int32) (l3 : Int32) (l4 : Int32), V y w [(0, va_rf l0), (2, .int l2), (3, .int l3), (4, .int l4)] [] 22 (k22 w l0 l2 l3 l4)) : ∀ (n : Nat) (w : Wd) (l0 : Option Nat) (l2 : Int32) (l3 : Int32) (l6 : Int32), V y w [(0, va_rf l0), (2, .int l2), (3, .int l3), (6, .int l6)] [] 54 (mX2_first_l54 k22 n w l0 l2 l3 l6) := by
  intro n
  induction n with
  | zero => intro w l0 l2 l3 l6; exact V_none
  | succ n ih => intro w l0 l2 l3 l6; exact eX2_first_b54 hk hR h22 ih w l0 l2 l3 l6
theorem eX2_first_b22 {y : Fx (Int32 × Wd)} (hk : OkF y RX2 cX2_first 7 8 203) (hR : RetM y rvI (some (.int))) {k22 : Wd → (Option Nat) → Int32 → Int32 → Int32 → Option (Int32 × Wd)} (h22 : ∀ (w : Wd) (l0 : Option Nat) (l2 : Int32) (l3 : Int32) (l4 : Int32), V y w [(0, va_rf l0), (2, .int l2), (3, .int l3), (4, .int l4)] [] 22 (k22 w l0 l2 l3 l4)) (w : Wd) (l0 : Option Nat) (l2 : Int32) (l3 : Int32) (l4 : Int32) : V y w [(0, va_rf l0), (2, .int l2), (3, .int l3), (4, .int l4)] [] 22 (mX2_first_b22 k22 w l0 l2 l3 l4) := by
  unfold mX2_first_b22
  refine V_iload (pc := 22) hk dX2_first_22 3 rfl ?_
  refine V_if_eq (pc := 24) (tgt := 97) hk dX2_first_24 rfl ?_ ?_
  · refine V_iload_n (pc := 97) hk dX2_first_97 2 rfl ?_
    refine V_if_ge (pc := 98) (tgt := 103) hk dX2_first_98 rfl ?_ ?_
    · refine V_iload_n (pc := 103) hk dX2_first_103 1 rfl ?_
      refine V_iconst (pc := 104) (v := (-1)) hk dX2_first_104 (by decide +kernel) ?_
      refine V_icmp_ne (pc := 105) (tgt := 112) hk dX2_first_105 rfl ?_ ?_
      · refine V_iload_n (pc := 112) hk dX2_first_112 1 rfl ?_
        refine V_aload_n (pc := 113) hk dX2_first_113 0 rfl ?_
        refine g_X2_442 (pc := 114) hk dX2_first_114 (fun v1 => ?_)
        refine V_icmp_ge (pc := 117) (tgt := 129) hk dX2_first_117 rfl ?_ ?_
        · refine V_iconst (pc := 129) (v := (-1)) hk dX2_first_129 (by decide +kernel) ?_
          exact V_ireturn (pc := 130) hk hR rfl dX2_first_130
        · refine V_aload_n (pc := 120) hk dX2_first_120 0 rfl ?_
          refine g_X2_58 (pc := 121) hk dX2_first_121 (fun v2 => ?_)
          refine V_iload_n (pc := 124) hk dX2_first_124 1 rfl ?_
          refine V_iaload (pc := 125) hk dX2_first_125 (fun v3 => ?_)
          refine V_goto (pc := 126) (tgt := 130) hk dX2_first_126 rfl ?_
          exact V_ireturn (pc := 130) hk hR rfl dX2_first_130
      · refine V_iload_n (pc := 108) hk dX2_first_108 2 rfl ?_
        refine V_goto (pc := 109) (tgt := 130) hk dX2_first_109 rfl ?_
        exact V_ireturn (pc := 130) hk hR rfl dX2_first_130
    · refine V_iconst (pc := 101) (v := (-1)) hk dX2_first_101 (by decide +kernel) ?_
      exact V_ireturn (pc := 102) hk hR rfl dX2_first_102
  · refine V_aload_n (pc := 27) hk dX2_first_27 0 rfl ?_
    refine n_X2_448 (pc := 28) hk (fun b r h => ctX2_waited (fl y) (fK y) hk.2.2.2.2.2.2.2.1 b w r h) ⟨Nat.le_of_ble_eq_true rfl, Nat.le_of_ble_eq_true rfl⟩ (Nat.le_of_ble_eq_true rfl) dX2_first_28 (fun r4 => ?_)
    refine V_istore (pc := 31) (lc' := [(5, .int r4.1), (0, va_rf l0), (2, .int l2), (3, .int l3), (4, .int l4)]) (i := 5) hk dX2_first_31 (Nat.le_of_ble_eq_true rfl) rfl ?_
    refine V_iload (pc := 33) hk dX2_first_33 0 rfl ?_
    refine V_if_lt (pc := 35) (tgt := 88) hk dX2_first_35 rfl ?_ ?_
    · refine V_pick (lc' := [(0, va_rf l0), (2, .int l2), (3, .int l3)]) [1, 2, 3] rfl ?_
      exact eX2_first_p88 hk hR h22 r4.2 l0 l2 l3
    · refine V_iload_n (pc := 38) hk dX2_first_38 3 rfl ?_
      refine V_if_lt (pc := 39) (tgt := 48) hk dX2_first_39 rfl ?_ ?_
      · refine V_iload (pc := 48) hk dX2_first_48 0 rfl ?_
        refine V_istore_n (pc := 50) (lc' := [(3, .int r4.1), (5, .int r4.1), (0, va_rf l0), (2, .int l2), (4, .int l4)]) (i := 3) hk dX2_first_50 rfl (Nat.le_of_ble_eq_true rfl) rfl ?_
        refine V_iconst (pc := 51) (v := 0) hk dX2_first_51 rfl ?_
        refine V_istore (pc := 52) (lc' := [(6, .int 0), (3, .int r4.1), (5, .int r4.1), (0, va_rf l0), (2, .int l2), (4, .int l4)]) (i := 6) hk dX2_first_52 (Nat.le_of_ble_eq_true rfl) rfl ?_
        refine V_pick (lc' := [(0, va_rf l0), (2, .int l2), (3, .int r4.1), (6, .int 0)]) [3, 4, 1, 0] rfl ?_
        exact eX2_first_l54 hk hR h22 FU r4.2 l0 l2 r4.1 0
      · refine V_iload (pc := 42) hk dX2_first_42 0 rfl ?_
        refine V_iload_n (pc := 44) hk dX2_first_44 3 rfl ?_
        refine V_icmp_ge (pc := 45) (tgt := 88) hk dX2_first_45 rfl ?_ ?_
        · refine V_pick (lc' := [(0, va_rf l0), (2, .int l2), (3, .int l3)]) [1, 2, 3] rfl ?_
          exact eX2_first_p88 hk hR h22 r4.2 l0 l2 l3
        · refine V_iload (pc := 48) hk dX2_first_48 0 rfl ?_
          refine V_istore_n (pc := 50) (lc' := [(3, .int r4.1), (5, .int r4.1), (0, va_rf l0), (2, .int l2), (4, .int l4)]) (i := 3) hk dX2_first_50 rfl (Nat.le_of_ble_eq_true rfl) rfl ?_
          refine V_iconst (pc := 51) (v := 0) hk dX2_first_51 rfl ?_
          refine V_istore (pc := 52) (lc' := [(6, .int 0), (3, .int r4.1), (5, .int r4.1), (0, va_rf l0), (2, .int l2), (4, .int l4)]) (i := 6) hk dX2_first_52 (Nat.le_of_ble_eq_true rfl) rfl ?_
          refine V_pick (lc' := [(0, va_rf l0), (2, .int l2), (3, .int r4.1), (6, .int 0)]) [3, 4, 1, 0] rfl ?_
          exact eX2_first_l54 hk hR h22 FU r4.2 l0 l2 r4.1 0
theorem eX2_first_l22 {y : Fx (Int32 × Wd)} (hk : OkF y RX2 cX2_first 7 8 203) (hR : RetM y rvI (some (.int))) : ∀ (n : Nat) (w : Wd) (l0 : Option Nat) (l2 : Int32) (l3 : Int32) (l4 : Int32), V y w [(0, va_rf l0), (2, .int l2), (3, .int l3), (4, .int l4)] [] 22 (mX2_first_l22 n w l0 l2 l3 l4) := by
  intro n
  induction n with
  | zero => intro w l0 l2 l3 l4; exact V_none
  | succ n ih => intro w l0 l2 l3 l4; exact eX2_first_b22 hk hR ih w l0 l2 l3 l4
theorem eX2_first {y : Fx (Int32 × Wd)} (hk : OkF y RX2 cX2_first 7 8 203) (hR : RetM y rvI (some (.int))) (this : Nat) (a0 : Int32) (a1 : Int32) (w : Wd) : V y w [(0, va_rf (some this)), (1, .int a0), (2, .int a1)] [] 0 (mX2_first this a0 a1 w) := by
  unfold mX2_first
  refine V_aload_n (pc := 0) hk dX2_first_0 0 rfl ?_
  refine V_iload_n (pc := 1) hk dX2_first_1 1 rfl ?_
  refine V_bipush (pc := 2) (v := 7) hk dX2_first_2 rfl ?_
  refine n_X2_445 (pc := 4) hk (fun b r h => ctX2_layMembers (fl y) (fK y) hk.2.2.2.2.2.2.2.1 b a0 7 w r h) ⟨Nat.le_of_ble_eq_true rfl, Nat.le_of_ble_eq_true rfl⟩ (Nat.le_of_ble_eq_true rfl) dX2_first_4 (fun r1 => ?_)
  refine V_if_eq (pc := 7) (tgt := 15) hk dX2_first_7 rfl ?_ ?_
  · refine V_iconst (pc := 15) (v := (-1)) hk dX2_first_15 (by decide +kernel) ?_
    exact V_ireturn (pc := 16) hk hR rfl dX2_first_16
  · refine V_iload_n (pc := 10) hk dX2_first_10 2 rfl ?_
    refine V_iconst (pc := 11) (v := (-1)) hk dX2_first_11 (by decide +kernel) ?_
    refine V_icmp_ge (pc := 12) (tgt := 17) hk dX2_first_12 rfl ?_ ?_
    · refine V_iconst (pc := 17) (v := (-1)) hk dX2_first_17 (by decide +kernel) ?_
      refine V_istore_n (pc := 18) (lc' := [(3, .int (-1)), (0, va_rf ((some this))), (1, .int a0), (2, .int a1)]) (i := 3) hk dX2_first_18 rfl (Nat.le_of_ble_eq_true rfl) rfl ?_
      refine V_iconst (pc := 19) (v := 1) hk dX2_first_19 rfl ?_
      refine V_istore (pc := 20) (lc' := [(4, .int 1), (3, .int (-1)), (0, va_rf ((some this))), (1, .int a0), (2, .int a1)]) (i := 4) hk dX2_first_20 (Nat.le_of_ble_eq_true rfl) rfl ?_
      refine V_pick (lc' := [(0, va_rf ((some this))), (2, .int a1), (3, .int (-1)), (4, .int 1)]) [2, 4, 1, 0] rfl ?_
      exact eX2_first_l22 hk hR FU r1.2 ((some this)) a1 (-1) 1
    · refine V_iconst (pc := 15) (v := (-1)) hk dX2_first_15 (by decide +kernel) ?_
      exact V_ireturn (pc := 16) hk hR rfl dX2_first_16
theorem ctX2_first (l : Launch) (K : Kx) (hI : Ini K) (b : Nat) (a0 : Int32) (a1 : Int32) (w : Wd) : ∀ r, mX2_first b a0 a1 w = some r → Ct l K 8 203 yX2_first (ws_ yX2_first cX2_first 7 (some (.int))) [.ref b, .int a0, .int a1] w (rvI r.1) r.2 := Ct_of rvI l K hI 8 203 [.ref b, .int a0, .int a1] w (by decide) (lc0 := [(0, .ref b), (1, .int a0), (2, .int a1)]) rfl (Nat.le_of_ble_eq_true rfl) (fun y hk hR _ _ hin => eX2_first hk hR b a0 a1 w)
noncomputable def mX2_layJibs_p68 (k7 : Wd → (Option Nat) → Int32 → Int32 → Int32 → Int32 → Option (Int32 × Wd)) (w : Wd) (l0 : Option Nat) (l1 : Int32) (l2 : Int32) (l3 : Int32) (l4 : Int32) (l5 : Int32) (l6 : Int32) : Option (Int32 × Wd) :=
(gI w l0 2 34).bind fun v1 =>
if ¬ l6 = v1 then (
(gR w l0 2 32).bind fun v2 =>
(ias w v2 l4 l6).bind fun w3 =>
if ¬ l5 = 0 then (
k7 w3 l0 l1 l2 (l6 + 1) (l4 + 1))
else (
k7 w3 l0 l1 (l6 + 1) l3 (l4 + 1)))
else (
(nok (.boolean) 0).bind fun _ => some (0, w))
noncomputable def mX2_layJibs_b36 (k7 : Wd → (Option Nat) → Int32 → Int32 → Int32 → Int32 → Option (Int32 × Wd)) (k36 : Wd → (Option Nat) → Int32 → Int32 → Int32 → Int32 → Int32 → Int32 → Option (Int32 × Wd)) (w : Wd) (l0 : Option Nat) (l1 : Int32) (l2 : Int32) (l3 : Int32) (l4 : Int32) (l5 : Int32) (l6 : Int32) : Option (Int32 × Wd) :=
(gI w l0 2 34).bind fun v1 =>
if v1 ≤ l6 then (
mX2_layJibs_p68 k7 w l0 l1 l2 l3 l4 l5 l6)
else (
(gR w l0 2 30).bind fun v2 =>
(ia w v2 l6).bind fun v3 =>
(recv w l0 2).bind fun b5 => (cal w (mX2_get b5 v3 4 w)).bind fun r4 =>
if r4.1 = l5 then (
mX2_layJibs_p68 k7 r4.2 l0 l1 l2 l3 l4 l5 l6)
else (
k36 r4.2 l0 l1 l2 l3 l4 l5 (l6 + 1)))
noncomputable def mX2_layJibs_l36 (k7 : Wd → (Option Nat) → Int32 → Int32 → Int32 → Int32 → Option (Int32 × Wd)) : Nat → Wd → (Option Nat) → Int32 → Int32 → Int32 → Int32 → Int32 → Int32 → Option (Int32 × Wd)
  | 0, _, _, _, _, _, _, _, _ => none
  | n + 1, w, l0, l1, l2, l3, l4, l5, l6 => mX2_layJibs_b36 k7 (mX2_layJibs_l36 k7 n) w l0 l1 l2 l3 l4 l5 l6
noncomputable def mX2_layJibs_b7 (k7 : Wd → (Option Nat) → Int32 → Int32 → Int32 → Int32 → Option (Int32 × Wd)) (w : Wd) (l0 : Option Nat) (l1 : Int32) (l2 : Int32) (l3 : Int32) (l4 : Int32) : Option (Int32 × Wd) :=
(gI w l0 2 34).bind fun v1 =>
if v1 ≤ l4 then (
(nok (.boolean) 1).bind fun _ => some (1, w))
else (
(some ((l1 >>> (l4 &&& 31)) &&& 1)).bind fun (x2 : Int32) =>
if ¬ x2 = 0 then (
mX2_layJibs_l36 k7 FU w l0 l1 l2 l3 l4 x2 l3)
else (
mX2_layJibs_l36 k7 FU w l0 l1 l2 l3 l4 x2 l2))
noncomputable def mX2_layJibs_l7 : Nat → Wd → (Option Nat) → Int32 → Int32 → Int32 → Int32 → Option (Int32 × Wd)
  | 0, _, _, _, _, _, _ => none
  | n + 1, w, l0, l1, l2, l3, l4 => mX2_layJibs_b7 (mX2_layJibs_l7 n) w l0 l1 l2 l3 l4
noncomputable def mX2_layJibs (this : Nat) (a0 : Int32) (w : Wd) : Option (Int32 × Wd) :=
mX2_layJibs_l7 FU w ((some this)) a0 0 0 0
theorem eX2_layJibs_p68 {y : Fx (Int32 × Wd)} (hk : OkF y RX2 cX2_layJibs 7 3 82) (hR : RetM y rvI (some (.boolean))) {k7 : Wd → (Option Nat) → Int32 → Int32 → Int32 → Int32 → Option (Int32 × Wd)} (h7 : ∀ (w : Wd) (l0 : Option Nat) (l1 : Int32) (l2 : Int32) (l3 : Int32) (l4 : Int32), V y w [(0, va_rf l0), (1, .int l1), (2, .int l2), (3, .int l3), (4, .int l4)] [] 7 (k7 w l0 l1 l2 l3 l4)) (w : Wd) (l0 : Option Nat) (l1 : Int32) (l2 : Int32) (l3 : Int32) (l4 : Int32) (l5 : Int32) (l6 : Int32) : V y w [(0, va_rf l0), (1, .int l1), (2, .int l2), (3, .int l3), (4, .int l4), (5, .int l5), (6, .int l6)] [] 68 (mX2_layJibs_p68 k7 w l0 l1 l2 l3 l4 l5 l6) := by
  unfold mX2_layJibs_p68
  refine V_iload (pc := 68) hk dX2_layJibs_68 6 rfl ?_
  refine V_aload_n (pc := 70) hk dX2_layJibs_70 0 rfl ?_
  refine g_X2_442 (pc := 71) hk dX2_layJibs_71 (fun v1 => ?_)
  refine V_icmp_ne (pc := 74) (tgt := 79) hk dX2_layJibs_74 rfl ?_ ?_
  · refine V_aload_n (pc := 79) hk dX2_layJibs_79 0 rfl ?_
    refine g_X2_55 (pc := 80) hk dX2_layJibs_80 (fun v2 => ?_)
    refine V_iload (pc := 83) hk dX2_layJibs_83 4 rfl ?_
    refine V_iload (pc := 85) hk dX2_layJibs_85 6 rfl ?_
    refine V_iastore (pc := 87) hk dX2_layJibs_87 (fun w3 => ?_)
    refine V_iload (pc := 88) hk dX2_layJibs_88 5 rfl ?_
    refine V_if_ne (pc := 90) (tgt := 101) hk dX2_layJibs_90 rfl ?_ ?_
    · refine V_iload (pc := 101) hk dX2_layJibs_101 6 rfl ?_
      refine V_iconst (pc := 103) (v := 1) hk dX2_layJibs_103 rfl ?_
      refine V_iadd (pc := 104) hk dX2_layJibs_104 ?_
      refine V_istore_n (pc := 105) (lc' := [(3, .int (l6 + 1)), (0, va_rf l0), (1, .int l1), (2, .int l2), (4, .int l4), (5, .int l5), (6, .int l6)]) (i := 3) hk dX2_layJibs_105 rfl (Nat.le_of_ble_eq_true rfl) rfl ?_
      refine V_iinc (pc := 106) (v := 1) (lc' := [(4, .int (l4 + 1)), (3, .int (l6 + 1)), (0, va_rf l0), (1, .int l1), (2, .int l2), (5, .int l5), (6, .int l6)]) hk dX2_layJibs_106 4 rfl rfl (Nat.le_of_ble_eq_true rfl) rfl ?_
      refine V_goto (pc := 109) (tgt := 7) hk dX2_layJibs_109 rfl ?_
      refine V_pick (lc' := [(0, va_rf l0), (1, .int l1), (2, .int l2), (3, .int (l6 + 1)), (4, .int (l4 + 1))]) [2, 3, 4, 1, 0] rfl ?_
      exact h7 w3 l0 l1 l2 (l6 + 1) (l4 + 1)
    · refine V_iload (pc := 93) hk dX2_layJibs_93 6 rfl ?_
      refine V_iconst (pc := 95) (v := 1) hk dX2_layJibs_95 rfl ?_
      refine V_iadd (pc := 96) hk dX2_layJibs_96 ?_
      refine V_istore_n (pc := 97) (lc' := [(2, .int (l6 + 1)), (0, va_rf l0), (1, .int l1), (3, .int l3), (4, .int l4), (5, .int l5), (6, .int l6)]) (i := 2) hk dX2_layJibs_97 rfl (Nat.le_of_ble_eq_true rfl) rfl ?_
      refine V_goto (pc := 98) (tgt := 106) hk dX2_layJibs_98 rfl ?_
      refine V_iinc (pc := 106) (v := 1) (lc' := [(4, .int (l4 + 1)), (2, .int (l6 + 1)), (0, va_rf l0), (1, .int l1), (3, .int l3), (5, .int l5), (6, .int l6)]) hk dX2_layJibs_106 4 rfl rfl (Nat.le_of_ble_eq_true rfl) rfl ?_
      refine V_goto (pc := 109) (tgt := 7) hk dX2_layJibs_109 rfl ?_
      refine V_pick (lc' := [(0, va_rf l0), (1, .int l1), (2, .int (l6 + 1)), (3, .int l3), (4, .int (l4 + 1))]) [2, 3, 1, 4, 0] rfl ?_
      exact h7 w3 l0 l1 (l6 + 1) l3 (l4 + 1)
  · refine V_iconst (pc := 77) (v := 0) hk dX2_layJibs_77 rfl ?_
    exact V_zreturn (pc := 78) hk hR rfl dX2_layJibs_78
theorem eX2_layJibs_b36 {y : Fx (Int32 × Wd)} (hk : OkF y RX2 cX2_layJibs 7 3 82) (hR : RetM y rvI (some (.boolean))) {k7 : Wd → (Option Nat) → Int32 → Int32 → Int32 → Int32 → Option (Int32 × Wd)} (h7 : ∀ (w : Wd) (l0 : Option Nat) (l1 : Int32) (l2 : Int32) (l3 : Int32) (l4 : Int32), V y w [(0, va_rf l0), (1, .int l1), (2, .int l2), (3, .int l3), (4, .int l4)] [] 7 (k7 w l0 l1 l2 l3 l4)) {k36 : Wd → (Option Nat) → Int32 → Int32 → Int32 → Int32 → Int32 → Int32 → Option (Int32 × Wd)} (h36 : ∀ (w : Wd) (l0 : Option Nat) (l1 : Int32) (l2 : Int32) (l3 : Int32) (l4 : Int32) (l5 : Int32) (l6 : Int32), V y w [(0, va_rf l0), (1, .int l1), (2, .int l2), (3, .int l3), (4, .int l4), (5, .int l5), (6, .int l6)] [] 36 (k36 w l0 l1 l2 l3 l4 l5 l6)) (w : Wd) (l0 : Option Nat) (l1 : Int32) (l2 : Int32) (l3 : Int32) (l4 : Int32) (l5 : Int32) (l6 : Int32) : V y w [(0, va_rf l0), (1, .int l1), (2, .int l2), (3, .int l3), (4, .int l4), (5, .int l5), (6, .int l6)] [] 36 (mX2_layJibs_b36 k7 k36 w l0 l1 l2 l3 l4 l5 l6) := by
  unfold mX2_layJibs_b36
  refine V_iload (pc := 36) hk dX2_layJibs_36 6 rfl ?_
  refine V_aload_n (pc := 38) hk dX2_layJibs_38 0 rfl ?_
  refine g_X2_442 (pc := 39) hk dX2_layJibs_39 (fun v1 => ?_)
  refine V_icmp_ge (pc := 42) (tgt := 68) hk dX2_layJibs_42 rfl ?_ ?_
  · exact eX2_layJibs_p68 hk hR h7 w l0 l1 l2 l3 l4 l5 l6
  · refine V_aload_n (pc := 45) hk dX2_layJibs_45 0 rfl ?_
    refine V_aload_n (pc := 46) hk dX2_layJibs_46 0 rfl ?_
    refine g_X2_49 (pc := 47) hk dX2_layJibs_47 (fun v2 => ?_)
    refine V_iload (pc := 50) hk dX2_layJibs_50 6 rfl ?_
    refine V_iaload (pc := 52) hk dX2_layJibs_52 (fun v3 => ?_)
    refine V_iconst (pc := 53) (v := 4) hk dX2_layJibs_53 rfl ?_
    refine n_X2_295 (pc := 54) hk (fun b r h => ctX2_get (fl y) (fK y) hk.2.2.2.2.2.2.2.1 b v3 4 w r h) ⟨Nat.le_of_ble_eq_true rfl, Nat.le_of_ble_eq_true rfl⟩ (Nat.le_of_ble_eq_true rfl) dX2_layJibs_54 (fun r4 => ?_)
    refine V_iload (pc := 57) hk dX2_layJibs_57 5 rfl ?_
    refine V_icmp_eq (pc := 59) (tgt := 68) hk dX2_layJibs_59 rfl ?_ ?_
    · exact eX2_layJibs_p68 hk hR h7 r4.2 l0 l1 l2 l3 l4 l5 l6
    · refine V_iinc (pc := 62) (v := 1) (lc' := [(6, .int (l6 + 1)), (0, va_rf l0), (1, .int l1), (2, .int l2), (3, .int l3), (4, .int l4), (5, .int l5)]) hk dX2_layJibs_62 6 rfl rfl (Nat.le_of_ble_eq_true rfl) rfl ?_
      refine V_goto (pc := 65) (tgt := 36) hk dX2_layJibs_65 rfl ?_
      refine V_pick (lc' := [(0, va_rf l0), (1, .int l1), (2, .int l2), (3, .int l3), (4, .int l4), (5, .int l5), (6, .int (l6 + 1))]) [1, 2, 3, 4, 5, 6, 0] rfl ?_
      exact h36 r4.2 l0 l1 l2 l3 l4 l5 (l6 + 1)
theorem eX2_layJibs_l36 {y : Fx (Int32 × Wd)} (hk : OkF y RX2 cX2_layJibs 7 3 82) (hR : RetM y rvI (some (.boolean))) {k7 : Wd → (Option Nat) → Int32 → Int32 → Int32 → Int32 → Option (Int32 × Wd)} (h7 : ∀ (w : Wd) (l0 : Option Nat) (l1 : Int32) (l2 : Int32) (l3 : Int32) (l4 : Int32), V y w [(0, va_rf l0), (1, .int l1), (2, .int l2), (3, .int l3), (4, .int l4)] [] 7 (k7 w l0 l1 l2 l3 l4)) : ∀ (n : Nat) (w : Wd) (l0 : Option Nat) (l1 : Int32) (l2 : Int32) (l3 : Int32) (l4 : Int32) (l5 : Int32) (l6 : Int32), V y w [(0, va_rf l0), (1, .int l1), (2, .int l2), (3, .int l3), (4, .int l4), (5, .int l5), (6, .int l6)] [] 36 (mX2_layJibs_l36 k7 n w l0 l1 l2 l3 l4 l5 l6) := by
  intro n
  induction n with
  | zero => intro w l0 l1 l2 l3 l4 l5 l6; exact V_none
  | succ n ih => intro w l0 l1 l2 l3 l4 l5 l6; exact eX2_layJibs_b36 hk hR h7 ih w l0 l1 l2 l3 l4 l5 l6
theorem eX2_layJibs_b7 {y : Fx (Int32 × Wd)} (hk : OkF y RX2 cX2_layJibs 7 3 82) (hR : RetM y rvI (some (.boolean))) {k7 : Wd → (Option Nat) → Int32 → Int32 → Int32 → Int32 → Option (Int32 × Wd)} (h7 : ∀ (w : Wd) (l0 : Option Nat) (l1 : Int32) (l2 : Int32) (l3 : Int32) (l4 : Int32), V y w [(0, va_rf l0), (1, .int l1), (2, .int l2), (3, .int l3), (4, .int l4)] [] 7 (k7 w l0 l1 l2 l3 l4)) (w : Wd) (l0 : Option Nat) (l1 : Int32) (l2 : Int32) (l3 : Int32) (l4 : Int32) : V y w [(0, va_rf l0), (1, .int l1), (2, .int l2), (3, .int l3), (4, .int l4)] [] 7 (mX2_layJibs_b7 k7 w l0 l1 l2 l3 l4) := by
  unfold mX2_layJibs_b7
  refine V_iload (pc := 7) hk dX2_layJibs_7 4 rfl ?_
  refine V_aload_n (pc := 9) hk dX2_layJibs_9 0 rfl ?_
  refine g_X2_442 (pc := 10) hk dX2_layJibs_10 (fun v1 => ?_)
  refine V_icmp_ge (pc := 13) (tgt := 112) hk dX2_layJibs_13 rfl ?_ ?_
  · refine V_iconst (pc := 112) (v := 1) hk dX2_layJibs_112 rfl ?_
    exact V_zreturn (pc := 113) hk hR rfl dX2_layJibs_113
  · refine V_iload_n (pc := 16) hk dX2_layJibs_16 1 rfl ?_
    refine V_iload (pc := 17) hk dX2_layJibs_17 4 rfl ?_
    refine V_ishr (pc := 19) hk dX2_layJibs_19 ?_
    refine V_iconst (pc := 20) (v := 1) hk dX2_layJibs_20 rfl ?_
    refine V_iand (pc := 21) hk dX2_layJibs_21 ?_
    refine V_nmI (fun x2 => ?_)
    refine V_istore (pc := 22) (lc' := [(5, .int x2), (0, va_rf l0), (1, .int l1), (2, .int l2), (3, .int l3), (4, .int l4)]) (i := 5) hk dX2_layJibs_22 (Nat.le_of_ble_eq_true rfl) rfl ?_
    refine V_iload (pc := 24) hk dX2_layJibs_24 0 rfl ?_
    refine V_if_ne (pc := 26) (tgt := 33) hk dX2_layJibs_26 rfl ?_ ?_
    · refine V_iload_n (pc := 33) hk dX2_layJibs_33 4 rfl ?_
      refine V_istore (pc := 34) (lc' := [(6, .int l3), (5, .int x2), (0, va_rf l0), (1, .int l1), (2, .int l2), (3, .int l3), (4, .int l4)]) (i := 6) hk dX2_layJibs_34 (Nat.le_of_ble_eq_true rfl) rfl ?_
      refine V_pick (lc' := [(0, va_rf l0), (1, .int l1), (2, .int l2), (3, .int l3), (4, .int l4), (5, .int x2), (6, .int l3)]) [2, 3, 4, 5, 6, 1, 0] rfl ?_
      exact eX2_layJibs_l36 hk hR h7 FU w l0 l1 l2 l3 l4 x2 l3
    · refine V_iload_n (pc := 29) hk dX2_layJibs_29 3 rfl ?_
      refine V_goto (pc := 30) (tgt := 34) hk dX2_layJibs_30 rfl ?_
      refine V_istore (pc := 34) (lc' := [(6, .int l2), (5, .int x2), (0, va_rf l0), (1, .int l1), (2, .int l2), (3, .int l3), (4, .int l4)]) (i := 6) hk dX2_layJibs_34 (Nat.le_of_ble_eq_true rfl) rfl ?_
      refine V_pick (lc' := [(0, va_rf l0), (1, .int l1), (2, .int l2), (3, .int l3), (4, .int l4), (5, .int x2), (6, .int l2)]) [2, 3, 4, 5, 6, 1, 0] rfl ?_
      exact eX2_layJibs_l36 hk hR h7 FU w l0 l1 l2 l3 l4 x2 l2
theorem eX2_layJibs_l7 {y : Fx (Int32 × Wd)} (hk : OkF y RX2 cX2_layJibs 7 3 82) (hR : RetM y rvI (some (.boolean))) : ∀ (n : Nat) (w : Wd) (l0 : Option Nat) (l1 : Int32) (l2 : Int32) (l3 : Int32) (l4 : Int32), V y w [(0, va_rf l0), (1, .int l1), (2, .int l2), (3, .int l3), (4, .int l4)] [] 7 (mX2_layJibs_l7 n w l0 l1 l2 l3 l4) := by
  intro n
  induction n with
  | zero => intro w l0 l1 l2 l3 l4; exact V_none
  | succ n ih => intro w l0 l1 l2 l3 l4; exact eX2_layJibs_b7 hk hR ih w l0 l1 l2 l3 l4
theorem eX2_layJibs {y : Fx (Int32 × Wd)} (hk : OkF y RX2 cX2_layJibs 7 3 82) (hR : RetM y rvI (some (.boolean))) (this : Nat) (a0 : Int32) (w : Wd) : V y w [(0, va_rf (some this)), (1, .int a0)] [] 0 (mX2_layJibs this a0 w) := by
  unfold mX2_layJibs
  refine V_iconst (pc := 0) (v := 0) hk dX2_layJibs_0 rfl ?_
  refine V_istore_n (pc := 1) (lc' := [(2, .int 0), (0, va_rf ((some this))), (1, .int a0)]) (i := 2) hk dX2_layJibs_1 rfl (Nat.le_of_ble_eq_true rfl) rfl ?_
  refine V_iconst (pc := 2) (v := 0) hk dX2_layJibs_2 rfl ?_
  refine V_istore_n (pc := 3) (lc' := [(3, .int 0), (2, .int 0), (0, va_rf ((some this))), (1, .int a0)]) (i := 3) hk dX2_layJibs_3 rfl (Nat.le_of_ble_eq_true rfl) rfl ?_
  refine V_iconst (pc := 4) (v := 0) hk dX2_layJibs_4 rfl ?_
  refine V_istore (pc := 5) (lc' := [(4, .int 0), (3, .int 0), (2, .int 0), (0, va_rf ((some this))), (1, .int a0)]) (i := 4) hk dX2_layJibs_5 (Nat.le_of_ble_eq_true rfl) rfl ?_
  refine V_pick (lc' := [(0, va_rf ((some this))), (1, .int a0), (2, .int 0), (3, .int 0), (4, .int 0)]) [3, 4, 2, 1, 0] rfl ?_
  exact eX2_layJibs_l7 hk hR FU w ((some this)) a0 0 0 0
theorem ctX2_layJibs (l : Launch) (K : Kx) (hI : Ini K) (b : Nat) (a0 : Int32) (w : Wd) : ∀ r, mX2_layJibs b a0 w = some r → Ct l K 3 82 yX2_layJibs (ws_ yX2_layJibs cX2_layJibs 7 (some (.boolean))) [.ref b, .int a0] w (rvI r.1) r.2 := Ct_of rvI l K hI 3 82 [.ref b, .int a0] w (by decide) (lc0 := [(0, .ref b), (1, .int a0)]) rfl (Nat.le_of_ble_eq_true rfl) (fun y hk hR _ _ hin => eX2_layJibs hk hR b a0 w)
noncomputable def mX2_doneBy_p107 (k29 : Wd → (Option Nat) → Int32 → Int32 → Int32 → Int32 → Option (Int32 × Wd)) (w : Wd) (l0 : Option Nat) (l1 : Int32) (l2 : Int32) (l3 : Int32) (l4 : Int32) (l5 : Int32) (t0 : Int32) : Option (Int32 × Wd) :=
if t0 = 0 then (
k29 w l0 l1 l2 l3 (l4 + 1))
else (
(gR w l0 2 35).bind fun v1 =>
(ia w v1 l4).bind fun v2 =>
(gR w l0 2 31).bind fun v3 =>
(ia w v3 l5).bind fun v4 =>
(gR w l0 2 35).bind fun v5 =>
(ia w v5 l2).bind fun v6 =>
if (v2 + v4) ≤ v6 then (
k29 w l0 l1 l2 l3 (l4 + 1))
else (
(gR w l0 2 35).bind fun v7 =>
(gR w l0 2 35).bind fun v8 =>
(ia w v8 l4).bind fun v9 =>
(gR w l0 2 31).bind fun v10 =>
(ia w v10 l5).bind fun v11 =>
(ias w v7 l2 (v9 + v11)).bind fun w12 =>
k29 w12 l0 l1 l2 l3 (l4 + 1)))
noncomputable def mX2_doneBy_p102 (k29 : Wd → (Option Nat) → Int32 → Int32 → Int32 → Int32 → Option (Int32 × Wd)) (w : Wd) (l0 : Option Nat) (l1 : Int32) (l2 : Int32) (l3 : Int32) (l4 : Int32) (l5 : Int32) : Option (Int32 × Wd) :=
mX2_doneBy_p107 k29 w l0 l1 l2 l3 l4 l5 1
noncomputable def mX2_doneBy_b29 (k4 : Wd → (Option Nat) → Int32 → Int32 → Option (Int32 × Wd)) (k29 : Wd → (Option Nat) → Int32 → Int32 → Int32 → Int32 → Option (Int32 × Wd)) (w : Wd) (l0 : Option Nat) (l1 : Int32) (l2 : Int32) (l3 : Int32) (l4 : Int32) : Option (Int32 × Wd) :=
if l2 ≤ l4 then (
(gR w l0 2 35).bind fun v1 =>
(ia w v1 l2).bind fun v2 =>
(gR w l0 2 31).bind fun v3 =>
(ia w v3 l3).bind fun v4 =>
if (v2 + v4) ≤ l1 then (
k4 w l0 l1 (l2 + 1))
else (
(gR w l0 2 35).bind fun v5 =>
(ia w v5 l2).bind fun v6 =>
(gR w l0 2 31).bind fun v7 =>
(ia w v7 l3).bind fun v8 =>
k4 w l0 (v6 + v8) (l2 + 1)))
else (
(gR w l0 2 32).bind fun v9 =>
(ia w v9 l4).bind fun v10 =>
(gR w l0 2 30).bind fun v11 =>
(ia w v11 v10).bind fun v12 =>
(recv w l0 2).bind fun b14 => (cal w (mX2_get b14 v12 4 w)).bind fun r13 =>
(gR r13.2 l0 2 30).bind fun v15 =>
(ia r13.2 v15 l3).bind fun v16 =>
(recv r13.2 l0 2).bind fun b18 => (cal r13.2 (mX2_get b18 v16 4 r13.2)).bind fun r17 =>
if r13.1 = r17.1 then (
mX2_doneBy_p102 k29 r17.2 l0 l1 l2 l3 l4 v10)
else (
(gR r17.2 l0 2 30).bind fun v19 =>
(ia r17.2 v19 v10).bind fun v20 =>
(recv r17.2 l0 2).bind fun b22 => (cal r17.2 (mX2_get b22 v20 1 r17.2)).bind fun r21 =>
(gR r21.2 l0 2 30).bind fun v23 =>
(ia r21.2 v23 l3).bind fun v24 =>
(recv r21.2 l0 2).bind fun b26 => (cal r21.2 (mX2_get b26 v24 1 r21.2)).bind fun r25 =>
(cal r25.2 (mX2_sizeOf (r21.1 - r25.1) r25.2)).bind fun r27 =>
if 10 ≤ r27.1 then (
mX2_doneBy_p107 k29 r27.2 l0 l1 l2 l3 l4 v10 0)
else (
mX2_doneBy_p102 k29 r27.2 l0 l1 l2 l3 l4 v10)))
noncomputable def mX2_doneBy_l29 (k4 : Wd → (Option Nat) → Int32 → Int32 → Option (Int32 × Wd)) : Nat → Wd → (Option Nat) → Int32 → Int32 → Int32 → Int32 → Option (Int32 × Wd)
  | 0, _, _, _, _, _, _ => none
  | n + 1, w, l0, l1, l2, l3, l4 => mX2_doneBy_b29 k4 (mX2_doneBy_l29 k4 n) w l0 l1 l2 l3 l4
noncomputable def mX2_doneBy_b4 (k4 : Wd → (Option Nat) → Int32 → Int32 → Option (Int32 × Wd)) (w : Wd) (l0 : Option Nat) (l1 : Int32) (l2 : Int32) : Option (Int32 × Wd) :=
(gI w l0 2 34).bind fun v1 =>
if v1 ≤ l2 then (
some (l1, w))
else (
(gR w l0 2 32).bind fun v2 =>
(ia w v2 l2).bind fun v3 =>
(gR w l0 2 35).bind fun v4 =>
(ias w v4 l2 0).bind fun w5 =>
mX2_doneBy_l29 k4 FU w5 l0 l1 l2 v3 0)
noncomputable def mX2_doneBy_l4 : Nat → Wd → (Option Nat) → Int32 → Int32 → Option (Int32 × Wd)
  | 0, _, _, _, _ => none
  | n + 1, w, l0, l1, l2 => mX2_doneBy_b4 (mX2_doneBy_l4 n) w l0 l1 l2
noncomputable def mX2_doneBy (this : Nat) (w : Wd) : Option (Int32 × Wd) :=
mX2_doneBy_l4 FU w ((some this)) 0 0
theorem eX2_doneBy_p107 {y : Fx (Int32 × Wd)} (hk : OkF y RX2 cX2_doneBy 7 3 82) (hR : RetM y rvI (some (.int))) {k29 : Wd → (Option Nat) → Int32 → Int32 → Int32 → Int32 → Option (Int32 × Wd)} (h29 : ∀ (w : Wd) (l0 : Option Nat) (l1 : Int32) (l2 : Int32) (l3 : Int32) (l4 : Int32), V y w [(0, va_rf l0), (1, .int l1), (2, .int l2), (3, .int l3), (4, .int l4)] [] 29 (k29 w l0 l1 l2 l3 l4)) (w : Wd) (l0 : Option Nat) (l1 : Int32) (l2 : Int32) (l3 : Int32) (l4 : Int32) (l5 : Int32) (t0 : Int32) : V y w [(0, va_rf l0), (1, .int l1), (2, .int l2), (3, .int l3), (4, .int l4), (5, .int l5)] [.int t0] 107 (mX2_doneBy_p107 k29 w l0 l1 l2 l3 l4 l5 t0) := by
  unfold mX2_doneBy_p107
  refine V_istore (pc := 107) (lc' := [(6, .int t0), (0, va_rf l0), (1, .int l1), (2, .int l2), (3, .int l3), (4, .int l4), (5, .int l5)]) (i := 6) hk dX2_doneBy_107 (Nat.le_of_ble_eq_true rfl) rfl ?_
  refine V_iload (pc := 109) hk dX2_doneBy_109 0 rfl ?_
  refine V_if_eq (pc := 111) (tgt := 159) hk dX2_doneBy_111 rfl ?_ ?_
  · refine V_iinc (pc := 159) (v := 1) (lc' := [(4, .int (l4 + 1)), (6, .int t0), (0, va_rf l0), (1, .int l1), (2, .int l2), (3, .int l3), (5, .int l5)]) hk dX2_doneBy_159 5 rfl rfl (Nat.le_of_ble_eq_true rfl) rfl ?_
    refine V_goto (pc := 162) (tgt := 29) hk dX2_doneBy_162 rfl ?_
    refine V_pick (lc' := [(0, va_rf l0), (1, .int l1), (2, .int l2), (3, .int l3), (4, .int (l4 + 1))]) [2, 3, 4, 5, 0] rfl ?_
    exact h29 w l0 l1 l2 l3 (l4 + 1)
  · refine V_aload_n (pc := 114) hk dX2_doneBy_114 1 rfl ?_
    refine g_X2_61 (pc := 115) hk dX2_doneBy_115 (fun v1 => ?_)
    refine V_iload (pc := 118) hk dX2_doneBy_118 5 rfl ?_
    refine V_iaload (pc := 120) hk dX2_doneBy_120 (fun v2 => ?_)
    refine V_aload_n (pc := 121) hk dX2_doneBy_121 1 rfl ?_
    refine g_X2_52 (pc := 122) hk dX2_doneBy_122 (fun v3 => ?_)
    refine V_iload (pc := 125) hk dX2_doneBy_125 6 rfl ?_
    refine V_iaload (pc := 127) hk dX2_doneBy_127 (fun v4 => ?_)
    refine V_iadd (pc := 128) hk dX2_doneBy_128 ?_
    refine V_aload_n (pc := 129) hk dX2_doneBy_129 1 rfl ?_
    refine g_X2_61 (pc := 130) hk dX2_doneBy_130 (fun v5 => ?_)
    refine V_iload_n (pc := 133) hk dX2_doneBy_133 3 rfl ?_
    refine V_iaload (pc := 134) hk dX2_doneBy_134 (fun v6 => ?_)
    refine V_icmp_le (pc := 135) (tgt := 159) hk dX2_doneBy_135 rfl ?_ ?_
    · refine V_iinc (pc := 159) (v := 1) (lc' := [(4, .int (l4 + 1)), (6, .int t0), (0, va_rf l0), (1, .int l1), (2, .int l2), (3, .int l3), (5, .int l5)]) hk dX2_doneBy_159 5 rfl rfl (Nat.le_of_ble_eq_true rfl) rfl ?_
      refine V_goto (pc := 162) (tgt := 29) hk dX2_doneBy_162 rfl ?_
      refine V_pick (lc' := [(0, va_rf l0), (1, .int l1), (2, .int l2), (3, .int l3), (4, .int (l4 + 1))]) [2, 3, 4, 5, 0] rfl ?_
      exact h29 w l0 l1 l2 l3 (l4 + 1)
    · refine V_aload_n (pc := 138) hk dX2_doneBy_138 1 rfl ?_
      refine g_X2_61 (pc := 139) hk dX2_doneBy_139 (fun v7 => ?_)
      refine V_iload_n (pc := 142) hk dX2_doneBy_142 3 rfl ?_
      refine V_aload_n (pc := 143) hk dX2_doneBy_143 1 rfl ?_
      refine g_X2_61 (pc := 144) hk dX2_doneBy_144 (fun v8 => ?_)
      refine V_iload (pc := 147) hk dX2_doneBy_147 5 rfl ?_
      refine V_iaload (pc := 149) hk dX2_doneBy_149 (fun v9 => ?_)
      refine V_aload_n (pc := 150) hk dX2_doneBy_150 1 rfl ?_
      refine g_X2_52 (pc := 151) hk dX2_doneBy_151 (fun v10 => ?_)
      refine V_iload (pc := 154) hk dX2_doneBy_154 6 rfl ?_
      refine V_iaload (pc := 156) hk dX2_doneBy_156 (fun v11 => ?_)
      refine V_iadd (pc := 157) hk dX2_doneBy_157 ?_
      refine V_iastore (pc := 158) hk dX2_doneBy_158 (fun w12 => ?_)
      refine V_iinc (pc := 159) (v := 1) (lc' := [(4, .int (l4 + 1)), (6, .int t0), (0, va_rf l0), (1, .int l1), (2, .int l2), (3, .int l3), (5, .int l5)]) hk dX2_doneBy_159 5 rfl rfl (Nat.le_of_ble_eq_true rfl) rfl ?_
      refine V_goto (pc := 162) (tgt := 29) hk dX2_doneBy_162 rfl ?_
      refine V_pick (lc' := [(0, va_rf l0), (1, .int l1), (2, .int l2), (3, .int l3), (4, .int (l4 + 1))]) [2, 3, 4, 5, 0] rfl ?_
      exact h29 w12 l0 l1 l2 l3 (l4 + 1)
theorem eX2_doneBy_p102 {y : Fx (Int32 × Wd)} (hk : OkF y RX2 cX2_doneBy 7 3 82) (hR : RetM y rvI (some (.int))) {k29 : Wd → (Option Nat) → Int32 → Int32 → Int32 → Int32 → Option (Int32 × Wd)} (h29 : ∀ (w : Wd) (l0 : Option Nat) (l1 : Int32) (l2 : Int32) (l3 : Int32) (l4 : Int32), V y w [(0, va_rf l0), (1, .int l1), (2, .int l2), (3, .int l3), (4, .int l4)] [] 29 (k29 w l0 l1 l2 l3 l4)) (w : Wd) (l0 : Option Nat) (l1 : Int32) (l2 : Int32) (l3 : Int32) (l4 : Int32) (l5 : Int32) : V y w [(0, va_rf l0), (1, .int l1), (2, .int l2), (3, .int l3), (4, .int l4), (5, .int l5)] [] 102 (mX2_doneBy_p102 k29 w l0 l1 l2 l3 l4 l5) := by
  unfold mX2_doneBy_p102
  refine V_iconst (pc := 102) (v := 1) hk dX2_doneBy_102 rfl ?_
  refine V_goto (pc := 103) (tgt := 107) hk dX2_doneBy_103 rfl ?_
  exact eX2_doneBy_p107 hk hR h29 w l0 l1 l2 l3 l4 l5 1
theorem eX2_doneBy_b29 {y : Fx (Int32 × Wd)} (hk : OkF y RX2 cX2_doneBy 7 3 82) (hR : RetM y rvI (some (.int))) {k4 : Wd → (Option Nat) → Int32 → Int32 → Option (Int32 × Wd)} (h4 : ∀ (w : Wd) (l0 : Option Nat) (l1 : Int32) (l2 : Int32), V y w [(0, va_rf l0), (1, .int l1), (2, .int l2)] [] 4 (k4 w l0 l1 l2)) {k29 : Wd → (Option Nat) → Int32 → Int32 → Int32 → Int32 → Option (Int32 × Wd)} (h29 : ∀ (w : Wd) (l0 : Option Nat) (l1 : Int32) (l2 : Int32) (l3 : Int32) (l4 : Int32), V y w [(0, va_rf l0), (1, .int l1), (2, .int l2), (3, .int l3), (4, .int l4)] [] 29 (k29 w l0 l1 l2 l3 l4)) (w : Wd) (l0 : Option Nat) (l1 : Int32) (l2 : Int32) (l3 : Int32) (l4 : Int32) : V y w [(0, va_rf l0), (1, .int l1), (2, .int l2), (3, .int l3), (4, .int l4)] [] 29 (mX2_doneBy_b29 k4 k29 w l0 l1 l2 l3 l4) := by
  unfold mX2_doneBy_b29
  refine V_iload (pc := 29) hk dX2_doneBy_29 4 rfl ?_
  refine V_iload_n (pc := 31) hk dX2_doneBy_31 2 rfl ?_
  refine V_icmp_ge (pc := 32) (tgt := 165) hk dX2_doneBy_32 rfl ?_ ?_
  · refine V_aload_n (pc := 165) hk dX2_doneBy_165 0 rfl ?_
    refine g_X2_61 (pc := 166) hk dX2_doneBy_166 (fun v1 => ?_)
    refine V_iload_n (pc := 169) hk dX2_doneBy_169 2 rfl ?_
    refine V_iaload (pc := 170) hk dX2_doneBy_170 (fun v2 => ?_)
    refine V_aload_n (pc := 171) hk dX2_doneBy_171 0 rfl ?_
    refine g_X2_52 (pc := 172) hk dX2_doneBy_172 (fun v3 => ?_)
    refine V_iload_n (pc := 175) hk dX2_doneBy_175 3 rfl ?_
    refine V_iaload (pc := 176) hk dX2_doneBy_176 (fun v4 => ?_)
    refine V_iadd (pc := 177) hk dX2_doneBy_177 ?_
    refine V_iload_n (pc := 178) hk dX2_doneBy_178 1 rfl ?_
    refine V_icmp_le (pc := 179) (tgt := 198) hk dX2_doneBy_179 rfl ?_ ?_
    · refine V_iload_n (pc := 198) hk dX2_doneBy_198 1 rfl ?_
      refine V_istore_n (pc := 199) (lc' := [(1, .int l1), (0, va_rf l0), (2, .int l2), (3, .int l3), (4, .int l4)]) (i := 1) hk dX2_doneBy_199 rfl (Nat.le_of_ble_eq_true rfl) (by simp [rf_cat, cat_int, cat_long, cat_ref]) ?_
      refine V_iinc (pc := 200) (v := 1) (lc' := [(2, .int (l2 + 1)), (1, .int l1), (0, va_rf l0), (3, .int l3), (4, .int l4)]) hk dX2_doneBy_200 2 rfl rfl (Nat.le_of_ble_eq_true rfl) rfl ?_
      refine V_goto (pc := 203) (tgt := 4) hk dX2_doneBy_203 rfl ?_
      refine V_pick (lc' := [(0, va_rf l0), (1, .int l1), (2, .int (l2 + 1))]) [2, 1, 0] rfl ?_
      exact h4 w l0 l1 (l2 + 1)
    · refine V_aload_n (pc := 182) hk dX2_doneBy_182 0 rfl ?_
      refine g_X2_61 (pc := 183) hk dX2_doneBy_183 (fun v5 => ?_)
      refine V_iload_n (pc := 186) hk dX2_doneBy_186 2 rfl ?_
      refine V_iaload (pc := 187) hk dX2_doneBy_187 (fun v6 => ?_)
      refine V_aload_n (pc := 188) hk dX2_doneBy_188 0 rfl ?_
      refine g_X2_52 (pc := 189) hk dX2_doneBy_189 (fun v7 => ?_)
      refine V_iload_n (pc := 192) hk dX2_doneBy_192 3 rfl ?_
      refine V_iaload (pc := 193) hk dX2_doneBy_193 (fun v8 => ?_)
      refine V_iadd (pc := 194) hk dX2_doneBy_194 ?_
      refine V_goto (pc := 195) (tgt := 199) hk dX2_doneBy_195 rfl ?_
      refine V_istore_n (pc := 199) (lc' := [(1, .int (v6 + v8)), (0, va_rf l0), (2, .int l2), (3, .int l3), (4, .int l4)]) (i := 1) hk dX2_doneBy_199 rfl (Nat.le_of_ble_eq_true rfl) (by simp [rf_cat, cat_int, cat_long, cat_ref]) ?_
      refine V_iinc (pc := 200) (v := 1) (lc' := [(2, .int (l2 + 1)), (1, .int (v6 + v8)), (0, va_rf l0), (3, .int l3), (4, .int l4)]) hk dX2_doneBy_200 2 rfl rfl (Nat.le_of_ble_eq_true rfl) rfl ?_
      refine V_goto (pc := 203) (tgt := 4) hk dX2_doneBy_203 rfl ?_
      refine V_pick (lc' := [(0, va_rf l0), (1, .int (v6 + v8)), (2, .int (l2 + 1))]) [2, 1, 0] rfl ?_
      exact h4 w l0 (v6 + v8) (l2 + 1)
  · refine V_aload_n (pc := 35) hk dX2_doneBy_35 0 rfl ?_
    refine g_X2_55 (pc := 36) hk dX2_doneBy_36 (fun v9 => ?_)
    refine V_iload (pc := 39) hk dX2_doneBy_39 4 rfl ?_
    refine V_iaload (pc := 41) hk dX2_doneBy_41 (fun v10 => ?_)
    refine V_istore (pc := 42) (lc' := [(5, .int v10), (0, va_rf l0), (1, .int l1), (2, .int l2), (3, .int l3), (4, .int l4)]) (i := 5) hk dX2_doneBy_42 (Nat.le_of_ble_eq_true rfl) rfl ?_
    refine V_aload_n (pc := 44) hk dX2_doneBy_44 1 rfl ?_
    refine V_aload_n (pc := 45) hk dX2_doneBy_45 1 rfl ?_
    refine g_X2_49 (pc := 46) hk dX2_doneBy_46 (fun v11 => ?_)
    refine V_iload (pc := 49) hk dX2_doneBy_49 0 rfl ?_
    refine V_iaload (pc := 51) hk dX2_doneBy_51 (fun v12 => ?_)
    refine V_iconst (pc := 52) (v := 4) hk dX2_doneBy_52 rfl ?_
    refine n_X2_295 (pc := 53) hk (fun b r h => ctX2_get (fl y) (fK y) hk.2.2.2.2.2.2.2.1 b v12 4 w r h) ⟨Nat.le_of_ble_eq_true rfl, Nat.le_of_ble_eq_true rfl⟩ (Nat.le_of_ble_eq_true rfl) dX2_doneBy_53 (fun r13 => ?_)
    refine V_aload_n (pc := 56) hk dX2_doneBy_56 1 rfl ?_
    refine V_aload_n (pc := 57) hk dX2_doneBy_57 1 rfl ?_
    refine g_X2_49 (pc := 58) hk dX2_doneBy_58 (fun v15 => ?_)
    refine V_iload_n (pc := 61) hk dX2_doneBy_61 4 rfl ?_
    refine V_iaload (pc := 62) hk dX2_doneBy_62 (fun v16 => ?_)
    refine V_iconst (pc := 63) (v := 4) hk dX2_doneBy_63 rfl ?_
    refine n_X2_295 (pc := 64) hk (fun b r h => ctX2_get (fl y) (fK y) hk.2.2.2.2.2.2.2.1 b v16 4 r13.2 r h) ⟨Nat.le_of_ble_eq_true rfl, Nat.le_of_ble_eq_true rfl⟩ (Nat.le_of_ble_eq_true rfl) dX2_doneBy_64 (fun r17 => ?_)
    refine V_icmp_eq (pc := 67) (tgt := 102) hk dX2_doneBy_67 rfl ?_ ?_
    · refine V_pick (lc' := [(0, va_rf l0), (1, .int l1), (2, .int l2), (3, .int l3), (4, .int l4), (5, .int v10)]) [1, 2, 3, 4, 5, 0] rfl ?_
      exact eX2_doneBy_p102 hk hR h29 r17.2 l0 l1 l2 l3 l4 v10
    · refine V_aload_n (pc := 70) hk dX2_doneBy_70 1 rfl ?_
      refine V_aload_n (pc := 71) hk dX2_doneBy_71 1 rfl ?_
      refine g_X2_49 (pc := 72) hk dX2_doneBy_72 (fun v19 => ?_)
      refine V_iload (pc := 75) hk dX2_doneBy_75 0 rfl ?_
      refine V_iaload (pc := 77) hk dX2_doneBy_77 (fun v20 => ?_)
      refine V_iconst (pc := 78) (v := 1) hk dX2_doneBy_78 rfl ?_
      refine n_X2_295 (pc := 79) hk (fun b r h => ctX2_get (fl y) (fK y) hk.2.2.2.2.2.2.2.1 b v20 1 r17.2 r h) ⟨Nat.le_of_ble_eq_true rfl, Nat.le_of_ble_eq_true rfl⟩ (Nat.le_of_ble_eq_true rfl) dX2_doneBy_79 (fun r21 => ?_)
      refine V_aload_n (pc := 82) hk dX2_doneBy_82 1 rfl ?_
      refine V_aload_n (pc := 83) hk dX2_doneBy_83 1 rfl ?_
      refine g_X2_49 (pc := 84) hk dX2_doneBy_84 (fun v23 => ?_)
      refine V_iload_n (pc := 87) hk dX2_doneBy_87 4 rfl ?_
      refine V_iaload (pc := 88) hk dX2_doneBy_88 (fun v24 => ?_)
      refine V_iconst (pc := 89) (v := 1) hk dX2_doneBy_89 rfl ?_
      refine n_X2_295 (pc := 90) hk (fun b r h => ctX2_get (fl y) (fK y) hk.2.2.2.2.2.2.2.1 b v24 1 r21.2 r h) ⟨Nat.le_of_ble_eq_true rfl, Nat.le_of_ble_eq_true rfl⟩ (Nat.le_of_ble_eq_true rfl) dX2_doneBy_90 (fun r25 => ?_)
      refine V_isub (pc := 93) hk dX2_doneBy_93 ?_
      refine n_X2_323 (pc := 94) hk (fun r h => ctX2_sizeOf (fl y) (fK y) hk.2.2.2.2.2.2.2.1 (r21.1 - r25.1) r25.2 r h) ⟨Nat.le_of_ble_eq_true rfl, Nat.le_of_ble_eq_true rfl⟩ (Nat.le_of_ble_eq_true rfl) dX2_doneBy_94 (fun r27 => ?_)
      refine V_bipush (pc := 97) (v := 10) hk dX2_doneBy_97 rfl ?_
      refine V_icmp_ge (pc := 99) (tgt := 106) hk dX2_doneBy_99 rfl ?_ ?_
      · refine V_iconst (pc := 106) (v := 0) hk dX2_doneBy_106 rfl ?_
        refine V_pick (lc' := [(0, va_rf l0), (1, .int l1), (2, .int l2), (3, .int l3), (4, .int l4), (5, .int v10)]) [1, 2, 3, 4, 5, 0] rfl ?_
        exact eX2_doneBy_p107 hk hR h29 r27.2 l0 l1 l2 l3 l4 v10 0
      · refine V_pick (lc' := [(0, va_rf l0), (1, .int l1), (2, .int l2), (3, .int l3), (4, .int l4), (5, .int v10)]) [1, 2, 3, 4, 5, 0] rfl ?_
        exact eX2_doneBy_p102 hk hR h29 r27.2 l0 l1 l2 l3 l4 v10
theorem eX2_doneBy_l29 {y : Fx (Int32 × Wd)} (hk : OkF y RX2 cX2_doneBy 7 3 82) (hR : RetM y rvI (some (.int))) {k4 : Wd → (Option Nat) → Int32 → Int32 → Option (Int32 × Wd)} (h4 : ∀ (w : Wd) (l0 : Option Nat) (l1 : Int32) (l2 : Int32), V y w [(0, va_rf l0), (1, .int l1), (2, .int l2)] [] 4 (k4 w l0 l1 l2)) : ∀ (n : Nat) (w : Wd) (l0 : Option Nat) (l1 : Int32) (l2 : Int32) (l3 : Int32) (l4 : Int32), V y w [(0, va_rf l0), (1, .int l1), (2, .int l2), (3, .int l3), (4, .int l4)] [] 29 (mX2_doneBy_l29 k4 n w l0 l1 l2 l3 l4) := by
  intro n
  induction n with
  | zero => intro w l0 l1 l2 l3 l4; exact V_none
  | succ n ih => intro w l0 l1 l2 l3 l4; exact eX2_doneBy_b29 hk hR h4 ih w l0 l1 l2 l3 l4
theorem eX2_doneBy_b4 {y : Fx (Int32 × Wd)} (hk : OkF y RX2 cX2_doneBy 7 3 82) (hR : RetM y rvI (some (.int))) {k4 : Wd → (Option Nat) → Int32 → Int32 → Option (Int32 × Wd)} (h4 : ∀ (w : Wd) (l0 : Option Nat) (l1 : Int32) (l2 : Int32), V y w [(0, va_rf l0), (1, .int l1), (2, .int l2)] [] 4 (k4 w l0 l1 l2)) (w : Wd) (l0 : Option Nat) (l1 : Int32) (l2 : Int32) : V y w [(0, va_rf l0), (1, .int l1), (2, .int l2)] [] 4 (mX2_doneBy_b4 k4 w l0 l1 l2) := by
  unfold mX2_doneBy_b4
  refine V_iload_n (pc := 4) hk dX2_doneBy_4 2 rfl ?_
  refine V_aload_n (pc := 5) hk dX2_doneBy_5 0 rfl ?_
  refine g_X2_442 (pc := 6) hk dX2_doneBy_6 (fun v1 => ?_)
  refine V_icmp_ge (pc := 9) (tgt := 206) hk dX2_doneBy_9 rfl ?_ ?_
  · refine V_iload_n (pc := 206) hk dX2_doneBy_206 1 rfl ?_
    exact V_ireturn (pc := 207) hk hR rfl dX2_doneBy_207
  · refine V_aload_n (pc := 12) hk dX2_doneBy_12 0 rfl ?_
    refine g_X2_55 (pc := 13) hk dX2_doneBy_13 (fun v2 => ?_)
    refine V_iload_n (pc := 16) hk dX2_doneBy_16 2 rfl ?_
    refine V_iaload (pc := 17) hk dX2_doneBy_17 (fun v3 => ?_)
    refine V_istore_n (pc := 18) (lc' := [(3, .int v3), (0, va_rf l0), (1, .int l1), (2, .int l2)]) (i := 3) hk dX2_doneBy_18 rfl (Nat.le_of_ble_eq_true rfl) rfl ?_
    refine V_aload_n (pc := 19) hk dX2_doneBy_19 1 rfl ?_
    refine g_X2_61 (pc := 20) hk dX2_doneBy_20 (fun v4 => ?_)
    refine V_iload_n (pc := 23) hk dX2_doneBy_23 3 rfl ?_
    refine V_iconst (pc := 24) (v := 0) hk dX2_doneBy_24 rfl ?_
    refine V_iastore (pc := 25) hk dX2_doneBy_25 (fun w5 => ?_)
    refine V_iconst (pc := 26) (v := 0) hk dX2_doneBy_26 rfl ?_
    refine V_istore (pc := 27) (lc' := [(4, .int 0), (3, .int v3), (0, va_rf l0), (1, .int l1), (2, .int l2)]) (i := 4) hk dX2_doneBy_27 (Nat.le_of_ble_eq_true rfl) rfl ?_
    refine V_pick (lc' := [(0, va_rf l0), (1, .int l1), (2, .int l2), (3, .int v3), (4, .int 0)]) [2, 3, 4, 1, 0] rfl ?_
    exact eX2_doneBy_l29 hk hR h4 FU w5 l0 l1 l2 v3 0
theorem eX2_doneBy_l4 {y : Fx (Int32 × Wd)} (hk : OkF y RX2 cX2_doneBy 7 3 82) (hR : RetM y rvI (some (.int))) : ∀ (n : Nat) (w : Wd) (l0 : Option Nat) (l1 : Int32) (l2 : Int32), V y w [(0, va_rf l0), (1, .int l1), (2, .int l2)] [] 4 (mX2_doneBy_l4 n w l0 l1 l2) := by
  intro n
  induction n with
  | zero => intro w l0 l1 l2; exact V_none
  | succ n ih => intro w l0 l1 l2; exact eX2_doneBy_b4 hk hR ih w l0 l1 l2
theorem eX2_doneBy {y : Fx (Int32 × Wd)} (hk : OkF y RX2 cX2_doneBy 7 3 82) (hR : RetM y rvI (some (.int))) (this : Nat) (w : Wd) : V y w [(0, va_rf (some this))] [] 0 (mX2_doneBy this w) := by
  unfold mX2_doneBy
  refine V_iconst (pc := 0) (v := 0) hk dX2_doneBy_0 rfl ?_
  refine V_istore_n (pc := 1) (lc' := [(1, .int 0), (0, va_rf ((some this)))]) (i := 1) hk dX2_doneBy_1 rfl (Nat.le_of_ble_eq_true rfl) (by simp [rf_cat, cat_int, cat_long, cat_ref]) ?_
  refine V_iconst (pc := 2) (v := 0) hk dX2_doneBy_2 rfl ?_
  refine V_istore_n (pc := 3) (lc' := [(2, .int 0), (1, .int 0), (0, va_rf ((some this)))]) (i := 2) hk dX2_doneBy_3 rfl (Nat.le_of_ble_eq_true rfl) rfl ?_
  refine V_pick (lc' := [(0, va_rf ((some this))), (1, .int 0), (2, .int 0)]) [2, 1, 0] rfl ?_
  exact eX2_doneBy_l4 hk hR FU w ((some this)) 0 0
theorem ctX2_doneBy (l : Launch) (K : Kx) (hI : Ini K) (b : Nat) (w : Wd) : ∀ r, mX2_doneBy b w = some r → Ct l K 3 82 yX2_doneBy (ws_ yX2_doneBy cX2_doneBy 7 (some (.int))) [.ref b] w (rvI r.1) r.2 := Ct_of rvI l K hI 3 82 [.ref b] w (by decide) (lc0 := [(0, .ref b)]) rfl (Nat.le_of_ble_eq_true rfl) (fun y hk hR _ _ hin => eX2_doneBy hk hR b w)
noncomputable def mX2_isAhead_p31 (w : Wd) (l0 : Option Nat) (l1 : Int32) : Option (Int32 × Wd) :=
(gI w l0 2 34).bind fun v1 =>
if v1 ≤ l1 then (
(nok (.boolean) 0).bind fun _ => some (0, w))
else (
(gR w l0 2 32).bind fun v2 =>
(ia w v2 l1).bind fun v3 =>
(gR w l0 2 33).bind fun v4 =>
(ia w v4 l1).bind fun v5 =>
if v5 ≤ v3 then (
(nok (.boolean) 0).bind fun _ => some (0, w))
else (
(nok (.boolean) 1).bind fun _ => some (1, w)))
noncomputable def mX2_isAhead_b2 (k2 : Wd → (Option Nat) → Int32 → Option (Int32 × Wd)) (w : Wd) (l0 : Option Nat) (l1 : Int32) : Option (Int32 × Wd) :=
(gI w l0 2 34).bind fun v1 =>
if v1 ≤ l1 then (
mX2_isAhead_p31 w l0 l1)
else (
(gR w l0 2 32).bind fun v2 =>
(ia w v2 l1).bind fun v3 =>
(gR w l0 2 33).bind fun v4 =>
(ia w v4 l1).bind fun v5 =>
if ¬ v3 = v5 then (
mX2_isAhead_p31 w l0 l1)
else (
k2 w l0 (l1 + 1)))
noncomputable def mX2_isAhead_l2 : Nat → Wd → (Option Nat) → Int32 → Option (Int32 × Wd)
  | 0, _, _, _ => none
  | n + 1, w, l0, l1 => mX2_isAhead_b2 (mX2_isAhead_l2 n) w l0 l1
noncomputable def mX2_isAhead (this : Nat) (w : Wd) : Option (Int32 × Wd) :=
mX2_isAhead_l2 FU w ((some this)) 0
theorem eX2_isAhead_p31 {y : Fx (Int32 × Wd)} (hk : OkF y RX2 cX2_isAhead 2 2 60) (hR : RetM y rvI (some (.boolean))) (w : Wd) (l0 : Option Nat) (l1 : Int32) : V y w [(0, va_rf l0), (1, .int l1)] [] 31 (mX2_isAhead_p31 w l0 l1) := by
  unfold mX2_isAhead_p31
  refine V_iload_n (pc := 31) hk dX2_isAhead_31 1 rfl ?_
  refine V_aload_n (pc := 32) hk dX2_isAhead_32 0 rfl ?_
  refine g_X2_442 (pc := 33) hk dX2_isAhead_33 (fun v1 => ?_)
  refine V_icmp_ge (pc := 36) (tgt := 58) hk dX2_isAhead_36 rfl ?_ ?_
  · refine V_iconst (pc := 58) (v := 0) hk dX2_isAhead_58 rfl ?_
    exact V_zreturn (pc := 59) hk hR rfl dX2_isAhead_59
  · refine V_aload_n (pc := 39) hk dX2_isAhead_39 0 rfl ?_
    refine g_X2_55 (pc := 40) hk dX2_isAhead_40 (fun v2 => ?_)
    refine V_iload_n (pc := 43) hk dX2_isAhead_43 1 rfl ?_
    refine V_iaload (pc := 44) hk dX2_isAhead_44 (fun v3 => ?_)
    refine V_aload_n (pc := 45) hk dX2_isAhead_45 0 rfl ?_
    refine g_X2_58 (pc := 46) hk dX2_isAhead_46 (fun v4 => ?_)
    refine V_iload_n (pc := 49) hk dX2_isAhead_49 1 rfl ?_
    refine V_iaload (pc := 50) hk dX2_isAhead_50 (fun v5 => ?_)
    refine V_icmp_ge (pc := 51) (tgt := 58) hk dX2_isAhead_51 rfl ?_ ?_
    · refine V_iconst (pc := 58) (v := 0) hk dX2_isAhead_58 rfl ?_
      exact V_zreturn (pc := 59) hk hR rfl dX2_isAhead_59
    · refine V_iconst (pc := 54) (v := 1) hk dX2_isAhead_54 rfl ?_
      refine V_goto (pc := 55) (tgt := 59) hk dX2_isAhead_55 rfl ?_
      exact V_zreturn (pc := 59) hk hR rfl dX2_isAhead_59
theorem eX2_isAhead_b2 {y : Fx (Int32 × Wd)} (hk : OkF y RX2 cX2_isAhead 2 2 60) (hR : RetM y rvI (some (.boolean))) {k2 : Wd → (Option Nat) → Int32 → Option (Int32 × Wd)} (h2 : ∀ (w : Wd) (l0 : Option Nat) (l1 : Int32), V y w [(0, va_rf l0), (1, .int l1)] [] 2 (k2 w l0 l1)) (w : Wd) (l0 : Option Nat) (l1 : Int32) : V y w [(0, va_rf l0), (1, .int l1)] [] 2 (mX2_isAhead_b2 k2 w l0 l1) := by
  unfold mX2_isAhead_b2
  refine V_iload_n (pc := 2) hk dX2_isAhead_2 1 rfl ?_
  refine V_aload_n (pc := 3) hk dX2_isAhead_3 0 rfl ?_
  refine g_X2_442 (pc := 4) hk dX2_isAhead_4 (fun v1 => ?_)
  refine V_icmp_ge (pc := 7) (tgt := 31) hk dX2_isAhead_7 rfl ?_ ?_
  · exact eX2_isAhead_p31 hk hR w l0 l1
  · refine V_aload_n (pc := 10) hk dX2_isAhead_10 0 rfl ?_
    refine g_X2_55 (pc := 11) hk dX2_isAhead_11 (fun v2 => ?_)
    refine V_iload_n (pc := 14) hk dX2_isAhead_14 1 rfl ?_
    refine V_iaload (pc := 15) hk dX2_isAhead_15 (fun v3 => ?_)
    refine V_aload_n (pc := 16) hk dX2_isAhead_16 0 rfl ?_
    refine g_X2_58 (pc := 17) hk dX2_isAhead_17 (fun v4 => ?_)
    refine V_iload_n (pc := 20) hk dX2_isAhead_20 1 rfl ?_
    refine V_iaload (pc := 21) hk dX2_isAhead_21 (fun v5 => ?_)
    refine V_icmp_ne (pc := 22) (tgt := 31) hk dX2_isAhead_22 rfl ?_ ?_
    · exact eX2_isAhead_p31 hk hR w l0 l1
    · refine V_iinc (pc := 25) (v := 1) (lc' := [(1, .int (l1 + 1)), (0, va_rf l0)]) hk dX2_isAhead_25 1 rfl rfl (Nat.le_of_ble_eq_true rfl) (by simp [rf_cat, cat_int, cat_long, cat_ref]) ?_
      refine V_goto (pc := 28) (tgt := 2) hk dX2_isAhead_28 rfl ?_
      refine V_pick (lc' := [(0, va_rf l0), (1, .int (l1 + 1))]) [1, 0] rfl ?_
      exact h2 w l0 (l1 + 1)
theorem eX2_isAhead_l2 {y : Fx (Int32 × Wd)} (hk : OkF y RX2 cX2_isAhead 2 2 60) (hR : RetM y rvI (some (.boolean))) : ∀ (n : Nat) (w : Wd) (l0 : Option Nat) (l1 : Int32), V y w [(0, va_rf l0), (1, .int l1)] [] 2 (mX2_isAhead_l2 n w l0 l1) := by
  intro n
  induction n with
  | zero => intro w l0 l1; exact V_none
  | succ n ih => intro w l0 l1; exact eX2_isAhead_b2 hk hR ih w l0 l1
theorem eX2_isAhead {y : Fx (Int32 × Wd)} (hk : OkF y RX2 cX2_isAhead 2 2 60) (hR : RetM y rvI (some (.boolean))) (this : Nat) (w : Wd) : V y w [(0, va_rf (some this))] [] 0 (mX2_isAhead this w) := by
  unfold mX2_isAhead
  refine V_iconst (pc := 0) (v := 0) hk dX2_isAhead_0 rfl ?_
  refine V_istore_n (pc := 1) (lc' := [(1, .int 0), (0, va_rf ((some this)))]) (i := 1) hk dX2_isAhead_1 rfl (Nat.le_of_ble_eq_true rfl) (by simp [rf_cat, cat_int, cat_long, cat_ref]) ?_
  refine V_pick (lc' := [(0, va_rf ((some this))), (1, .int 0)]) [1, 0] rfl ?_
  exact eX2_isAhead_l2 hk hR FU w ((some this)) 0
theorem ctX2_isAhead (l : Launch) (K : Kx) (hI : Ini K) (b : Nat) (w : Wd) : ∀ r, mX2_isAhead b w = some r → Ct l K 2 60 yX2_isAhead (ws_ yX2_isAhead cX2_isAhead 2 (some (.boolean))) [.ref b] w (rvI r.1) r.2 := Ct_of rvI l K hI 2 60 [.ref b] w (by decide) (lc0 := [(0, .ref b)]) rfl (Nat.le_of_ble_eq_true rfl) (fun y hk hR _ _ hin => eX2_isAhead hk hR b w)
noncomputable def mX2_twoJibs_b161 (k161 : Wd → (Option Nat) → Int32 → Int32 → Option (Int32 × Wd)) (w : Wd) (l0 : Option Nat) (l2 : Int32) (l4 : Int32) : Option (Int32 × Wd) :=
(gR w l0 2 30).bind fun v1 =>
(ia w v1 l4).bind fun v2 =>
if v2 = l2 then (
(gR w l0 2 36).bind fun v3 =>
(ia w v3 l4).bind fun v4 =>
some (v4, w))
else (
k161 w l0 l2 (l4 + 1))
noncomputable def mX2_twoJibs_l161 : Nat → Wd → (Option Nat) → Int32 → Int32 → Option (Int32 × Wd)
  | 0, _, _, _, _ => none
  | n + 1, w, l0, l2, l4 => mX2_twoJibs_b161 (mX2_twoJibs_l161 n) w l0 l2 l4
noncomputable def mX2_twoJibs_b97 (k40 : Wd → (Option Nat) → Int32 → Int32 → Int32 → Option (Int32 × Wd)) (k97 : Wd → (Option Nat) → Int32 → Int32 → Int32 → Int32 → Option (Int32 × Wd)) (w : Wd) (l0 : Option Nat) (l2 : Int32) (l3 : Int32) (l4 : Int32) (l6 : Int32) : Option (Int32 × Wd) :=
(gI w l0 2 34).bind fun v1 =>
if v1 ≤ l6 then (
k40 w l0 l2 l3 (l4 + 1))
else (
(gR w l0 2 33).bind fun v2 =>
(gR w l0 2 32).bind fun v3 =>
(ia w v3 l6).bind fun v4 =>
(ias w v2 l6 v4).bind fun w5 =>
(gR w5 l0 2 36).bind fun v6 =>
(gR w5 l0 2 32).bind fun v7 =>
(ia w5 v7 l6).bind fun v8 =>
(gR w5 l0 2 35).bind fun v9 =>
(ia w5 v9 l6).bind fun v10 =>
(ias w5 v6 v8 v10).bind fun w11 =>
k97 w11 l0 l2 l3 l4 (l6 + 1))
noncomputable def mX2_twoJibs_l97 (k40 : Wd → (Option Nat) → Int32 → Int32 → Int32 → Option (Int32 × Wd)) : Nat → Wd → (Option Nat) → Int32 → Int32 → Int32 → Int32 → Option (Int32 × Wd)
  | 0, _, _, _, _, _, _ => none
  | n + 1, w, l0, l2, l3, l4, l6 => mX2_twoJibs_b97 k40 (mX2_twoJibs_l97 k40 n) w l0 l2 l3 l4 l6
noncomputable def mX2_twoJibs_b40 (k40 : Wd → (Option Nat) → Int32 → Int32 → Int32 → Option (Int32 × Wd)) (w : Wd) (l0 : Option Nat) (l2 : Int32) (l3 : Int32) (l4 : Int32) : Option (Int32 × Wd) :=
(gI w l0 2 34).bind fun v1 =>
if (1 <<< (v1 &&& 31)) ≤ l4 then (
if ¬ l2 = (-1) then (
mX2_twoJibs_l161 FU w l0 l2 0)
else (
some (l3, w)))
else (
(recv w l0 2).bind fun b3 => (cal w (mX2_layJibs b3 l4 w)).bind fun r2 =>
if ¬ r2.1 = 0 then (
(recv r2.2 l0 2).bind fun b5 => (cal r2.2 (mX2_doneBy b5 r2.2)).bind fun r4 =>
if l3 < r4.1 then (
k40 r4.2 l0 l2 l3 (l4 + 1))
else (
if ¬ r4.1 = l3 then (
mX2_twoJibs_l97 k40 FU r4.2 l0 l2 r4.1 l4 0)
else (
(recv r4.2 l0 2).bind fun b7 => (cal r4.2 (mX2_isAhead b7 r4.2)).bind fun r6 =>
if ¬ r6.1 = 0 then (
mX2_twoJibs_l97 k40 FU r6.2 l0 l2 r4.1 l4 0)
else (
k40 r6.2 l0 l2 l3 (l4 + 1)))))
else (
k40 r2.2 l0 l2 l3 (l4 + 1)))
noncomputable def mX2_twoJibs_l40 : Nat → Wd → (Option Nat) → Int32 → Int32 → Int32 → Option (Int32 × Wd)
  | 0, _, _, _, _, _ => none
  | n + 1, w, l0, l2, l3, l4 => mX2_twoJibs_b40 (mX2_twoJibs_l40 n) w l0 l2 l3 l4
noncomputable def mX2_twoJibs (this : Nat) (a0 : Int32) (a1 : Int32) (w : Wd) : Option (Int32 × Wd) :=
(recv w ((some this)) 2).bind fun b2 => (cal w (mX2_layMembers b2 a0 8 w)).bind fun r1 =>
if r1.1 = 0 then (
some ((-1), r1.2))
else (
if a1 = (-1) then (
mX2_twoJibs_l40 FU r1.2 ((some this)) a1 100000000 0)
else (
(recv r1.2 ((some this)) 2).bind fun b4 => (cal r1.2 (mX2_isOrder b4 a1 r1.2)).bind fun r3 =>
if r3.1 = 0 then (
some ((-1), r3.2))
else (
(cal r3.2 (mX2_has a0 a1 r3.2)).bind fun r5 =>
if ¬ r5.1 = 0 then (
mX2_twoJibs_l40 FU r5.2 ((some this)) a1 100000000 0)
else (
some ((-1), r5.2)))))
theorem eX2_twoJibs_b161 {y : Fx (Int32 × Wd)} (hk : OkF y RX2 cX2_twoJibs 7 8 203) (hR : RetM y rvI (some (.int))) {k161 : Wd → (Option Nat) → Int32 → Int32 → Option (Int32 × Wd)} (h161 : ∀ (w : Wd) (l0 : Option Nat) (l2 : Int32) (l4 : Int32), V y w [(0, va_rf l0), (2, .int l2), (4, .int l4)] [] 161 (k161 w l0 l2 l4)) (w : Wd) (l0 : Option Nat) (l2 : Int32) (l4 : Int32) : V y w [(0, va_rf l0), (2, .int l2), (4, .int l4)] [] 161 (mX2_twoJibs_b161 k161 w l0 l2 l4) := by
  unfold mX2_twoJibs_b161
  refine V_aload_n (pc := 161) hk dX2_twoJibs_161 0 rfl ?_
  refine g_X2_49 (pc := 162) hk dX2_twoJibs_162 (fun v1 => ?_)
  refine V_iload (pc := 165) hk dX2_twoJibs_165 2 rfl ?_
  refine V_iaload (pc := 167) hk dX2_twoJibs_167 (fun v2 => ?_)
  refine V_iload_n (pc := 168) hk dX2_twoJibs_168 1 rfl ?_
  refine V_icmp_eq (pc := 169) (tgt := 178) hk dX2_twoJibs_169 rfl ?_ ?_
  · refine V_aload_n (pc := 178) hk dX2_twoJibs_178 0 rfl ?_
    refine g_X2_64 (pc := 179) hk dX2_twoJibs_179 (fun v3 => ?_)
    refine V_iload (pc := 182) hk dX2_twoJibs_182 2 rfl ?_
    refine V_iaload (pc := 184) hk dX2_twoJibs_184 (fun v4 => ?_)
    exact V_ireturn (pc := 185) hk hR rfl dX2_twoJibs_185
  · refine V_iinc (pc := 172) (v := 1) (lc' := [(4, .int (l4 + 1)), (0, va_rf l0), (2, .int l2)]) hk dX2_twoJibs_172 2 rfl rfl (Nat.le_of_ble_eq_true rfl) rfl ?_
    refine V_goto (pc := 175) (tgt := 161) hk dX2_twoJibs_175 rfl ?_
    refine V_pick (lc' := [(0, va_rf l0), (2, .int l2), (4, .int (l4 + 1))]) [1, 2, 0] rfl ?_
    exact h161 w l0 l2 (l4 + 1)
theorem eX2_twoJibs_l161 {y : Fx (Int32 × Wd)} (hk : OkF y RX2 cX2_twoJibs 7 8 203) (hR : RetM y rvI (some (.int))) : ∀ (n : Nat) (w : Wd) (l0 : Option Nat) (l2 : Int32) (l4 : Int32), V y w [(0, va_rf l0), (2, .int l2), (4, .int l4)] [] 161 (mX2_twoJibs_l161 n w l0 l2 l4) := by
  intro n
  induction n with
  | zero => intro w l0 l2 l4; exact V_none
  | succ n ih => intro w l0 l2 l4; exact eX2_twoJibs_b161 hk hR ih w l0 l2 l4
theorem eX2_twoJibs_b97 {y : Fx (Int32 × Wd)} (hk : OkF y RX2 cX2_twoJibs 7 8 203) (hR : RetM y rvI (some (.int))) {k40 : Wd → (Option Nat) → Int32 → Int32 → Int32 → Option (Int32 × Wd)} (h40 : ∀ (w : Wd) (l0 : Option Nat) (l2 : Int32) (l3 : Int32) (l4 : Int32), V y w [(0, va_rf l0), (2, .int l2), (3, .int l3), (4, .int l4)] [] 40 (k40 w l0 l2 l3 l4)) {k97 : Wd → (Option Nat) → Int32 → Int32 → Int32 → Int32 → Option (Int32 × Wd)} (h97 : ∀ (w : Wd) (l0 : Option Nat) (l2 : Int32) (l3 : Int32) (l4 : Int32) (l6 : Int32), V y w [(0, va_rf l0), (2, .int l2), (3, .int l3), (4, .int l4), (6, .int l6)] [] 97 (k97 w l0 l2 l3 l4 l6)) (w : Wd) (l0 : Option Nat) (l2 : Int32) (l3 : Int32) (l4 : Int32) (l6 : Int32) : V y w [(0, va_rf l0), (2, .int l2), (3, .int l3), (4, .int l4), (6, .int l6)] [] 97 (mX2_twoJibs_b97 k40 k97 w l0 l2 l3 l4 l6) := by
  unfold mX2_twoJibs_b97
  refine V_iload (pc := 97) hk dX2_twoJibs_97 4 rfl ?_
  refine V_aload_n (pc := 99) hk dX2_twoJibs_99 0 rfl ?_
  refine g_X2_442 (pc := 100) hk dX2_twoJibs_100 (fun v1 => ?_)
  refine V_icmp_ge (pc := 103) (tgt := 145) hk dX2_twoJibs_103 rfl ?_ ?_
  · refine V_iinc (pc := 145) (v := 1) (lc' := [(4, .int (l4 + 1)), (0, va_rf l0), (2, .int l2), (3, .int l3), (6, .int l6)]) hk dX2_twoJibs_145 3 rfl rfl (Nat.le_of_ble_eq_true rfl) rfl ?_
    refine V_goto (pc := 148) (tgt := 40) hk dX2_twoJibs_148 rfl ?_
    refine V_pick (lc' := [(0, va_rf l0), (2, .int l2), (3, .int l3), (4, .int (l4 + 1))]) [1, 2, 3, 0] rfl ?_
    exact h40 w l0 l2 l3 (l4 + 1)
  · refine V_aload_n (pc := 106) hk dX2_twoJibs_106 0 rfl ?_
    refine g_X2_58 (pc := 107) hk dX2_twoJibs_107 (fun v2 => ?_)
    refine V_iload (pc := 110) hk dX2_twoJibs_110 4 rfl ?_
    refine V_aload_n (pc := 112) hk dX2_twoJibs_112 0 rfl ?_
    refine g_X2_55 (pc := 113) hk dX2_twoJibs_113 (fun v3 => ?_)
    refine V_iload (pc := 116) hk dX2_twoJibs_116 4 rfl ?_
    refine V_iaload (pc := 118) hk dX2_twoJibs_118 (fun v4 => ?_)
    refine V_iastore (pc := 119) hk dX2_twoJibs_119 (fun w5 => ?_)
    refine V_aload_n (pc := 120) hk dX2_twoJibs_120 0 rfl ?_
    refine g_X2_64 (pc := 121) hk dX2_twoJibs_121 (fun v6 => ?_)
    refine V_aload_n (pc := 124) hk dX2_twoJibs_124 0 rfl ?_
    refine g_X2_55 (pc := 125) hk dX2_twoJibs_125 (fun v7 => ?_)
    refine V_iload (pc := 128) hk dX2_twoJibs_128 4 rfl ?_
    refine V_iaload (pc := 130) hk dX2_twoJibs_130 (fun v8 => ?_)
    refine V_aload_n (pc := 131) hk dX2_twoJibs_131 0 rfl ?_
    refine g_X2_61 (pc := 132) hk dX2_twoJibs_132 (fun v9 => ?_)
    refine V_iload (pc := 135) hk dX2_twoJibs_135 4 rfl ?_
    refine V_iaload (pc := 137) hk dX2_twoJibs_137 (fun v10 => ?_)
    refine V_iastore (pc := 138) hk dX2_twoJibs_138 (fun w11 => ?_)
    refine V_iinc (pc := 139) (v := 1) (lc' := [(6, .int (l6 + 1)), (0, va_rf l0), (2, .int l2), (3, .int l3), (4, .int l4)]) hk dX2_twoJibs_139 4 rfl rfl (Nat.le_of_ble_eq_true rfl) rfl ?_
    refine V_goto (pc := 142) (tgt := 97) hk dX2_twoJibs_142 rfl ?_
    refine V_pick (lc' := [(0, va_rf l0), (2, .int l2), (3, .int l3), (4, .int l4), (6, .int (l6 + 1))]) [1, 2, 3, 4, 0] rfl ?_
    exact h97 w11 l0 l2 l3 l4 (l6 + 1)
theorem eX2_twoJibs_l97 {y : Fx (Int32 × Wd)} (hk : OkF y RX2 cX2_twoJibs 7 8 203) (hR : RetM y rvI (some (.int))) {k40 : Wd → (Option Nat) → Int32 → Int32 → Int32 → Option (Int32 × Wd)} (h40 : ∀ (w : Wd) (l0 : Option Nat) (l2 : Int32) (l3 : Int32) (l4 : Int32), V y w [(0, va_rf l0), (2, .int l2), (3, .int l3), (4, .int l4)] [] 40 (k40 w l0 l2 l3 l4)) : ∀ (n : Nat) (w : Wd) (l0 : Option Nat) (l2 : Int32) (l3 : Int32) (l4 : Int32) (l6 : Int32), V y w [(0, va_rf l0), (2, .int l2), (3, .int l3), (4, .int l4), (6, .int l6)] [] 97 (mX2_twoJibs_l97 k40 n w l0 l2 l3 l4 l6) := by
  intro n
  induction n with
  | zero => intro w l0 l2 l3 l4 l6; exact V_none
  | succ n ih => intro w l0 l2 l3 l4 l6; exact eX2_twoJibs_b97 hk hR h40 ih w l0 l2 l3 l4 l6
theorem eX2_twoJibs_b40 {y : Fx (Int32 × Wd)} (hk : OkF y RX2 cX2_twoJibs 7 8 203) (hR : RetM y rvI (some (.int))) {k40 : Wd → (Option Nat) → Int32 → Int32 → Int32 → Option (Int32 × Wd)} (h40 : ∀ (w : Wd) (l0 : Option Nat) (l2 : Int32) (l3 : Int32) (l4 : Int32), V y w [(0, va_rf l0), (2, .int l2), (3, .int l3), (4, .int l4)] [] 40 (k40 w l0 l2 l3 l4)) (w : Wd) (l0 : Option Nat) (l2 : Int32) (l3 : Int32) (l4 : Int32) : V y w [(0, va_rf l0), (2, .int l2), (3, .int l3), (4, .int l4)] [] 40 (mX2_twoJibs_b40 k40 w l0 l2 l3 l4) := by
  unfold mX2_twoJibs_b40
  refine V_iload (pc := 40) hk dX2_twoJibs_40 3 rfl ?_
  refine V_iconst (pc := 42) (v := 1) hk dX2_twoJibs_42 rfl ?_
  refine V_aload_n (pc := 43) hk dX2_twoJibs_43 0 rfl ?_
  refine g_X2_442 (pc := 44) hk dX2_twoJibs_44 (fun v1 => ?_)
  refine V_ishl (pc := 47) hk dX2_twoJibs_47 ?_
  refine V_icmp_ge (pc := 48) (tgt := 151) hk dX2_twoJibs_48 rfl ?_ ?_
  · refine V_iload_n (pc := 151) hk dX2_twoJibs_151 1 rfl ?_
    refine V_iconst (pc := 152) (v := (-1)) hk dX2_twoJibs_152 (by decide +kernel) ?_
    refine V_icmp_ne (pc := 153) (tgt := 158) hk dX2_twoJibs_153 rfl ?_ ?_
    · refine V_iconst (pc := 158) (v := 0) hk dX2_twoJibs_158 rfl ?_
      refine V_istore (pc := 159) (lc' := [(4, .int 0), (0, va_rf l0), (2, .int l2), (3, .int l3)]) (i := 4) hk dX2_twoJibs_159 (Nat.le_of_ble_eq_true rfl) rfl ?_
      refine V_pick (lc' := [(0, va_rf l0), (2, .int l2), (4, .int 0)]) [1, 2, 0] rfl ?_
      exact eX2_twoJibs_l161 hk hR FU w l0 l2 0
    · refine V_iload_n (pc := 156) hk dX2_twoJibs_156 2 rfl ?_
      exact V_ireturn (pc := 157) hk hR rfl dX2_twoJibs_157
  · refine V_aload_n (pc := 51) hk dX2_twoJibs_51 0 rfl ?_
    refine V_iload (pc := 52) hk dX2_twoJibs_52 3 rfl ?_
    refine n_X2_454 (pc := 54) hk (fun b r h => ctX2_layJibs (fl y) (fK y) hk.2.2.2.2.2.2.2.1 b l4 w r h) ⟨Nat.le_of_ble_eq_true rfl, Nat.le_of_ble_eq_true rfl⟩ (Nat.le_of_ble_eq_true rfl) dX2_twoJibs_54 (fun r2 => ?_)
    refine V_if_ne (pc := 57) (tgt := 63) hk dX2_twoJibs_57 rfl ?_ ?_
    · refine V_aload_n (pc := 63) hk dX2_twoJibs_63 0 rfl ?_
      refine n_X2_457 (pc := 64) hk (fun b r h => ctX2_doneBy (fl y) (fK y) hk.2.2.2.2.2.2.2.1 b r2.2 r h) ⟨Nat.le_of_ble_eq_true rfl, Nat.le_of_ble_eq_true rfl⟩ (Nat.le_of_ble_eq_true rfl) dX2_twoJibs_64 (fun r4 => ?_)
      refine V_istore (pc := 67) (lc' := [(5, .int r4.1), (0, va_rf l0), (2, .int l2), (3, .int l3), (4, .int l4)]) (i := 5) hk dX2_twoJibs_67 (Nat.le_of_ble_eq_true rfl) rfl ?_
      refine V_iload (pc := 69) hk dX2_twoJibs_69 0 rfl ?_
      refine V_iload_n (pc := 71) hk dX2_twoJibs_71 3 rfl ?_
      refine V_icmp_gt (pc := 72) (tgt := 145) hk dX2_twoJibs_72 rfl ?_ ?_
      · refine V_iinc (pc := 145) (v := 1) (lc' := [(4, .int (l4 + 1)), (5, .int r4.1), (0, va_rf l0), (2, .int l2), (3, .int l3)]) hk dX2_twoJibs_145 4 rfl rfl (Nat.le_of_ble_eq_true rfl) rfl ?_
        refine V_goto (pc := 148) (tgt := 40) hk dX2_twoJibs_148 rfl ?_
        refine V_pick (lc' := [(0, va_rf l0), (2, .int l2), (3, .int l3), (4, .int (l4 + 1))]) [2, 3, 4, 0] rfl ?_
        exact h40 r4.2 l0 l2 l3 (l4 + 1)
      · refine V_iload (pc := 75) hk dX2_twoJibs_75 0 rfl ?_
        refine V_iload_n (pc := 77) hk dX2_twoJibs_77 3 rfl ?_
        refine V_icmp_ne (pc := 78) (tgt := 91) hk dX2_twoJibs_78 rfl ?_ ?_
        · refine V_iload (pc := 91) hk dX2_twoJibs_91 0 rfl ?_
          refine V_istore_n (pc := 93) (lc' := [(3, .int r4.1), (5, .int r4.1), (0, va_rf l0), (2, .int l2), (4, .int l4)]) (i := 3) hk dX2_twoJibs_93 rfl (Nat.le_of_ble_eq_true rfl) rfl ?_
          refine V_iconst (pc := 94) (v := 0) hk dX2_twoJibs_94 rfl ?_
          refine V_istore (pc := 95) (lc' := [(6, .int 0), (3, .int r4.1), (5, .int r4.1), (0, va_rf l0), (2, .int l2), (4, .int l4)]) (i := 6) hk dX2_twoJibs_95 (Nat.le_of_ble_eq_true rfl) rfl ?_
          refine V_pick (lc' := [(0, va_rf l0), (2, .int l2), (3, .int r4.1), (4, .int l4), (6, .int 0)]) [3, 4, 1, 5, 0] rfl ?_
          exact eX2_twoJibs_l97 hk hR h40 FU r4.2 l0 l2 r4.1 l4 0
        · refine V_aload_n (pc := 81) hk dX2_twoJibs_81 1 rfl ?_
          refine n_X2_460 (pc := 82) hk (fun b r h => ctX2_isAhead (fl y) (fK y) hk.2.2.2.2.2.2.2.1 b r4.2 r h) ⟨Nat.le_of_ble_eq_true rfl, Nat.le_of_ble_eq_true rfl⟩ (Nat.le_of_ble_eq_true rfl) dX2_twoJibs_82 (fun r6 => ?_)
          refine V_if_ne (pc := 85) (tgt := 91) hk dX2_twoJibs_85 rfl ?_ ?_
          · refine V_iload (pc := 91) hk dX2_twoJibs_91 0 rfl ?_
            refine V_istore_n (pc := 93) (lc' := [(3, .int r4.1), (5, .int r4.1), (0, va_rf l0), (2, .int l2), (4, .int l4)]) (i := 3) hk dX2_twoJibs_93 rfl (Nat.le_of_ble_eq_true rfl) rfl ?_
            refine V_iconst (pc := 94) (v := 0) hk dX2_twoJibs_94 rfl ?_
            refine V_istore (pc := 95) (lc' := [(6, .int 0), (3, .int r4.1), (5, .int r4.1), (0, va_rf l0), (2, .int l2), (4, .int l4)]) (i := 6) hk dX2_twoJibs_95 (Nat.le_of_ble_eq_true rfl) rfl ?_
            refine V_pick (lc' := [(0, va_rf l0), (2, .int l2), (3, .int r4.1), (4, .int l4), (6, .int 0)]) [3, 4, 1, 5, 0] rfl ?_
            exact eX2_twoJibs_l97 hk hR h40 FU r6.2 l0 l2 r4.1 l4 0
          · refine V_goto (pc := 88) (tgt := 145) hk dX2_twoJibs_88 rfl ?_
            refine V_iinc (pc := 145) (v := 1) (lc' := [(4, .int (l4 + 1)), (5, .int r4.1), (0, va_rf l0), (2, .int l2), (3, .int l3)]) hk dX2_twoJibs_145 4 rfl rfl (Nat.le_of_ble_eq_true rfl) rfl ?_
            refine V_goto (pc := 148) (tgt := 40) hk dX2_twoJibs_148 rfl ?_
            refine V_pick (lc' := [(0, va_rf l0), (2, .int l2), (3, .int l3), (4, .int (l4 + 1))]) [2, 3, 4, 0] rfl ?_
            exact h40 r6.2 l0 l2 l3 (l4 + 1)
    · refine V_goto (pc := 60) (tgt := 145) hk dX2_twoJibs_60 rfl ?_
      refine V_iinc (pc := 145) (v := 1) (lc' := [(4, .int (l4 + 1)), (0, va_rf l0), (2, .int l2), (3, .int l3)]) hk dX2_twoJibs_145 3 rfl rfl (Nat.le_of_ble_eq_true rfl) rfl ?_
      refine V_goto (pc := 148) (tgt := 40) hk dX2_twoJibs_148 rfl ?_
      refine V_pick (lc' := [(0, va_rf l0), (2, .int l2), (3, .int l3), (4, .int (l4 + 1))]) [1, 2, 3, 0] rfl ?_
      exact h40 r2.2 l0 l2 l3 (l4 + 1)
theorem eX2_twoJibs_l40 {y : Fx (Int32 × Wd)} (hk : OkF y RX2 cX2_twoJibs 7 8 203) (hR : RetM y rvI (some (.int))) : ∀ (n : Nat) (w : Wd) (l0 : Option Nat) (l2 : Int32) (l3 : Int32) (l4 : Int32), V y w [(0, va_rf l0), (2, .int l2), (3, .int l3), (4, .int l4)] [] 40 (mX2_twoJibs_l40 n w l0 l2 l3 l4) := by
  intro n
  induction n with
  | zero => intro w l0 l2 l3 l4; exact V_none
  | succ n ih => intro w l0 l2 l3 l4; exact eX2_twoJibs_b40 hk hR ih w l0 l2 l3 l4
theorem eX2_twoJibs {y : Fx (Int32 × Wd)} (hk : OkF y RX2 cX2_twoJibs 7 8 203) (hR : RetM y rvI (some (.int))) (this : Nat) (a0 : Int32) (a1 : Int32) (w : Wd) : V y w [(0, va_rf (some this)), (1, .int a0), (2, .int a1)] [] 0 (mX2_twoJibs this a0 a1 w) := by
  unfold mX2_twoJibs
  refine V_aload_n (pc := 0) hk dX2_twoJibs_0 0 rfl ?_
  refine V_iload_n (pc := 1) hk dX2_twoJibs_1 1 rfl ?_
  refine V_bipush (pc := 2) (v := 8) hk dX2_twoJibs_2 rfl ?_
  refine n_X2_445 (pc := 4) hk (fun b r h => ctX2_layMembers (fl y) (fK y) hk.2.2.2.2.2.2.2.1 b a0 8 w r h) ⟨Nat.le_of_ble_eq_true rfl, Nat.le_of_ble_eq_true rfl⟩ (Nat.le_of_ble_eq_true rfl) dX2_twoJibs_4 (fun r1 => ?_)
  refine V_if_eq (pc := 7) (tgt := 31) hk dX2_twoJibs_7 rfl ?_ ?_
  · refine V_iconst (pc := 31) (v := (-1)) hk dX2_twoJibs_31 (by decide +kernel) ?_
    exact V_ireturn (pc := 32) hk hR rfl dX2_twoJibs_32
  · refine V_iload_n (pc := 10) hk dX2_twoJibs_10 2 rfl ?_
    refine V_iconst (pc := 11) (v := (-1)) hk dX2_twoJibs_11 (by decide +kernel) ?_
    refine V_icmp_eq (pc := 12) (tgt := 33) hk dX2_twoJibs_12 rfl ?_ ?_
    · refine V_ldcw (pc := 33) (v := 100000000) hk dX2_twoJibs_33 q1839 ?_
      refine V_istore_n (pc := 36) (lc' := [(3, .int 100000000), (0, va_rf ((some this))), (1, .int a0), (2, .int a1)]) (i := 3) hk dX2_twoJibs_36 rfl (Nat.le_of_ble_eq_true rfl) rfl ?_
      refine V_iconst (pc := 37) (v := 0) hk dX2_twoJibs_37 rfl ?_
      refine V_istore (pc := 38) (lc' := [(4, .int 0), (3, .int 100000000), (0, va_rf ((some this))), (1, .int a0), (2, .int a1)]) (i := 4) hk dX2_twoJibs_38 (Nat.le_of_ble_eq_true rfl) rfl ?_
      refine V_pick (lc' := [(0, va_rf ((some this))), (2, .int a1), (3, .int 100000000), (4, .int 0)]) [2, 4, 1, 0] rfl ?_
      exact eX2_twoJibs_l40 hk hR FU r1.2 ((some this)) a1 100000000 0
    · refine V_aload_n (pc := 15) hk dX2_twoJibs_15 0 rfl ?_
      refine V_iload_n (pc := 16) hk dX2_twoJibs_16 2 rfl ?_
      refine n_X2_344 (pc := 17) hk (fun b r h => ctX2_isOrder (fl y) (fK y) hk.2.2.2.2.2.2.2.1 b a1 r1.2 r h) ⟨Nat.le_of_ble_eq_true rfl, Nat.le_of_ble_eq_true rfl⟩ (Nat.le_of_ble_eq_true rfl) dX2_twoJibs_17 (fun r3 => ?_)
      refine V_if_eq (pc := 20) (tgt := 31) hk dX2_twoJibs_20 rfl ?_ ?_
      · refine V_iconst (pc := 31) (v := (-1)) hk dX2_twoJibs_31 (by decide +kernel) ?_
        exact V_ireturn (pc := 32) hk hR rfl dX2_twoJibs_32
      · refine V_iload_n (pc := 23) hk dX2_twoJibs_23 1 rfl ?_
        refine V_iload_n (pc := 24) hk dX2_twoJibs_24 2 rfl ?_
        refine n_X2_241 (pc := 25) hk (fun r h => ctX2_has (fl y) (fK y) hk.2.2.2.2.2.2.2.1 a0 a1 r3.2 r h) ⟨Nat.le_of_ble_eq_true rfl, Nat.le_of_ble_eq_true rfl⟩ (Nat.le_of_ble_eq_true rfl) dX2_twoJibs_25 (fun r5 => ?_)
        refine V_if_ne (pc := 28) (tgt := 33) hk dX2_twoJibs_28 rfl ?_ ?_
        · refine V_ldcw (pc := 33) (v := 100000000) hk dX2_twoJibs_33 q1839 ?_
          refine V_istore_n (pc := 36) (lc' := [(3, .int 100000000), (0, va_rf ((some this))), (1, .int a0), (2, .int a1)]) (i := 3) hk dX2_twoJibs_36 rfl (Nat.le_of_ble_eq_true rfl) rfl ?_
          refine V_iconst (pc := 37) (v := 0) hk dX2_twoJibs_37 rfl ?_
          refine V_istore (pc := 38) (lc' := [(4, .int 0), (3, .int 100000000), (0, va_rf ((some this))), (1, .int a0), (2, .int a1)]) (i := 4) hk dX2_twoJibs_38 (Nat.le_of_ble_eq_true rfl) rfl ?_
          refine V_pick (lc' := [(0, va_rf ((some this))), (2, .int a1), (3, .int 100000000), (4, .int 0)]) [2, 4, 1, 0] rfl ?_
          exact eX2_twoJibs_l40 hk hR FU r5.2 ((some this)) a1 100000000 0
        · refine V_iconst (pc := 31) (v := (-1)) hk dX2_twoJibs_31 (by decide +kernel) ?_
          exact V_ireturn (pc := 32) hk hR rfl dX2_twoJibs_32
theorem ctX2_twoJibs (l : Launch) (K : Kx) (hI : Ini K) (b : Nat) (a0 : Int32) (a1 : Int32) (w : Wd) : ∀ r, mX2_twoJibs b a0 a1 w = some r → Ct l K 8 203 yX2_twoJibs (ws_ yX2_twoJibs cX2_twoJibs 7 (some (.int))) [.ref b, .int a0, .int a1] w (rvI r.1) r.2 := Ct_of rvI l K hI 8 203 [.ref b, .int a0, .int a1] w (by decide) (lc0 := [(0, .ref b), (1, .int a0), (2, .int a1)]) rfl (Nat.le_of_ble_eq_true rfl) (fun y hk hR _ _ hin => eX2_twoJibs hk hR b a0 a1 w)
noncomputable def mX2_said_p85 (w : Wd) (l0 : Option Nat) (t0 : Int32) (t1 : Int32) (t2 : Option Nat) : Option (Int32 × Wd) :=
(ias w t2 t1 t0).bind fun w1 =>
(gR w1 l0 2 0).bind fun v2 =>
(ia w1 v2 6).bind fun v3 =>
(ias w1 v2 6 (v3 + 1)).bind fun w4 =>
(gR w4 l0 2 0).bind fun v5 =>
(ia w4 v5 6).bind fun v6 =>
some (v6, w4)
noncomputable def mX2_said (this : Nat) (a0 : Int32) (a1 : Int32) (w : Wd) : Option (Int32 × Wd) :=
if ¬ a0 = (-1) then (
(cal w (mX2_isIn a0 0 10 w)).bind fun r1 =>
if r1.1 = 0 then (
some ((-2), r1.2))
else (
(gR r1.2 ((some this)) 2 0).bind fun v2 =>
(ia r1.2 v2 6).bind fun v3 =>
if ¬ v3 = 8 then (
(gR r1.2 ((some this)) 2 0).bind fun v4 =>
(gR r1.2 ((some this)) 2 0).bind fun v5 =>
(ia r1.2 v5 6).bind fun v6 =>
(ias r1.2 v4 (68 + (2 * v6)) a0).bind fun w7 =>
(gR w7 ((some this)) 2 0).bind fun v8 =>
(gR w7 ((some this)) 2 0).bind fun v9 =>
(ia w7 v9 6).bind fun v10 =>
if a1 = 0 then (
mX2_said_p85 w7 ((some this)) 0 ((68 + (2 * v10)) + 1) v8)
else (
mX2_said_p85 w7 ((some this)) 1 ((68 + (2 * v10)) + 1) v8))
else (
some ((-2), r1.2))))
else (
(gR w ((some this)) 2 0).bind fun v11 =>
(ias w v11 6 0).bind fun w12 =>
some (0, w12))
theorem eX2_said_p85 {y : Fx (Int32 × Wd)} (hk : OkF y RX2 cX2_said 3 3 82) (hR : RetM y rvI (some (.int))) (w : Wd) (l0 : Option Nat) (t0 : Int32) (t1 : Int32) (t2 : Option Nat) : V y w [(0, va_rf l0)] [.int t0, .int t1, va_rf t2] 85 (mX2_said_p85 w l0 t0 t1 t2) := by
  unfold mX2_said_p85
  refine V_iastore (pc := 85) hk dX2_said_85 (fun w1 => ?_)
  refine V_aload_n (pc := 86) hk dX2_said_86 0 rfl ?_
  refine g_X2_7 (pc := 87) hk dX2_said_87 (fun v2 => ?_)
  refine V_bipush (pc := 90) (v := 6) hk dX2_said_90 rfl ?_
  refine V_dup2 (pc := 92) hk dX2_said_92 rfl (rf_cat _) ?_
  refine V_iaload (pc := 93) hk dX2_said_93 (fun v3 => ?_)
  refine V_iconst (pc := 94) (v := 1) hk dX2_said_94 rfl ?_
  refine V_iadd (pc := 95) hk dX2_said_95 ?_
  refine V_iastore (pc := 96) hk dX2_said_96 (fun w4 => ?_)
  refine V_aload_n (pc := 97) hk dX2_said_97 0 rfl ?_
  refine g_X2_7 (pc := 98) hk dX2_said_98 (fun v5 => ?_)
  refine V_bipush (pc := 101) (v := 6) hk dX2_said_101 rfl ?_
  refine V_iaload (pc := 103) hk dX2_said_103 (fun v6 => ?_)
  exact V_ireturn (pc := 104) hk hR rfl dX2_said_104
theorem eX2_said {y : Fx (Int32 × Wd)} (hk : OkF y RX2 cX2_said 3 3 82) (hR : RetM y rvI (some (.int))) (this : Nat) (a0 : Int32) (a1 : Int32) (w : Wd) : V y w [(0, va_rf (some this)), (1, .int a0), (2, .int a1)] [] 0 (mX2_said this a0 a1 w) := by
  unfold mX2_said
  refine V_iload_n (pc := 0) hk dX2_said_0 1 rfl ?_
  refine V_iconst (pc := 1) (v := (-1)) hk dX2_said_1 (by decide +kernel) ?_
  refine V_icmp_ne (pc := 2) (tgt := 15) hk dX2_said_2 rfl ?_ ?_
  · refine V_iload_n (pc := 15) hk dX2_said_15 1 rfl ?_
    refine V_iconst (pc := 16) (v := 0) hk dX2_said_16 rfl ?_
    refine V_bipush (pc := 17) (v := 10) hk dX2_said_17 rfl ?_
    refine n_X2_71 (pc := 19) hk (fun r h => ctX2_isIn (fl y) (fK y) hk.2.2.2.2.2.2.2.1 a0 0 10 w r h) ⟨Nat.le_of_ble_eq_true rfl, Nat.le_of_ble_eq_true rfl⟩ (Nat.le_of_ble_eq_true rfl) dX2_said_19 (fun r1 => ?_)
    refine V_if_eq (pc := 22) (tgt := 37) hk dX2_said_22 rfl ?_ ?_
    · refine V_bipush (pc := 37) (v := (-2)) hk dX2_said_37 (by decide +kernel) ?_
      exact V_ireturn (pc := 39) hk hR rfl dX2_said_39
    · refine V_aload_n (pc := 25) hk dX2_said_25 0 rfl ?_
      refine g_X2_7 (pc := 26) hk dX2_said_26 (fun v2 => ?_)
      refine V_bipush (pc := 29) (v := 6) hk dX2_said_29 rfl ?_
      refine V_iaload (pc := 31) hk dX2_said_31 (fun v3 => ?_)
      refine V_bipush (pc := 32) (v := 8) hk dX2_said_32 rfl ?_
      refine V_icmp_ne (pc := 34) (tgt := 40) hk dX2_said_34 rfl ?_ ?_
      · refine V_aload_n (pc := 40) hk dX2_said_40 0 rfl ?_
        refine g_X2_7 (pc := 41) hk dX2_said_41 (fun v4 => ?_)
        refine V_bipush (pc := 44) (v := 68) hk dX2_said_44 rfl ?_
        refine V_iconst (pc := 46) (v := 2) hk dX2_said_46 rfl ?_
        refine V_aload_n (pc := 47) hk dX2_said_47 0 rfl ?_
        refine g_X2_7 (pc := 48) hk dX2_said_48 (fun v5 => ?_)
        refine V_bipush (pc := 51) (v := 6) hk dX2_said_51 rfl ?_
        refine V_iaload (pc := 53) hk dX2_said_53 (fun v6 => ?_)
        refine V_imul (pc := 54) hk dX2_said_54 ?_
        refine V_iadd (pc := 55) hk dX2_said_55 ?_
        refine V_iload_n (pc := 56) hk dX2_said_56 1 rfl ?_
        refine V_iastore (pc := 57) hk dX2_said_57 (fun w7 => ?_)
        refine V_aload_n (pc := 58) hk dX2_said_58 0 rfl ?_
        refine g_X2_7 (pc := 59) hk dX2_said_59 (fun v8 => ?_)
        refine V_bipush (pc := 62) (v := 68) hk dX2_said_62 rfl ?_
        refine V_iconst (pc := 64) (v := 2) hk dX2_said_64 rfl ?_
        refine V_aload_n (pc := 65) hk dX2_said_65 0 rfl ?_
        refine g_X2_7 (pc := 66) hk dX2_said_66 (fun v9 => ?_)
        refine V_bipush (pc := 69) (v := 6) hk dX2_said_69 rfl ?_
        refine V_iaload (pc := 71) hk dX2_said_71 (fun v10 => ?_)
        refine V_imul (pc := 72) hk dX2_said_72 ?_
        refine V_iadd (pc := 73) hk dX2_said_73 ?_
        refine V_iconst (pc := 74) (v := 1) hk dX2_said_74 rfl ?_
        refine V_iadd (pc := 75) hk dX2_said_75 ?_
        refine V_iload_n (pc := 76) hk dX2_said_76 2 rfl ?_
        refine V_if_eq (pc := 77) (tgt := 84) hk dX2_said_77 rfl ?_ ?_
        · refine V_iconst (pc := 84) (v := 0) hk dX2_said_84 rfl ?_
          refine V_pick (lc' := [(0, va_rf ((some this)))]) [0] rfl ?_
          exact eX2_said_p85 hk hR w7 ((some this)) 0 ((68 + (2 * v10)) + 1) v8
        · refine V_iconst (pc := 80) (v := 1) hk dX2_said_80 rfl ?_
          refine V_goto (pc := 81) (tgt := 85) hk dX2_said_81 rfl ?_
          refine V_pick (lc' := [(0, va_rf ((some this)))]) [0] rfl ?_
          exact eX2_said_p85 hk hR w7 ((some this)) 1 ((68 + (2 * v10)) + 1) v8
      · refine V_bipush (pc := 37) (v := (-2)) hk dX2_said_37 (by decide +kernel) ?_
        exact V_ireturn (pc := 39) hk hR rfl dX2_said_39
  · refine V_aload_n (pc := 5) hk dX2_said_5 0 rfl ?_
    refine g_X2_7 (pc := 6) hk dX2_said_6 (fun v11 => ?_)
    refine V_bipush (pc := 9) (v := 6) hk dX2_said_9 rfl ?_
    refine V_iconst (pc := 11) (v := 0) hk dX2_said_11 rfl ?_
    refine V_iastore (pc := 12) hk dX2_said_12 (fun w12 => ?_)
    refine V_iconst (pc := 13) (v := 0) hk dX2_said_13 rfl ?_
    exact V_ireturn (pc := 14) hk hR rfl dX2_said_14
theorem ctX2_said (l : Launch) (K : Kx) (hI : Ini K) (b : Nat) (a0 : Int32) (a1 : Int32) (w : Wd) : ∀ r, mX2_said b a0 a1 w = some r → Ct l K 3 82 yX2_said (ws_ yX2_said cX2_said 3 (some (.int))) [.ref b, .int a0, .int a1] w (rvI r.1) r.2 := Ct_of rvI l K hI 3 82 [.ref b, .int a0, .int a1] w (by decide) (lc0 := [(0, .ref b), (1, .int a0), (2, .int a1)]) rfl (Nat.le_of_ble_eq_true rfl) (fun y hk hR _ _ hin => eX2_said hk hR b a0 a1 w)
noncomputable def mX2_left_p138 (w : Wd) (l2 : Int64) (l4 : Int64) (t0 : Int64) : Option (Int64 × Wd) :=
(cal w (mX2_common l2 (l2 + l4) w)).bind fun r1 =>
(ldv t0 r1.1).bind fun v2 =>
some (v2, r1.2)
noncomputable def mX2_left_p77 (k8 : Wd → (Option Nat) → Int32 → Int64 → Int64 → Int32 → Option (Int64 × Wd)) (w : Wd) (l0 : Option Nat) (l1 : Int32) (l4 : Int64) (l6 : Int32) (l7 : Int32) (l8 : Int32) (t0 : Int64) (t1 : Int64) : Option (Int64 × Wd) :=
if l8 = 0 then (
(some (l4 * ((l7 : Int32).toInt64))).bind fun (x1 : Int64) =>
k8 w l0 l1 (t1 * t0) x1 (l6 + 1))
else (
(some (l4 * (((10 - l7) : Int32).toInt64))).bind fun (x2 : Int64) =>
k8 w l0 l1 (t1 * t0) x2 (l6 + 1))
noncomputable def mX2_left_p57 (k8 : Wd → (Option Nat) → Int32 → Int64 → Int64 → Int32 → Option (Int64 × Wd)) (w : Wd) (l0 : Option Nat) (l1 : Int32) (l2 : Int64) (l4 : Int64) (l6 : Int32) (l7 : Int32) (t0 : Int32) : Option (Int64 × Wd) :=
if t0 = 0 then (
mX2_left_p77 k8 w l0 l1 l4 l6 l7 t0 (((10 - l7) : Int32).toInt64) l2)
else (
mX2_left_p77 k8 w l0 l1 l4 l6 l7 t0 ((l7 : Int32).toInt64) l2)
noncomputable def mX2_left_b8 (k8 : Wd → (Option Nat) → Int32 → Int64 → Int64 → Int32 → Option (Int64 × Wd)) (w : Wd) (l0 : Option Nat) (l1 : Int32) (l2 : Int64) (l4 : Int64) (l6 : Int32) : Option (Int64 × Wd) :=
(gR w l0 2 0).bind fun v1 =>
(ia w v1 6).bind fun v2 =>
if v2 ≤ l6 then (
if ¬ (lg_cmp (l2 + l4) 0) = 0 then (
if l1 = 0 then (
mX2_left_p138 w l2 l4 l2)
else (
mX2_left_p138 w l2 l4 (l2 + l4)))
else (
if l1 = 0 then (
some (0, w))
else (
some (1, w))))
else (
(gR w l0 2 0).bind fun v3 =>
(ia w v3 (68 + (2 * l6))).bind fun v4 =>
(gR w l0 2 0).bind fun v5 =>
(ia w v5 ((68 + (2 * l6)) + 1)).bind fun v6 =>
if ¬ v6 = 1 then (
mX2_left_p57 k8 w l0 l1 l2 l4 l6 v4 0)
else (
mX2_left_p57 k8 w l0 l1 l2 l4 l6 v4 1))
noncomputable def mX2_left_l8 : Nat → Wd → (Option Nat) → Int32 → Int64 → Int64 → Int32 → Option (Int64 × Wd)
  | 0, _, _, _, _, _, _ => none
  | n + 1, w, l0, l1, l2, l4, l6 => mX2_left_b8 (mX2_left_l8 n) w l0 l1 l2 l4 l6
noncomputable def mX2_left (this : Nat) (a0 : Int32) (w : Wd) : Option (Int64 × Wd) :=
mX2_left_l8 FU w ((some this)) a0 1 1 0
theorem eX2_left_p138 {y : Fx (Int64 × Wd)} (hk : OkF y RX2 cX2_left 9 3 89) (hR : RetM y rvJ (some (.long))) (w : Wd) (l2 : Int64) (l4 : Int64) (t0 : Int64) : V y w [(2, .long l2), (4, .long l4)] [.long t0] 138 (mX2_left_p138 w l2 l4 t0) := by
  unfold mX2_left_p138
  refine V_lload_n (pc := 138) hk dX2_left_138 0 rfl ?_
  refine V_lload_n (pc := 139) hk dX2_left_139 0 rfl ?_
  refine V_lload (pc := 140) hk dX2_left_140 1 rfl ?_
  refine V_ladd (pc := 142) hk dX2_left_142 ?_
  refine n_X2_399 (pc := 143) hk (fun r h => ctX2_common (fl y) (fK y) hk.2.2.2.2.2.2.2.1 l2 (l2 + l4) w r h) ⟨Nat.le_of_ble_eq_true rfl, Nat.le_of_ble_eq_true rfl⟩ (Nat.le_of_ble_eq_true rfl) dX2_left_143 (fun r1 => ?_)
  refine V_ldiv (pc := 146) hk dX2_left_146 (fun v2 => ?_)
  exact V_lreturn (pc := 147) hk hR rfl dX2_left_147
theorem eX2_left_p77 {y : Fx (Int64 × Wd)} (hk : OkF y RX2 cX2_left 9 3 89) (hR : RetM y rvJ (some (.long))) {k8 : Wd → (Option Nat) → Int32 → Int64 → Int64 → Int32 → Option (Int64 × Wd)} (h8 : ∀ (w : Wd) (l0 : Option Nat) (l1 : Int32) (l2 : Int64) (l4 : Int64) (l6 : Int32), V y w [(0, va_rf l0), (1, .int l1), (2, .long l2), (4, .long l4), (6, .int l6)] [] 8 (k8 w l0 l1 l2 l4 l6)) (w : Wd) (l0 : Option Nat) (l1 : Int32) (l4 : Int64) (l6 : Int32) (l7 : Int32) (l8 : Int32) (t0 : Int64) (t1 : Int64) : V y w [(0, va_rf l0), (1, .int l1), (4, .long l4), (6, .int l6), (7, .int l7), (8, .int l8)] [.long t0, .long t1] 77 (mX2_left_p77 k8 w l0 l1 l4 l6 l7 l8 t0 t1) := by
  unfold mX2_left_p77
  refine V_lmul (pc := 77) hk dX2_left_77 ?_
  refine V_lstore_n (pc := 78) (lc' := [(2, .long (t1 * t0)), (0, va_rf l0), (1, .int l1), (4, .long l4), (6, .int l6), (7, .int l7), (8, .int l8)]) (i := 2) hk dX2_left_78 rfl (Nat.le_of_ble_eq_true rfl) rfl ?_
  refine V_lload (pc := 79) hk dX2_left_79 3 rfl ?_
  refine V_iload (pc := 81) hk dX2_left_81 6 rfl ?_
  refine V_if_eq (pc := 83) (tgt := 95) hk dX2_left_83 rfl ?_ ?_
  · refine V_iload (pc := 95) hk dX2_left_95 5 rfl ?_
    refine V_i2l (pc := 97) hk dX2_left_97 ?_
    refine V_lmul (pc := 98) hk dX2_left_98 ?_
    refine V_nmJ (fun x1 => ?_)
    refine V_lstore (pc := 99) (lc' := [(4, .long x1), (2, .long (t1 * t0)), (0, va_rf l0), (1, .int l1), (6, .int l6), (7, .int l7), (8, .int l8)]) (i := 4) hk dX2_left_99 (Nat.le_of_ble_eq_true rfl) rfl ?_
    refine V_iinc (pc := 101) (v := 1) (lc' := [(6, .int (l6 + 1)), (4, .long x1), (2, .long (t1 * t0)), (0, va_rf l0), (1, .int l1), (7, .int l7), (8, .int l8)]) hk dX2_left_101 4 rfl rfl (Nat.le_of_ble_eq_true rfl) rfl ?_
    refine V_goto (pc := 104) (tgt := 8) hk dX2_left_104 rfl ?_
    refine V_pick (lc' := [(0, va_rf l0), (1, .int l1), (2, .long (t1 * t0)), (4, .long x1), (6, .int (l6 + 1))]) [3, 4, 2, 1, 0] rfl ?_
    exact h8 w l0 l1 (t1 * t0) x1 (l6 + 1)
  · refine V_bipush (pc := 86) (v := 10) hk dX2_left_86 rfl ?_
    refine V_iload (pc := 88) hk dX2_left_88 5 rfl ?_
    refine V_isub (pc := 90) hk dX2_left_90 ?_
    refine V_i2l (pc := 91) hk dX2_left_91 ?_
    refine V_goto (pc := 92) (tgt := 98) hk dX2_left_92 rfl ?_
    refine V_lmul (pc := 98) hk dX2_left_98 ?_
    refine V_nmJ (fun x2 => ?_)
    refine V_lstore (pc := 99) (lc' := [(4, .long x2), (2, .long (t1 * t0)), (0, va_rf l0), (1, .int l1), (6, .int l6), (7, .int l7), (8, .int l8)]) (i := 4) hk dX2_left_99 (Nat.le_of_ble_eq_true rfl) rfl ?_
    refine V_iinc (pc := 101) (v := 1) (lc' := [(6, .int (l6 + 1)), (4, .long x2), (2, .long (t1 * t0)), (0, va_rf l0), (1, .int l1), (7, .int l7), (8, .int l8)]) hk dX2_left_101 4 rfl rfl (Nat.le_of_ble_eq_true rfl) rfl ?_
    refine V_goto (pc := 104) (tgt := 8) hk dX2_left_104 rfl ?_
    refine V_pick (lc' := [(0, va_rf l0), (1, .int l1), (2, .long (t1 * t0)), (4, .long x2), (6, .int (l6 + 1))]) [3, 4, 2, 1, 0] rfl ?_
    exact h8 w l0 l1 (t1 * t0) x2 (l6 + 1)
theorem eX2_left_p57 {y : Fx (Int64 × Wd)} (hk : OkF y RX2 cX2_left 9 3 89) (hR : RetM y rvJ (some (.long))) {k8 : Wd → (Option Nat) → Int32 → Int64 → Int64 → Int32 → Option (Int64 × Wd)} (h8 : ∀ (w : Wd) (l0 : Option Nat) (l1 : Int32) (l2 : Int64) (l4 : Int64) (l6 : Int32), V y w [(0, va_rf l0), (1, .int l1), (2, .long l2), (4, .long l4), (6, .int l6)] [] 8 (k8 w l0 l1 l2 l4 l6)) (w : Wd) (l0 : Option Nat) (l1 : Int32) (l2 : Int64) (l4 : Int64) (l6 : Int32) (l7 : Int32) (t0 : Int32) : V y w [(0, va_rf l0), (1, .int l1), (2, .long l2), (4, .long l4), (6, .int l6), (7, .int l7)] [.int t0] 57 (mX2_left_p57 k8 w l0 l1 l2 l4 l6 l7 t0) := by
  unfold mX2_left_p57
  refine V_istore (pc := 57) (lc' := [(8, .int t0), (0, va_rf l0), (1, .int l1), (2, .long l2), (4, .long l4), (6, .int l6), (7, .int l7)]) (i := 8) hk dX2_left_57 (Nat.le_of_ble_eq_true rfl) rfl ?_
  refine V_lload_n (pc := 59) hk dX2_left_59 3 rfl ?_
  refine V_iload (pc := 60) hk dX2_left_60 0 rfl ?_
  refine V_if_eq (pc := 62) (tgt := 71) hk dX2_left_62 rfl ?_ ?_
  · refine V_bipush (pc := 71) (v := 10) hk dX2_left_71 rfl ?_
    refine V_iload (pc := 73) hk dX2_left_73 6 rfl ?_
    refine V_isub (pc := 75) hk dX2_left_75 ?_
    refine V_i2l (pc := 76) hk dX2_left_76 ?_
    refine V_pick (lc' := [(0, va_rf l0), (1, .int l1), (4, .long l4), (6, .int l6), (7, .int l7), (8, .int t0)]) [1, 2, 4, 5, 6, 0] rfl ?_
    exact eX2_left_p77 hk hR h8 w l0 l1 l4 l6 l7 t0 (((10 - l7) : Int32).toInt64) l2
  · refine V_iload (pc := 65) hk dX2_left_65 6 rfl ?_
    refine V_i2l (pc := 67) hk dX2_left_67 ?_
    refine V_goto (pc := 68) (tgt := 77) hk dX2_left_68 rfl ?_
    refine V_pick (lc' := [(0, va_rf l0), (1, .int l1), (4, .long l4), (6, .int l6), (7, .int l7), (8, .int t0)]) [1, 2, 4, 5, 6, 0] rfl ?_
    exact eX2_left_p77 hk hR h8 w l0 l1 l4 l6 l7 t0 ((l7 : Int32).toInt64) l2
theorem eX2_left_b8 {y : Fx (Int64 × Wd)} (hk : OkF y RX2 cX2_left 9 3 89) (hR : RetM y rvJ (some (.long))) {k8 : Wd → (Option Nat) → Int32 → Int64 → Int64 → Int32 → Option (Int64 × Wd)} (h8 : ∀ (w : Wd) (l0 : Option Nat) (l1 : Int32) (l2 : Int64) (l4 : Int64) (l6 : Int32), V y w [(0, va_rf l0), (1, .int l1), (2, .long l2), (4, .long l4), (6, .int l6)] [] 8 (k8 w l0 l1 l2 l4 l6)) (w : Wd) (l0 : Option Nat) (l1 : Int32) (l2 : Int64) (l4 : Int64) (l6 : Int32) : V y w [(0, va_rf l0), (1, .int l1), (2, .long l2), (4, .long l4), (6, .int l6)] [] 8 (mX2_left_b8 k8 w l0 l1 l2 l4 l6) := by
  unfold mX2_left_b8
  refine V_iload (pc := 8) hk dX2_left_8 4 rfl ?_
  refine V_aload_n (pc := 10) hk dX2_left_10 0 rfl ?_
  refine g_X2_7 (pc := 11) hk dX2_left_11 (fun v1 => ?_)
  refine V_bipush (pc := 14) (v := 6) hk dX2_left_14 rfl ?_
  refine V_iaload (pc := 16) hk dX2_left_16 (fun v2 => ?_)
  refine V_icmp_ge (pc := 17) (tgt := 107) hk dX2_left_17 rfl ?_ ?_
  · refine V_lload_n (pc := 107) hk dX2_left_107 2 rfl ?_
    refine V_lload (pc := 108) hk dX2_left_108 3 rfl ?_
    refine V_ladd (pc := 110) hk dX2_left_110 ?_
    refine V_lconst (pc := 111) (v := 0) hk dX2_left_111 rfl ?_
    refine V_lcmp (pc := 112) hk dX2_left_112 ?_
    refine V_if_ne (pc := 113) (tgt := 126) hk dX2_left_113 rfl ?_ ?_
    · refine V_iload_n (pc := 126) hk dX2_left_126 1 rfl ?_
      refine V_if_eq (pc := 127) (tgt := 137) hk dX2_left_127 rfl ?_ ?_
      · refine V_lload_n (pc := 137) hk dX2_left_137 2 rfl ?_
        refine V_pick (lc' := [(2, .long l2), (4, .long l4)]) [2, 3] rfl ?_
        exact eX2_left_p138 hk hR w l2 l4 l2
      · refine V_lload_n (pc := 130) hk dX2_left_130 2 rfl ?_
        refine V_lload (pc := 131) hk dX2_left_131 3 rfl ?_
        refine V_ladd (pc := 133) hk dX2_left_133 ?_
        refine V_goto (pc := 134) (tgt := 138) hk dX2_left_134 rfl ?_
        refine V_pick (lc' := [(2, .long l2), (4, .long l4)]) [2, 3] rfl ?_
        exact eX2_left_p138 hk hR w l2 l4 (l2 + l4)
    · refine V_iload_n (pc := 116) hk dX2_left_116 1 rfl ?_
      refine V_if_eq (pc := 117) (tgt := 124) hk dX2_left_117 rfl ?_ ?_
      · refine V_lconst (pc := 124) (v := 0) hk dX2_left_124 rfl ?_
        exact V_lreturn (pc := 125) hk hR rfl dX2_left_125
      · refine V_lconst (pc := 120) (v := 1) hk dX2_left_120 rfl ?_
        refine V_goto (pc := 121) (tgt := 125) hk dX2_left_121 rfl ?_
        exact V_lreturn (pc := 125) hk hR rfl dX2_left_125
  · refine V_aload_n (pc := 20) hk dX2_left_20 0 rfl ?_
    refine g_X2_7 (pc := 21) hk dX2_left_21 (fun v3 => ?_)
    refine V_bipush (pc := 24) (v := 68) hk dX2_left_24 rfl ?_
    refine V_iconst (pc := 26) (v := 2) hk dX2_left_26 rfl ?_
    refine V_iload (pc := 27) hk dX2_left_27 4 rfl ?_
    refine V_imul (pc := 29) hk dX2_left_29 ?_
    refine V_iadd (pc := 30) hk dX2_left_30 ?_
    refine V_iaload (pc := 31) hk dX2_left_31 (fun v4 => ?_)
    refine V_istore (pc := 32) (lc' := [(7, .int v4), (0, va_rf l0), (1, .int l1), (2, .long l2), (4, .long l4), (6, .int l6)]) (i := 7) hk dX2_left_32 (Nat.le_of_ble_eq_true rfl) rfl ?_
    refine V_aload_n (pc := 34) hk dX2_left_34 1 rfl ?_
    refine g_X2_7 (pc := 35) hk dX2_left_35 (fun v5 => ?_)
    refine V_bipush (pc := 38) (v := 68) hk dX2_left_38 rfl ?_
    refine V_iconst (pc := 40) (v := 2) hk dX2_left_40 rfl ?_
    refine V_iload (pc := 41) hk dX2_left_41 5 rfl ?_
    refine V_imul (pc := 43) hk dX2_left_43 ?_
    refine V_iadd (pc := 44) hk dX2_left_44 ?_
    refine V_iconst (pc := 45) (v := 1) hk dX2_left_45 rfl ?_
    refine V_iadd (pc := 46) hk dX2_left_46 ?_
    refine V_iaload (pc := 47) hk dX2_left_47 (fun v6 => ?_)
    refine V_iconst (pc := 48) (v := 1) hk dX2_left_48 rfl ?_
    refine V_icmp_ne (pc := 49) (tgt := 56) hk dX2_left_49 rfl ?_ ?_
    · refine V_iconst (pc := 56) (v := 0) hk dX2_left_56 rfl ?_
      refine V_pick (lc' := [(0, va_rf l0), (1, .int l1), (2, .long l2), (4, .long l4), (6, .int l6), (7, .int v4)]) [1, 2, 3, 4, 5, 0] rfl ?_
      exact eX2_left_p57 hk hR h8 w l0 l1 l2 l4 l6 v4 0
    · refine V_iconst (pc := 52) (v := 1) hk dX2_left_52 rfl ?_
      refine V_goto (pc := 53) (tgt := 57) hk dX2_left_53 rfl ?_
      refine V_pick (lc' := [(0, va_rf l0), (1, .int l1), (2, .long l2), (4, .long l4), (6, .int l6), (7, .int v4)]) [1, 2, 3, 4, 5, 0] rfl ?_
      exact eX2_left_p57 hk hR h8 w l0 l1 l2 l4 l6 v4 1
theorem eX2_left_l8 {y : Fx (Int64 × Wd)} (hk : OkF y RX2 cX2_left 9 3 89) (hR : RetM y rvJ (some (.long))) : ∀ (n : Nat) (w : Wd) (l0 : Option Nat) (l1 : Int32) (l2 : Int64) (l4 : Int64) (l6 : Int32), V y w [(0, va_rf l0), (1, .int l1), (2, .long l2), (4, .long l4), (6, .int l6)] [] 8 (mX2_left_l8 n w l0 l1 l2 l4 l6) := by
  intro n
  induction n with
  | zero => intro w l0 l1 l2 l4 l6; exact V_none
  | succ n ih => intro w l0 l1 l2 l4 l6; exact eX2_left_b8 hk hR ih w l0 l1 l2 l4 l6
theorem eX2_left {y : Fx (Int64 × Wd)} (hk : OkF y RX2 cX2_left 9 3 89) (hR : RetM y rvJ (some (.long))) (this : Nat) (a0 : Int32) (w : Wd) : V y w [(0, va_rf (some this)), (1, .int a0)] [] 0 (mX2_left this a0 w) := by
  unfold mX2_left
  refine V_lconst (pc := 0) (v := 1) hk dX2_left_0 rfl ?_
  refine V_lstore_n (pc := 1) (lc' := [(2, .long 1), (0, va_rf ((some this))), (1, .int a0)]) (i := 2) hk dX2_left_1 rfl (Nat.le_of_ble_eq_true rfl) rfl ?_
  refine V_lconst (pc := 2) (v := 1) hk dX2_left_2 rfl ?_
  refine V_lstore (pc := 3) (lc' := [(4, .long 1), (2, .long 1), (0, va_rf ((some this))), (1, .int a0)]) (i := 4) hk dX2_left_3 (Nat.le_of_ble_eq_true rfl) rfl ?_
  refine V_iconst (pc := 5) (v := 0) hk dX2_left_5 rfl ?_
  refine V_istore (pc := 6) (lc' := [(6, .int 0), (4, .long 1), (2, .long 1), (0, va_rf ((some this))), (1, .int a0)]) (i := 6) hk dX2_left_6 (Nat.le_of_ble_eq_true rfl) rfl ?_
  refine V_pick (lc' := [(0, va_rf ((some this))), (1, .int a0), (2, .long 1), (4, .long 1), (6, .int 0)]) [3, 4, 2, 1, 0] rfl ?_
  exact eX2_left_l8 hk hR FU w ((some this)) a0 1 1 0
theorem ctX2_left (l : Launch) (K : Kx) (hI : Ini K) (b : Nat) (a0 : Int32) (w : Wd) : ∀ r, mX2_left b a0 w = some r → Ct l K 3 89 yX2_left (ws_ yX2_left cX2_left 9 (some (.long))) [.ref b, .int a0] w (rvJ r.1) r.2 := Ct_of rvJ l K hI 3 89 [.ref b, .int a0] w (by decide) (lc0 := [(0, .ref b), (1, .int a0)]) rfl (Nat.le_of_ble_eq_true rfl) (fun y hk hR _ _ hin => eX2_left hk hR b a0 w)
noncomputable def mX2_shown (this : Nat) (w : Wd) : Option (Int32 × Wd) :=
(gR w ((some this)) 2 0).bind fun v1 =>
(ia w v1 7).bind fun v2 =>
if 20 ≤ v2 then (
some (20, w))
else (
(gR w ((some this)) 2 0).bind fun v3 =>
(ia w v3 7).bind fun v4 =>
some (v4, w))
theorem eX2_shown {y : Fx (Int32 × Wd)} (hk : OkF y RX2 cX2_shown 1 2 60) (hR : RetM y rvI (some (.int))) (this : Nat) (w : Wd) : V y w [(0, va_rf (some this))] [] 0 (mX2_shown this w) := by
  unfold mX2_shown
  refine V_aload_n (pc := 0) hk dX2_shown_0 0 rfl ?_
  refine g_X2_7 (pc := 1) hk dX2_shown_1 (fun v1 => ?_)
  refine V_bipush (pc := 4) (v := 7) hk dX2_shown_4 rfl ?_
  refine V_iaload (pc := 6) hk dX2_shown_6 (fun v2 => ?_)
  refine V_bipush (pc := 7) (v := 20) hk dX2_shown_7 rfl ?_
  refine V_icmp_ge (pc := 9) (tgt := 22) hk dX2_shown_9 rfl ?_ ?_
  · refine V_bipush (pc := 22) (v := 20) hk dX2_shown_22 rfl ?_
    exact V_ireturn (pc := 24) hk hR rfl dX2_shown_24
  · refine V_aload_n (pc := 12) hk dX2_shown_12 0 rfl ?_
    refine g_X2_7 (pc := 13) hk dX2_shown_13 (fun v3 => ?_)
    refine V_bipush (pc := 16) (v := 7) hk dX2_shown_16 rfl ?_
    refine V_iaload (pc := 18) hk dX2_shown_18 (fun v4 => ?_)
    refine V_goto (pc := 19) (tgt := 24) hk dX2_shown_19 rfl ?_
    exact V_ireturn (pc := 24) hk hR rfl dX2_shown_24
theorem ctX2_shown (l : Launch) (K : Kx) (hI : Ini K) (b : Nat) (w : Wd) : ∀ r, mX2_shown b w = some r → Ct l K 2 60 yX2_shown (ws_ yX2_shown cX2_shown 1 (some (.int))) [.ref b] w (rvI r.1) r.2 := Ct_of rvI l K hI 2 60 [.ref b] w (by decide) (lc0 := [(0, .ref b)]) rfl (Nat.le_of_ble_eq_true rfl) (fun y hk hR _ _ hin => eX2_shown hk hR b w)
noncomputable def mX2_downOf (this : Nat) (a0 : Int32) (a1 : Int32) (w : Wd) : Option (Int32 × Wd) :=
(gR w ((some this)) 2 0).bind fun v1 =>
(gR w ((some this)) 2 0).bind fun v2 =>
(ia w v2 7).bind fun v3 =>
(recv w ((some this)) 2).bind fun b5 => (cal w (mX2_shown b5 w)).bind fun r4 =>
(irm ((v3 - r4.1) + a0) 64).bind fun v6 =>
(ia r4.2 v1 ((474 + (2 * v6)) + a1)).bind fun v7 =>
some (v7, r4.2)
theorem eX2_downOf {y : Fx (Int32 × Wd)} (hk : OkF y RX2 cX2_downOf 3 3 80) (hR : RetM y rvI (some (.int))) (this : Nat) (a0 : Int32) (a1 : Int32) (w : Wd) : V y w [(0, va_rf (some this)), (1, .int a0), (2, .int a1)] [] 0 (mX2_downOf this a0 a1 w) := by
  unfold mX2_downOf
  refine V_aload_n (pc := 0) hk dX2_downOf_0 0 rfl ?_
  refine g_X2_7 (pc := 1) hk dX2_downOf_1 (fun v1 => ?_)
  refine V_sipush (pc := 4) (v := 474) hk dX2_downOf_4 rfl ?_
  refine V_iconst (pc := 7) (v := 2) hk dX2_downOf_7 rfl ?_
  refine V_aload_n (pc := 8) hk dX2_downOf_8 0 rfl ?_
  refine g_X2_7 (pc := 9) hk dX2_downOf_9 (fun v2 => ?_)
  refine V_bipush (pc := 12) (v := 7) hk dX2_downOf_12 rfl ?_
  refine V_iaload (pc := 14) hk dX2_downOf_14 (fun v3 => ?_)
  refine V_aload_n (pc := 15) hk dX2_downOf_15 0 rfl ?_
  refine n_X2_463 (pc := 16) hk (fun b r h => ctX2_shown (fl y) (fK y) hk.2.2.2.2.2.2.2.1 b w r h) ⟨Nat.le_of_ble_eq_true rfl, Nat.le_of_ble_eq_true rfl⟩ (by simp [rf_cat, cat_int, cat_long, cat_ref]) dX2_downOf_16 (fun r4 => ?_)
  refine V_isub (pc := 19) hk dX2_downOf_19 ?_
  refine V_iload_n (pc := 20) hk dX2_downOf_20 1 rfl ?_
  refine V_iadd (pc := 21) hk dX2_downOf_21 ?_
  refine V_bipush (pc := 22) (v := 64) hk dX2_downOf_22 rfl ?_
  refine V_irem (pc := 24) hk dX2_downOf_24 (fun v6 => ?_)
  refine V_imul (pc := 25) hk dX2_downOf_25 ?_
  refine V_iadd (pc := 26) hk dX2_downOf_26 ?_
  refine V_iload_n (pc := 27) hk dX2_downOf_27 2 rfl ?_
  refine V_iadd (pc := 28) hk dX2_downOf_28 ?_
  refine V_iaload (pc := 29) hk dX2_downOf_29 (fun v7 => ?_)
  exact V_ireturn (pc := 30) hk hR rfl dX2_downOf_30
theorem ctX2_downOf (l : Launch) (K : Kx) (hI : Ini K) (b : Nat) (a0 : Int32) (a1 : Int32) (w : Wd) : ∀ r, mX2_downOf b a0 a1 w = some r → Ct l K 3 80 yX2_downOf (ws_ yX2_downOf cX2_downOf 3 (some (.int))) [.ref b, .int a0, .int a1] w (rvI r.1) r.2 := Ct_of rvI l K hI 3 80 [.ref b, .int a0, .int a1] w (by decide) (lc0 := [(0, .ref b), (1, .int a0), (2, .int a1)]) rfl (Nat.le_of_ble_eq_true rfl) (fun y hk hR _ _ hin => eX2_downOf hk hR b a0 a1 w)
noncomputable def mX2_landed (this : Nat) (a0 : Int32) (a1 : Int32) (w : Wd) : Option (Int32 × Wd) :=
if ¬ a0 = (-1) then (
(recv w ((some this)) 2).bind fun b2 => (cal w (mX2_shown b2 w)).bind fun r1 =>
(cal r1.2 (mX2_isIn a0 0 (r1.1 - 1) r1.2)).bind fun r3 =>
if r3.1 = 0 then (
some ((-2), r3.2))
else (
(cal r3.2 (mX2_isIn a1 0 1 r3.2)).bind fun r4 =>
if r4.1 = 0 then (
some ((-2), r4.2))
else (
(recv r4.2 ((some this)) 2).bind fun b6 => (cal r4.2 (mX2_downOf b6 a0 a1 r4.2)).bind fun r5 =>
some (r5.1, r5.2))))
else (
(recv w ((some this)) 2).bind fun b8 => (cal w (mX2_shown b8 w)).bind fun r7 =>
some (r7.1, r7.2))
theorem eX2_landed {y : Fx (Int32 × Wd)} (hk : OkF y RX2 cX2_landed 3 4 102) (hR : RetM y rvI (some (.int))) (this : Nat) (a0 : Int32) (a1 : Int32) (w : Wd) : V y w [(0, va_rf (some this)), (1, .int a0), (2, .int a1)] [] 0 (mX2_landed this a0 a1 w) := by
  unfold mX2_landed
  refine V_iload_n (pc := 0) hk dX2_landed_0 1 rfl ?_
  refine V_iconst (pc := 1) (v := (-1)) hk dX2_landed_1 (by decide +kernel) ?_
  refine V_icmp_ne (pc := 2) (tgt := 10) hk dX2_landed_2 rfl ?_ ?_
  · refine V_iload_n (pc := 10) hk dX2_landed_10 1 rfl ?_
    refine V_iconst (pc := 11) (v := 0) hk dX2_landed_11 rfl ?_
    refine V_aload_n (pc := 12) hk dX2_landed_12 0 rfl ?_
    refine n_X2_463 (pc := 13) hk (fun b r h => ctX2_shown (fl y) (fK y) hk.2.2.2.2.2.2.2.1 b w r h) ⟨Nat.le_of_ble_eq_true rfl, Nat.le_of_ble_eq_true rfl⟩ (Nat.le_of_ble_eq_true rfl) dX2_landed_13 (fun r1 => ?_)
    refine V_iconst (pc := 16) (v := 1) hk dX2_landed_16 rfl ?_
    refine V_isub (pc := 17) hk dX2_landed_17 ?_
    refine n_X2_71 (pc := 18) hk (fun r h => ctX2_isIn (fl y) (fK y) hk.2.2.2.2.2.2.2.1 a0 0 (r1.1 - 1) r1.2 r h) ⟨Nat.le_of_ble_eq_true rfl, Nat.le_of_ble_eq_true rfl⟩ (Nat.le_of_ble_eq_true rfl) dX2_landed_18 (fun r3 => ?_)
    refine V_if_eq (pc := 21) (tgt := 42) hk dX2_landed_21 rfl ?_ ?_
    · refine V_bipush (pc := 42) (v := (-2)) hk dX2_landed_42 (by decide +kernel) ?_
      exact V_ireturn (pc := 44) hk hR rfl dX2_landed_44
    · refine V_iload_n (pc := 24) hk dX2_landed_24 2 rfl ?_
      refine V_iconst (pc := 25) (v := 0) hk dX2_landed_25 rfl ?_
      refine V_iconst (pc := 26) (v := 1) hk dX2_landed_26 rfl ?_
      refine n_X2_71 (pc := 27) hk (fun r h => ctX2_isIn (fl y) (fK y) hk.2.2.2.2.2.2.2.1 a1 0 1 r3.2 r h) ⟨Nat.le_of_ble_eq_true rfl, Nat.le_of_ble_eq_true rfl⟩ (Nat.le_of_ble_eq_true rfl) dX2_landed_27 (fun r4 => ?_)
      refine V_if_eq (pc := 30) (tgt := 42) hk dX2_landed_30 rfl ?_ ?_
      · refine V_bipush (pc := 42) (v := (-2)) hk dX2_landed_42 (by decide +kernel) ?_
        exact V_ireturn (pc := 44) hk hR rfl dX2_landed_44
      · refine V_aload_n (pc := 33) hk dX2_landed_33 0 rfl ?_
        refine V_iload_n (pc := 34) hk dX2_landed_34 1 rfl ?_
        refine V_iload_n (pc := 35) hk dX2_landed_35 2 rfl ?_
        refine n_X2_466 (pc := 36) hk (fun b r h => ctX2_downOf (fl y) (fK y) hk.2.2.2.2.2.2.2.1 b a0 a1 r4.2 r h) ⟨Nat.le_of_ble_eq_true rfl, Nat.le_of_ble_eq_true rfl⟩ (Nat.le_of_ble_eq_true rfl) dX2_landed_36 (fun r5 => ?_)
        refine V_goto (pc := 39) (tgt := 44) hk dX2_landed_39 rfl ?_
        exact V_ireturn (pc := 44) hk hR rfl dX2_landed_44
  · refine V_aload_n (pc := 5) hk dX2_landed_5 0 rfl ?_
    refine n_X2_463 (pc := 6) hk (fun b r h => ctX2_shown (fl y) (fK y) hk.2.2.2.2.2.2.2.1 b w r h) ⟨Nat.le_of_ble_eq_true rfl, Nat.le_of_ble_eq_true rfl⟩ (Nat.le_of_ble_eq_true rfl) dX2_landed_6 (fun r7 => ?_)
    exact V_ireturn (pc := 9) hk hR rfl dX2_landed_9
theorem ctX2_landed (l : Launch) (K : Kx) (hI : Ini K) (b : Nat) (a0 : Int32) (a1 : Int32) (w : Wd) : ∀ r, mX2_landed b a0 a1 w = some r → Ct l K 4 102 yX2_landed (ws_ yX2_landed cX2_landed 3 (some (.int))) [.ref b, .int a0, .int a1] w (rvI r.1) r.2 := Ct_of rvI l K hI 4 102 [.ref b, .int a0, .int a1] w (by decide) (lc0 := [(0, .ref b), (1, .int a0), (2, .int a1)]) rfl (Nat.le_of_ble_eq_true rfl) (fun y hk hR _ _ hin => eX2_landed hk hR b a0 a1 w)
noncomputable def mX2_hour_b17 (k17 : Wd → (Option Nat) → Int32 → Int32 → Int32 → Option (Int32 × Wd)) (w : Wd) (l0 : Option Nat) (l1 : Int32) (l2 : Int32) (l3 : Int32) : Option (Int32 × Wd) :=
(recv w l0 2).bind fun b2 => (cal w (mX2_shown b2 w)).bind fun r1 =>
if r1.1 ≤ l3 then (
some (l2, r1.2))
else (
(recv r1.2 l0 2).bind fun b4 => (cal r1.2 (mX2_downOf b4 l3 1 r1.2)).bind fun r3 =>
(gR r3.2 l0 2 0).bind fun v5 =>
(ia r3.2 v5 16).bind fun v6 =>
if r3.1 ≤ (v6 - l1) then (
k17 r3.2 l0 l1 (l2 + 0) (l3 + 1))
else (
k17 r3.2 l0 l1 (l2 + 1) (l3 + 1)))
noncomputable def mX2_hour_l17 : Nat → Wd → (Option Nat) → Int32 → Int32 → Int32 → Option (Int32 × Wd)
  | 0, _, _, _, _, _ => none
  | n + 1, w, l0, l1, l2, l3 => mX2_hour_b17 (mX2_hour_l17 n) w l0 l1 l2 l3
noncomputable def mX2_hour (this : Nat) (a0 : Int32) (w : Wd) : Option (Int32 × Wd) :=
(cal w (mX2_isIn a0 1 9999 w)).bind fun r1 =>
if ¬ r1.1 = 0 then (
mX2_hour_l17 FU r1.2 ((some this)) a0 0 0)
else (
some ((-1), r1.2))
theorem eX2_hour_b17 {y : Fx (Int32 × Wd)} (hk : OkF y RX2 cX2_hour 4 4 102) (hR : RetM y rvI (some (.int))) {k17 : Wd → (Option Nat) → Int32 → Int32 → Int32 → Option (Int32 × Wd)} (h17 : ∀ (w : Wd) (l0 : Option Nat) (l1 : Int32) (l2 : Int32) (l3 : Int32), V y w [(0, va_rf l0), (1, .int l1), (2, .int l2), (3, .int l3)] [] 17 (k17 w l0 l1 l2 l3)) (w : Wd) (l0 : Option Nat) (l1 : Int32) (l2 : Int32) (l3 : Int32) : V y w [(0, va_rf l0), (1, .int l1), (2, .int l2), (3, .int l3)] [] 17 (mX2_hour_b17 k17 w l0 l1 l2 l3) := by
  unfold mX2_hour_b17
  refine V_iload_n (pc := 17) hk dX2_hour_17 3 rfl ?_
  refine V_aload_n (pc := 18) hk dX2_hour_18 0 rfl ?_
  refine n_X2_463 (pc := 19) hk (fun b r h => ctX2_shown (fl y) (fK y) hk.2.2.2.2.2.2.2.1 b w r h) ⟨Nat.le_of_ble_eq_true rfl, Nat.le_of_ble_eq_true rfl⟩ (Nat.le_of_ble_eq_true rfl) dX2_hour_19 (fun r1 => ?_)
  refine V_icmp_ge (pc := 22) (tgt := 57) hk dX2_hour_22 rfl ?_ ?_
  · refine V_iload_n (pc := 57) hk dX2_hour_57 2 rfl ?_
    exact V_ireturn (pc := 58) hk hR rfl dX2_hour_58
  · refine V_iload_n (pc := 25) hk dX2_hour_25 2 rfl ?_
    refine V_aload_n (pc := 26) hk dX2_hour_26 0 rfl ?_
    refine V_iload_n (pc := 27) hk dX2_hour_27 3 rfl ?_
    refine V_iconst (pc := 28) (v := 1) hk dX2_hour_28 rfl ?_
    refine n_X2_466 (pc := 29) hk (fun b r h => ctX2_downOf (fl y) (fK y) hk.2.2.2.2.2.2.2.1 b l3 1 r1.2 r h) ⟨Nat.le_of_ble_eq_true rfl, Nat.le_of_ble_eq_true rfl⟩ (Nat.le_of_ble_eq_true rfl) dX2_hour_29 (fun r3 => ?_)
    refine V_aload_n (pc := 32) hk dX2_hour_32 0 rfl ?_
    refine g_X2_7 (pc := 33) hk dX2_hour_33 (fun v5 => ?_)
    refine V_bipush (pc := 36) (v := 16) hk dX2_hour_36 rfl ?_
    refine V_iaload (pc := 38) hk dX2_hour_38 (fun v6 => ?_)
    refine V_iload_n (pc := 39) hk dX2_hour_39 1 rfl ?_
    refine V_isub (pc := 40) hk dX2_hour_40 ?_
    refine V_icmp_le (pc := 41) (tgt := 48) hk dX2_hour_41 rfl ?_ ?_
    · refine V_iconst (pc := 48) (v := 0) hk dX2_hour_48 rfl ?_
      refine V_iadd (pc := 49) hk dX2_hour_49 ?_
      refine V_istore_n (pc := 50) (lc' := [(2, .int (l2 + 0)), (0, va_rf l0), (1, .int l1), (3, .int l3)]) (i := 2) hk dX2_hour_50 rfl (Nat.le_of_ble_eq_true rfl) rfl ?_
      refine V_iinc (pc := 51) (v := 1) (lc' := [(3, .int (l3 + 1)), (2, .int (l2 + 0)), (0, va_rf l0), (1, .int l1)]) hk dX2_hour_51 3 rfl rfl (Nat.le_of_ble_eq_true rfl) rfl ?_
      refine V_goto (pc := 54) (tgt := 17) hk dX2_hour_54 rfl ?_
      refine V_pick (lc' := [(0, va_rf l0), (1, .int l1), (2, .int (l2 + 0)), (3, .int (l3 + 1))]) [2, 3, 1, 0] rfl ?_
      exact h17 r3.2 l0 l1 (l2 + 0) (l3 + 1)
    · refine V_iconst (pc := 44) (v := 1) hk dX2_hour_44 rfl ?_
      refine V_goto (pc := 45) (tgt := 49) hk dX2_hour_45 rfl ?_
      refine V_iadd (pc := 49) hk dX2_hour_49 ?_
      refine V_istore_n (pc := 50) (lc' := [(2, .int (l2 + 1)), (0, va_rf l0), (1, .int l1), (3, .int l3)]) (i := 2) hk dX2_hour_50 rfl (Nat.le_of_ble_eq_true rfl) rfl ?_
      refine V_iinc (pc := 51) (v := 1) (lc' := [(3, .int (l3 + 1)), (2, .int (l2 + 1)), (0, va_rf l0), (1, .int l1)]) hk dX2_hour_51 3 rfl rfl (Nat.le_of_ble_eq_true rfl) rfl ?_
      refine V_goto (pc := 54) (tgt := 17) hk dX2_hour_54 rfl ?_
      refine V_pick (lc' := [(0, va_rf l0), (1, .int l1), (2, .int (l2 + 1)), (3, .int (l3 + 1))]) [2, 3, 1, 0] rfl ?_
      exact h17 r3.2 l0 l1 (l2 + 1) (l3 + 1)
theorem eX2_hour_l17 {y : Fx (Int32 × Wd)} (hk : OkF y RX2 cX2_hour 4 4 102) (hR : RetM y rvI (some (.int))) : ∀ (n : Nat) (w : Wd) (l0 : Option Nat) (l1 : Int32) (l2 : Int32) (l3 : Int32), V y w [(0, va_rf l0), (1, .int l1), (2, .int l2), (3, .int l3)] [] 17 (mX2_hour_l17 n w l0 l1 l2 l3) := by
  intro n
  induction n with
  | zero => intro w l0 l1 l2 l3; exact V_none
  | succ n ih => intro w l0 l1 l2 l3; exact eX2_hour_b17 hk hR ih w l0 l1 l2 l3
theorem eX2_hour {y : Fx (Int32 × Wd)} (hk : OkF y RX2 cX2_hour 4 4 102) (hR : RetM y rvI (some (.int))) (this : Nat) (a0 : Int32) (w : Wd) : V y w [(0, va_rf (some this)), (1, .int a0)] [] 0 (mX2_hour this a0 w) := by
  unfold mX2_hour
  refine V_iload_n (pc := 0) hk dX2_hour_0 1 rfl ?_
  refine V_iconst (pc := 1) (v := 1) hk dX2_hour_1 rfl ?_
  refine V_sipush (pc := 2) (v := 9999) hk dX2_hour_2 rfl ?_
  refine n_X2_71 (pc := 5) hk (fun r h => ctX2_isIn (fl y) (fK y) hk.2.2.2.2.2.2.2.1 a0 1 9999 w r h) ⟨Nat.le_of_ble_eq_true rfl, Nat.le_of_ble_eq_true rfl⟩ (Nat.le_of_ble_eq_true rfl) dX2_hour_5 (fun r1 => ?_)
  refine V_if_ne (pc := 8) (tgt := 13) hk dX2_hour_8 rfl ?_ ?_
  · refine V_iconst (pc := 13) (v := 0) hk dX2_hour_13 rfl ?_
    refine V_istore_n (pc := 14) (lc' := [(2, .int 0), (0, va_rf ((some this))), (1, .int a0)]) (i := 2) hk dX2_hour_14 rfl (Nat.le_of_ble_eq_true rfl) rfl ?_
    refine V_iconst (pc := 15) (v := 0) hk dX2_hour_15 rfl ?_
    refine V_istore_n (pc := 16) (lc' := [(3, .int 0), (2, .int 0), (0, va_rf ((some this))), (1, .int a0)]) (i := 3) hk dX2_hour_16 rfl (Nat.le_of_ble_eq_true rfl) rfl ?_
    refine V_pick (lc' := [(0, va_rf ((some this))), (1, .int a0), (2, .int 0), (3, .int 0)]) [2, 3, 1, 0] rfl ?_
    exact eX2_hour_l17 hk hR FU r1.2 ((some this)) a0 0 0
  · refine V_iconst (pc := 11) (v := (-1)) hk dX2_hour_11 (by decide +kernel) ?_
    exact V_ireturn (pc := 12) hk hR rfl dX2_hour_12
theorem ctX2_hour (l : Launch) (K : Kx) (hI : Ini K) (b : Nat) (a0 : Int32) (w : Wd) : ∀ r, mX2_hour b a0 w = some r → Ct l K 4 102 yX2_hour (ws_ yX2_hour cX2_hour 4 (some (.int))) [.ref b, .int a0] w (rvI r.1) r.2 := Ct_of rvI l K hI 4 102 [.ref b, .int a0] w (by decide) (lc0 := [(0, .ref b), (1, .int a0)]) rfl (Nat.le_of_ble_eq_true rfl) (fun y hk hR _ _ hin => eX2_hour hk hR b a0 w)
noncomputable def mX2_mean_p39 (w : Wd) (l2 : Int32) (l3 : Int64) (t0 : Int64) : Option (Int32 × Wd) :=
(cal w (mX2_common l3 ((l2 : Int32).toInt64) w)).bind fun r1 =>
(ldv t0 r1.1).bind fun v2 =>
some ((v2 : Int64).toInt32, r1.2)
noncomputable def mX2_mean (this : Nat) (a0 : Int32) (w : Wd) : Option (Int32 × Wd) :=
(recv w ((some this)) 2).bind fun b2 => (cal w (mX2_shown b2 w)).bind fun r1 =>
if 1 ≤ (r1.1 - 1) then (
(recv r1.2 ((some this)) 2).bind fun b4 => (cal r1.2 (mX2_downOf b4 (r1.1 - 1) 1 r1.2)).bind fun r3 =>
(recv r3.2 ((some this)) 2).bind fun b6 => (cal r3.2 (mX2_downOf b6 0 1 r3.2)).bind fun r5 =>
(some (((r3.1 - r5.1) : Int32).toInt64)).bind fun (x7 : Int64) =>
if a0 = 0 then (
mX2_mean_p39 r5.2 (r1.1 - 1) x7 x7)
else (
mX2_mean_p39 r5.2 (r1.1 - 1) x7 (((r1.1 - 1) : Int32).toInt64)))
else (
some ((-1), r1.2))
theorem eX2_mean_p39 {y : Fx (Int32 × Wd)} (hk : OkF y RX2 cX2_mean 5 4 102) (hR : RetM y rvI (some (.int))) (w : Wd) (l2 : Int32) (l3 : Int64) (t0 : Int64) : V y w [(2, .int l2), (3, .long l3)] [.long t0] 39 (mX2_mean_p39 w l2 l3 t0) := by
  unfold mX2_mean_p39
  refine V_lload_n (pc := 39) hk dX2_mean_39 1 rfl ?_
  refine V_iload_n (pc := 40) hk dX2_mean_40 0 rfl ?_
  refine V_i2l (pc := 41) hk dX2_mean_41 ?_
  refine n_X2_399 (pc := 42) hk (fun r h => ctX2_common (fl y) (fK y) hk.2.2.2.2.2.2.2.1 l3 ((l2 : Int32).toInt64) w r h) ⟨Nat.le_of_ble_eq_true rfl, Nat.le_of_ble_eq_true rfl⟩ (Nat.le_of_ble_eq_true rfl) dX2_mean_42 (fun r1 => ?_)
  refine V_ldiv (pc := 45) hk dX2_mean_45 (fun v2 => ?_)
  refine V_l2i (pc := 46) hk dX2_mean_46 ?_
  exact V_ireturn (pc := 47) hk hR rfl dX2_mean_47
theorem eX2_mean {y : Fx (Int32 × Wd)} (hk : OkF y RX2 cX2_mean 5 4 102) (hR : RetM y rvI (some (.int))) (this : Nat) (a0 : Int32) (w : Wd) : V y w [(0, va_rf (some this)), (1, .int a0)] [] 0 (mX2_mean this a0 w) := by
  unfold mX2_mean
  refine V_aload_n (pc := 0) hk dX2_mean_0 0 rfl ?_
  refine n_X2_463 (pc := 1) hk (fun b r h => ctX2_shown (fl y) (fK y) hk.2.2.2.2.2.2.2.1 b w r h) ⟨Nat.le_of_ble_eq_true rfl, Nat.le_of_ble_eq_true rfl⟩ (Nat.le_of_ble_eq_true rfl) dX2_mean_1 (fun r1 => ?_)
  refine V_iconst (pc := 4) (v := 1) hk dX2_mean_4 rfl ?_
  refine V_isub (pc := 5) hk dX2_mean_5 ?_
  refine V_istore_n (pc := 6) (lc' := [(2, .int (r1.1 - 1)), (0, va_rf ((some this))), (1, .int a0)]) (i := 2) hk dX2_mean_6 rfl (Nat.le_of_ble_eq_true rfl) rfl ?_
  refine V_iload_n (pc := 7) hk dX2_mean_7 0 rfl ?_
  refine V_iconst (pc := 8) (v := 1) hk dX2_mean_8 rfl ?_
  refine V_icmp_ge (pc := 9) (tgt := 14) hk dX2_mean_9 rfl ?_ ?_
  · refine V_aload_n (pc := 14) hk dX2_mean_14 1 rfl ?_
    refine V_iload_n (pc := 15) hk dX2_mean_15 0 rfl ?_
    refine V_iconst (pc := 16) (v := 1) hk dX2_mean_16 rfl ?_
    refine n_X2_466 (pc := 17) hk (fun b r h => ctX2_downOf (fl y) (fK y) hk.2.2.2.2.2.2.2.1 b (r1.1 - 1) 1 r1.2 r h) ⟨Nat.le_of_ble_eq_true rfl, Nat.le_of_ble_eq_true rfl⟩ (Nat.le_of_ble_eq_true rfl) dX2_mean_17 (fun r3 => ?_)
    refine V_aload_n (pc := 20) hk dX2_mean_20 1 rfl ?_
    refine V_iconst (pc := 21) (v := 0) hk dX2_mean_21 rfl ?_
    refine V_iconst (pc := 22) (v := 1) hk dX2_mean_22 rfl ?_
    refine n_X2_466 (pc := 23) hk (fun b r h => ctX2_downOf (fl y) (fK y) hk.2.2.2.2.2.2.2.1 b 0 1 r3.2 r h) ⟨Nat.le_of_ble_eq_true rfl, Nat.le_of_ble_eq_true rfl⟩ (Nat.le_of_ble_eq_true rfl) dX2_mean_23 (fun r5 => ?_)
    refine V_isub (pc := 26) hk dX2_mean_26 ?_
    refine V_i2l (pc := 27) hk dX2_mean_27 ?_
    refine V_nmJ (fun x7 => ?_)
    refine V_lstore_n (pc := 28) (lc' := [(3, .long x7), (2, .int (r1.1 - 1)), (0, va_rf ((some this))), (1, .int a0)]) (i := 3) hk dX2_mean_28 rfl (Nat.le_of_ble_eq_true rfl) rfl ?_
    refine V_iload_n (pc := 29) hk dX2_mean_29 3 rfl ?_
    refine V_if_eq (pc := 30) (tgt := 38) hk dX2_mean_30 rfl ?_ ?_
    · refine V_lload_n (pc := 38) hk dX2_mean_38 0 rfl ?_
      refine V_pick (lc' := [(2, .int (r1.1 - 1)), (3, .long x7)]) [1, 0] rfl ?_
      exact eX2_mean_p39 hk hR r5.2 (r1.1 - 1) x7 x7
    · refine V_iload_n (pc := 33) hk dX2_mean_33 1 rfl ?_
      refine V_i2l (pc := 34) hk dX2_mean_34 ?_
      refine V_goto (pc := 35) (tgt := 39) hk dX2_mean_35 rfl ?_
      refine V_pick (lc' := [(2, .int (r1.1 - 1)), (3, .long x7)]) [1, 0] rfl ?_
      exact eX2_mean_p39 hk hR r5.2 (r1.1 - 1) x7 (((r1.1 - 1) : Int32).toInt64)
  · refine V_iconst (pc := 12) (v := (-1)) hk dX2_mean_12 (by decide +kernel) ?_
    exact V_ireturn (pc := 13) hk hR rfl dX2_mean_13
theorem ctX2_mean (l : Launch) (K : Kx) (hI : Ini K) (b : Nat) (a0 : Int32) (w : Wd) : ∀ r, mX2_mean b a0 w = some r → Ct l K 4 102 yX2_mean (ws_ yX2_mean cX2_mean 5 (some (.int))) [.ref b, .int a0] w (rvI r.1) r.2 := Ct_of rvI l K hI 4 102 [.ref b, .int a0] w (by decide) (lc0 := [(0, .ref b), (1, .int a0)]) rfl (Nat.le_of_ble_eq_true rfl) (fun y hk hR _ _ hin => eX2_mean hk hR b a0 w)
noncomputable def mX2_image (this : Nat) (w : Wd) : Option (Int32 × Wd) :=
(gR w ((some this)) 2 0).bind fun v1 =>
(gR w ((some this)) 2 1).bind fun v2 =>
(cal w (mX2_copy v1 v2 w)).bind fun r3 =>
(gR r3.2 ((some this)) 2 0).bind fun v4 =>
(ia r3.2 v4 16).bind fun v5 =>
some (v5, r3.2)
theorem eX2_image {y : Fx (Int32 × Wd)} (hk : OkF y RX2 cX2_image 1 3 82) (hR : RetM y rvI (some (.int))) (this : Nat) (w : Wd) : V y w [(0, va_rf (some this))] [] 0 (mX2_image this w) := by
  unfold mX2_image
  refine V_aload_n (pc := 0) hk dX2_image_0 0 rfl ?_
  refine g_X2_7 (pc := 1) hk dX2_image_1 (fun v1 => ?_)
  refine V_aload_n (pc := 4) hk dX2_image_4 0 rfl ?_
  refine g_X2_13 (pc := 5) hk dX2_image_5 (fun v2 => ?_)
  refine n_X2_67 (pc := 8) hk (fun r h => ctX2_copy (fl y) (fK y) hk.2.2.2.2.2.2.2.1 v1 v2 w r h) ⟨Nat.le_of_ble_eq_true rfl, Nat.le_of_ble_eq_true rfl⟩ (Nat.le_of_ble_eq_true rfl) dX2_image_8 (fun r3 => ?_)
  refine V_aload_n (pc := 11) hk dX2_image_11 0 rfl ?_
  refine g_X2_7 (pc := 12) hk dX2_image_12 (fun v4 => ?_)
  refine V_bipush (pc := 15) (v := 16) hk dX2_image_15 rfl ?_
  refine V_iaload (pc := 17) hk dX2_image_17 (fun v5 => ?_)
  exact V_ireturn (pc := 18) hk hR rfl dX2_image_18
theorem ctX2_image (l : Launch) (K : Kx) (hI : Ini K) (b : Nat) (w : Wd) : ∀ r, mX2_image b w = some r → Ct l K 3 82 yX2_image (ws_ yX2_image cX2_image 1 (some (.int))) [.ref b] w (rvI r.1) r.2 := Ct_of rvI l K hI 3 82 [.ref b] w (by decide) (lc0 := [(0, .ref b)]) rfl (Nat.le_of_ble_eq_true rfl) (fun y hk hR _ _ hin => eX2_image hk hR b w)
noncomputable def mX2_back (this : Nat) (w : Wd) : Option (Int32 × Wd) :=
(gR w ((some this)) 2 1).bind fun v1 =>
(gR w ((some this)) 2 0).bind fun v2 =>
(cal w (mX2_copy v1 v2 w)).bind fun r3 =>
(gR r3.2 ((some this)) 2 0).bind fun v4 =>
(ia r3.2 v4 16).bind fun v5 =>
some (v5, r3.2)
theorem eX2_back {y : Fx (Int32 × Wd)} (hk : OkF y RX2 cX2_back 1 3 82) (hR : RetM y rvI (some (.int))) (this : Nat) (w : Wd) : V y w [(0, va_rf (some this))] [] 0 (mX2_back this w) := by
  unfold mX2_back
  refine V_aload_n (pc := 0) hk dX2_back_0 0 rfl ?_
  refine g_X2_13 (pc := 1) hk dX2_back_1 (fun v1 => ?_)
  refine V_aload_n (pc := 4) hk dX2_back_4 0 rfl ?_
  refine g_X2_7 (pc := 5) hk dX2_back_5 (fun v2 => ?_)
  refine n_X2_67 (pc := 8) hk (fun r h => ctX2_copy (fl y) (fK y) hk.2.2.2.2.2.2.2.1 v1 v2 w r h) ⟨Nat.le_of_ble_eq_true rfl, Nat.le_of_ble_eq_true rfl⟩ (Nat.le_of_ble_eq_true rfl) dX2_back_8 (fun r3 => ?_)
  refine V_aload_n (pc := 11) hk dX2_back_11 0 rfl ?_
  refine g_X2_7 (pc := 12) hk dX2_back_12 (fun v4 => ?_)
  refine V_bipush (pc := 15) (v := 16) hk dX2_back_15 rfl ?_
  refine V_iaload (pc := 17) hk dX2_back_17 (fun v5 => ?_)
  exact V_ireturn (pc := 18) hk hR rfl dX2_back_18
theorem ctX2_back (l : Launch) (K : Kx) (hI : Ini K) (b : Nat) (w : Wd) : ∀ r, mX2_back b w = some r → Ct l K 3 82 yX2_back (ws_ yX2_back cX2_back 1 (some (.int))) [.ref b] w (rvI r.1) r.2 := Ct_of rvI l K hI 3 82 [.ref b] w (by decide) (lc0 := [(0, .ref b)]) rfl (Nat.le_of_ble_eq_true rfl) (fun y hk hR _ _ hin => eX2_back hk hR b w)
noncomputable def mX2_about (this : Nat) (a0 : Int32) (w : Wd) : Option (Int32 × Wd) :=
(cal w (mX2_isIn a0 0 6 w)).bind fun r1 =>
if r1.1 = 0 then (
if ¬ a0 = 7 then (
if ¬ a0 = 8 then (
if ¬ a0 = 9 then (
some ((-2), r1.2))
else (
(gR r1.2 ((some this)) 2 0).bind fun v2 =>
(ia r1.2 v2 18).bind fun v3 =>
some (v3, r1.2)))
else (
(gI r1.2 ((some this)) 2 4).bind fun v4 =>
some (v4, r1.2)))
else (
(recv r1.2 ((some this)) 2).bind fun b6 => (cal r1.2 (mX2_held b6 r1.2)).bind fun r5 =>
some (r5.1, r5.2)))
else (
(gR r1.2 ((some this)) 2 0).bind fun v7 =>
(ia r1.2 v7 a0).bind fun v8 =>
some (v8, r1.2))
theorem eX2_about {y : Fx (Int32 × Wd)} (hk : OkF y RX2 cX2_about 2 3 82) (hR : RetM y rvI (some (.int))) (this : Nat) (a0 : Int32) (w : Wd) : V y w [(0, va_rf (some this)), (1, .int a0)] [] 0 (mX2_about this a0 w) := by
  unfold mX2_about
  refine V_iload_n (pc := 0) hk dX2_about_0 1 rfl ?_
  refine V_iconst (pc := 1) (v := 0) hk dX2_about_1 rfl ?_
  refine V_bipush (pc := 2) (v := 6) hk dX2_about_2 rfl ?_
  refine n_X2_71 (pc := 4) hk (fun r h => ctX2_isIn (fl y) (fK y) hk.2.2.2.2.2.2.2.1 a0 0 6 w r h) ⟨Nat.le_of_ble_eq_true rfl, Nat.le_of_ble_eq_true rfl⟩ (Nat.le_of_ble_eq_true rfl) dX2_about_4 (fun r1 => ?_)
  refine V_if_eq (pc := 7) (tgt := 19) hk dX2_about_7 rfl ?_ ?_
  · refine V_iload_n (pc := 19) hk dX2_about_19 1 rfl ?_
    refine V_bipush (pc := 20) (v := 7) hk dX2_about_20 rfl ?_
    refine V_icmp_ne (pc := 22) (tgt := 32) hk dX2_about_22 rfl ?_ ?_
    · refine V_iload_n (pc := 32) hk dX2_about_32 1 rfl ?_
      refine V_bipush (pc := 33) (v := 8) hk dX2_about_33 rfl ?_
      refine V_icmp_ne (pc := 35) (tgt := 45) hk dX2_about_35 rfl ?_ ?_
      · refine V_iload_n (pc := 45) hk dX2_about_45 1 rfl ?_
        refine V_bipush (pc := 46) (v := 9) hk dX2_about_46 rfl ?_
        refine V_icmp_ne (pc := 48) (tgt := 61) hk dX2_about_48 rfl ?_ ?_
        · refine V_bipush (pc := 61) (v := (-2)) hk dX2_about_61 (by decide +kernel) ?_
          exact V_ireturn (pc := 63) hk hR rfl dX2_about_63
        · refine V_aload_n (pc := 51) hk dX2_about_51 0 rfl ?_
          refine g_X2_7 (pc := 52) hk dX2_about_52 (fun v2 => ?_)
          refine V_bipush (pc := 55) (v := 18) hk dX2_about_55 rfl ?_
          refine V_iaload (pc := 57) hk dX2_about_57 (fun v3 => ?_)
          refine V_goto (pc := 58) (tgt := 63) hk dX2_about_58 rfl ?_
          exact V_ireturn (pc := 63) hk hR rfl dX2_about_63
      · refine V_aload_n (pc := 38) hk dX2_about_38 0 rfl ?_
        refine g_X2_75 (pc := 39) hk dX2_about_39 (fun v4 => ?_)
        refine V_goto (pc := 42) (tgt := 63) hk dX2_about_42 rfl ?_
        exact V_ireturn (pc := 63) hk hR rfl dX2_about_63
    · refine V_aload_n (pc := 25) hk dX2_about_25 0 rfl ?_
      refine n_X2_376 (pc := 26) hk (fun b r h => ctX2_held (fl y) (fK y) hk.2.2.2.2.2.2.2.1 b r1.2 r h) ⟨Nat.le_of_ble_eq_true rfl, Nat.le_of_ble_eq_true rfl⟩ (Nat.le_of_ble_eq_true rfl) dX2_about_26 (fun r5 => ?_)
      refine V_goto (pc := 29) (tgt := 63) hk dX2_about_29 rfl ?_
      exact V_ireturn (pc := 63) hk hR rfl dX2_about_63
  · refine V_aload_n (pc := 10) hk dX2_about_10 0 rfl ?_
    refine g_X2_7 (pc := 11) hk dX2_about_11 (fun v7 => ?_)
    refine V_iload_n (pc := 14) hk dX2_about_14 1 rfl ?_
    refine V_iaload (pc := 15) hk dX2_about_15 (fun v8 => ?_)
    refine V_goto (pc := 16) (tgt := 63) hk dX2_about_16 rfl ?_
    exact V_ireturn (pc := 63) hk hR rfl dX2_about_63
theorem ctX2_about (l : Launch) (K : Kx) (hI : Ini K) (b : Nat) (a0 : Int32) (w : Wd) : ∀ r, mX2_about b a0 w = some r → Ct l K 3 82 yX2_about (ws_ yX2_about cX2_about 2 (some (.int))) [.ref b, .int a0] w (rvI r.1) r.2 := Ct_of rvI l K hI 3 82 [.ref b, .int a0] w (by decide) (lc0 := [(0, .ref b), (1, .int a0)]) rfl (Nat.le_of_ble_eq_true rfl) (fun y hk hR _ _ hin => eX2_about hk hR b a0 w)
