noncomputable def mX3_read_p154 (k12 : Wd → (Option Nat) → (Option Nat) → Option ((Option Nat ⊕ Nat) × Wd)) (w : Wd) (l0 : Option Nat) (l1 : Option Nat) : Option ((Option Nat ⊕ Nat) × Wd) :=
(recv w l0 3).bind fun b2 => (calx w (mX3_want b2 59 w)).bind fun r1 => bx r1 fun v3 w4 =>
(gI w4 l1 4 1).bind fun v5 =>
(pf w4 l1 4 1 (.int (v5 + 1))).bind fun w6 =>
k12 w6 l0 l1
noncomputable def mX3_read_p88 (k12 : Wd → (Option Nat) → (Option Nat) → Option ((Option Nat ⊕ Nat) × Wd)) (w : Wd) (l0 : Option Nat) (l1 : Option Nat) : Option ((Option Nat ⊕ Nat) × Wd) :=
(gI w l1 4 1).bind fun v1 =>
if ¬ v1 = 24 then (
(recv w l0 3).bind fun b3 => (cal w (mX3_next b3 w)).bind fun r2 =>
(gI r2.2 l0 3 7).bind fun v4 =>
if 204 < v4 then (
(gR r2.2 l1 4 2).bind fun v5 =>
(gI r2.2 l1 4 1).bind fun v6 =>
(recv r2.2 l0 3).bind fun b8 => (calx r2.2 (mX3_doing b8 v6 r2.2)).bind fun r7 => bx r7 fun v9 w10 =>
(recv w10 v5 16).bind fun b12 => (cal w10 (mJ2_add b12 v9 w10)).bind fun r11 =>
mX3_read_p154 k12 r11.2 l0 l1)
else (
(gR r2.2 l1 4 0).bind fun v13 =>
(gI r2.2 l0 3 7).bind fun v14 =>
(recv r2.2 l0 3).bind fun b16 => (calx r2.2 (gX3_sum b16 r2.2)).bind fun r15 => bx r15 fun v17 w18 =>
(aas w18 clSum "HookSwings$Sum" v13 (v14 - 200) v17).bind fun w19 =>
mX3_read_p154 k12 w19 l0 l1))
else (
(recv w l0 3).bind fun b21 => (cal w (mX3_wrong b21 6 w)).bind fun r20 =>
thr r20.2 r20.1)
noncomputable def mX3_read_p42 (w : Wd) (l0 : Option Nat) : Option ((Option Nat ⊕ Nat) × Wd) :=
(recv w l0 3).bind fun b2 => (cal w (mX3_wrong b2 1 w)).bind fun r1 =>
thr r1.2 r1.1
noncomputable def mX3_read_b12 (k12 : Wd → (Option Nat) → (Option Nat) → Option ((Option Nat ⊕ Nat) × Wd)) (w : Wd) (l0 : Option Nat) (l1 : Option Nat) : Option ((Option Nat ⊕ Nat) × Wd) :=
(gI w l0 3 4).bind fun v1 =>
if v1 = 301 then (
some (.inl l1, w))
else (
(gI w l0 3 4).bind fun v2 =>
if v2 < 200 then (
mX3_read_p42 w l0)
else (
(gI w l0 3 4).bind fun v3 =>
if v3 ≤ 211 then (
(gI w l0 3 4).bind fun v4 =>
(pf w l0 3 7 (.int v4)).bind fun w5 =>
(gI w5 l0 3 7).bind fun v6 =>
if 204 < v6 then (
mX3_read_p88 k12 w5 l0 l1)
else (
(gR w5 l1 4 0).bind fun v7 =>
(gI w5 l0 3 7).bind fun v8 =>
(aa w5 v7 (v8 - 200)).bind fun v9 =>
if v9 = none then (
mX3_read_p88 k12 w5 l0 l1)
else (
(recv w5 l0 3).bind fun b11 => (cal w5 (mX3_wrong b11 4 w5)).bind fun r10 =>
thr r10.2 r10.1)))
else (
mX3_read_p42 w l0)))
noncomputable def mX3_read_l12 : Nat → Wd → (Option Nat) → (Option Nat) → Option ((Option Nat ⊕ Nat) × Wd)
  | 0, _, _, _ => none
  | n + 1, w, l0, l1 => mX3_read_b12 (mX3_read_l12 n) w l0 l1
noncomputable def mX3_read (this : Nat) (w : Wd) : Option ((Option Nat ⊕ Nat) × Wd) :=
(some (wnew w (.inr (4, df9_X4)) 3)).bind fun (w1 : Wd) =>
(((some (wnx w)))).bind fun b3 => (cal w1 (mX4_init b3 w1)).bind fun r2 =>
(recv r2.2 ((some this)) 3).bind fun b5 => (cal r2.2 (mX3_next b5 r2.2)).bind fun r4 =>
mX3_read_l12 FU r4.2 ((some this)) ((some (wnx w)))
theorem eX3_read_p154 {y : Fx ((Option Nat ⊕ Nat) × Wd)} (hk : OkF y RX3 cX3_read 2 116 6363) (hR : RetX y rvR (some (.object "HookSwings$Text"))) (hst : (fl y).stackTraces = false) {k12 : Wd → (Option Nat) → (Option Nat) → Option ((Option Nat ⊕ Nat) × Wd)} (h12 : ∀ (w : Wd) (l0 : Option Nat) (l1 : Option Nat), V y w [(0, va_rf l0), (1, va_rf l1)] [] 12 (k12 w l0 l1)) (w : Wd) (l0 : Option Nat) (l1 : Option Nat) : V y w [(0, va_rf l0), (1, va_rf l1)] [] 154 (mX3_read_p154 k12 w l0 l1) := by
  unfold mX3_read_p154
  refine V_aload_n (pc := 154) hk dX3_read_154 0 rfl ?_
  refine V_bipush (pc := 155) (v := 59) hk dX3_read_155 rfl ?_
  refine n_X3_111 (pc := 157) hk hR (fun b r h => ctX3_want (fl y) (fK y) hk.2.2.2.2.2.2.2.1 hst b 59 w r h) ⟨Nat.le_of_ble_eq_true rfl, Nat.le_of_ble_eq_true rfl⟩ (Nat.le_of_ble_eq_true rfl) dX3_read_157 (fun v3 w4 => ?_)
  refine V_aload_n (pc := 160) hk dX3_read_160 1 rfl ?_
  refine V_dup (pc := 161) hk dX3_read_161 (rf_cat _) ?_
  refine g_X3_90 (pc := 162) hk dX3_read_162 (fun v5 => ?_)
  refine V_iconst (pc := 165) (v := 1) hk dX3_read_165 rfl ?_
  refine V_iadd (pc := 166) hk dX3_read_166 ?_
  refine p_X3_90 (pc := 167) hk dX3_read_167 (fun w6 => ?_)
  refine V_goto (pc := 170) (tgt := 12) hk dX3_read_170 rfl ?_
  exact h12 w6 l0 l1
theorem eX3_read_p88 {y : Fx ((Option Nat ⊕ Nat) × Wd)} (hk : OkF y RX3 cX3_read 2 116 6363) (hR : RetX y rvR (some (.object "HookSwings$Text"))) (hst : (fl y).stackTraces = false) {k12 : Wd → (Option Nat) → (Option Nat) → Option ((Option Nat ⊕ Nat) × Wd)} (h12 : ∀ (w : Wd) (l0 : Option Nat) (l1 : Option Nat), V y w [(0, va_rf l0), (1, va_rf l1)] [] 12 (k12 w l0 l1)) (w : Wd) (l0 : Option Nat) (l1 : Option Nat) : V y w [(0, va_rf l0), (1, va_rf l1)] [] 88 (mX3_read_p88 k12 w l0 l1) := by
  unfold mX3_read_p88
  refine V_aload_n (pc := 88) hk dX3_read_88 1 rfl ?_
  refine g_X3_90 (pc := 89) hk dX3_read_89 (fun v1 => ?_)
  refine V_bipush (pc := 92) (v := 24) hk dX3_read_92 rfl ?_
  refine V_icmp_ne (pc := 94) (tgt := 104) hk dX3_read_94 rfl ?_ ?_
  · refine V_aload_n (pc := 104) hk dX3_read_104 0 rfl ?_
    refine n_X3_74 (pc := 105) hk (fun b r h => ctX3_next (fl y) (fK y) hk.2.2.2.2.2.2.2.1 b w r h) ⟨Nat.le_of_ble_eq_true rfl, Nat.le_of_ble_eq_true rfl⟩ (Nat.le_of_ble_eq_true rfl) dX3_read_105 (fun r2 => ?_)
    refine V_aload_n (pc := 108) hk dX3_read_108 0 rfl ?_
    refine g_X3_83 (pc := 109) hk dX3_read_109 (fun v4 => ?_)
    refine V_sipush (pc := 112) (v := 204) hk dX3_read_112 rfl ?_
    refine V_icmp_gt (pc := 115) (tgt := 138) hk dX3_read_115 rfl ?_ ?_
    · refine V_aload_n (pc := 138) hk dX3_read_138 1 rfl ?_
      refine g_X3_97 (pc := 139) hk dX3_read_139 (fun v5 => ?_)
      refine V_aload_n (pc := 142) hk dX3_read_142 0 rfl ?_
      refine V_aload_n (pc := 143) hk dX3_read_143 1 rfl ?_
      refine g_X3_90 (pc := 144) hk dX3_read_144 (fun v6 => ?_)
      refine n_X3_101 (pc := 147) hk hR (fun b r h => ctX3_doing (fl y) (fK y) hk.2.2.2.2.2.2.2.1 hst b v6 r2.2 r h) ⟨Nat.le_of_ble_eq_true rfl, Nat.le_of_ble_eq_true rfl⟩ (by simp [rf_cat, cat_int, cat_long, cat_ref]) dX3_read_147 (fun v9 w10 => ?_)
      refine n_X3_105 (pc := 150) hk (fun b r h => ctJ2_add (fl y) (fK y) hk.2.2.2.2.2.2.2.1 b v9 w10 r h) ⟨Nat.le_of_ble_eq_true rfl, Nat.le_of_ble_eq_true rfl⟩ (Nat.le_of_ble_eq_true rfl) dX3_read_150 (fun r11 => ?_)
      refine V_pop (pc := 153) hk dX3_read_153 rfl ?_
      exact eX3_read_p154 hk hR hst h12 r11.2 l0 l1
    · refine V_aload_n (pc := 118) hk dX3_read_118 1 rfl ?_
      refine g_X3_86 (pc := 119) hk dX3_read_119 (fun v13 => ?_)
      refine V_aload_n (pc := 122) hk dX3_read_122 0 rfl ?_
      refine g_X3_83 (pc := 123) hk dX3_read_123 (fun v14 => ?_)
      refine V_sipush (pc := 126) (v := 200) hk dX3_read_126 rfl ?_
      refine V_isub (pc := 129) hk dX3_read_129 ?_
      refine V_aload_n (pc := 130) hk dX3_read_130 0 rfl ?_
      refine n_X3_93 (pc := 131) hk hR (fun b r h => hgX3_sum (fl y) (fK y) hk.2.2.2.2.2.2.2.1 hst b r2.2 r h) ⟨Nat.le_of_ble_eq_true rfl, Nat.le_of_ble_eq_true rfl⟩ (by simp [rf_cat, cat_int, cat_long, cat_ref]) dX3_read_131 (fun v17 w18 => ?_)
      refine V_aastore (pc := 134) hk cst_Sum dX3_read_134 (fun w19 => ?_)
      refine V_goto (pc := 135) (tgt := 154) hk dX3_read_135 rfl ?_
      exact eX3_read_p154 hk hR hst h12 w19 l0 l1
  · refine V_aload_n (pc := 97) hk dX3_read_97 0 rfl ?_
    refine V_bipush (pc := 98) (v := 6) hk dX3_read_98 rfl ?_
    refine n_X3_70 (pc := 100) hk (fun b r h => ctX3_wrong (fl y) (fK y) hk.2.2.2.2.2.2.2.1 hst b 6 w r h) ⟨Nat.le_of_ble_eq_true rfl, Nat.le_of_ble_eq_true rfl⟩ (Nat.le_of_ble_eq_true rfl) dX3_read_100 (fun r20 => ?_)
    exact V_athrow (pc := 103) hk hR dX3_read_103
theorem eX3_read_p42 {y : Fx ((Option Nat ⊕ Nat) × Wd)} (hk : OkF y RX3 cX3_read 2 116 6363) (hR : RetX y rvR (some (.object "HookSwings$Text"))) (hst : (fl y).stackTraces = false) (w : Wd) (l0 : Option Nat) : V y w [(0, va_rf l0)] [] 42 (mX3_read_p42 w l0) := by
  unfold mX3_read_p42
  refine V_aload_n (pc := 42) hk dX3_read_42 0 rfl ?_
  refine V_iconst (pc := 43) (v := 1) hk dX3_read_43 rfl ?_
  refine n_X3_70 (pc := 44) hk (fun b r h => ctX3_wrong (fl y) (fK y) hk.2.2.2.2.2.2.2.1 hst b 1 w r h) ⟨Nat.le_of_ble_eq_true rfl, Nat.le_of_ble_eq_true rfl⟩ (Nat.le_of_ble_eq_true rfl) dX3_read_44 (fun r1 => ?_)
  exact V_athrow (pc := 47) hk hR dX3_read_47
theorem eX3_read_b12 {y : Fx ((Option Nat ⊕ Nat) × Wd)} (hk : OkF y RX3 cX3_read 2 116 6363) (hR : RetX y rvR (some (.object "HookSwings$Text"))) (hst : (fl y).stackTraces = false) {k12 : Wd → (Option Nat) → (Option Nat) → Option ((Option Nat ⊕ Nat) × Wd)} (h12 : ∀ (w : Wd) (l0 : Option Nat) (l1 : Option Nat), V y w [(0, va_rf l0), (1, va_rf l1)] [] 12 (k12 w l0 l1)) (w : Wd) (l0 : Option Nat) (l1 : Option Nat) : V y w [(0, va_rf l0), (1, va_rf l1)] [] 12 (mX3_read_b12 k12 w l0 l1) := by
  unfold mX3_read_b12
  refine V_aload_n (pc := 12) hk dX3_read_12 0 rfl ?_
  refine g_X3_25 (pc := 13) hk dX3_read_13 (fun v1 => ?_)
  refine V_sipush (pc := 16) (v := 301) hk dX3_read_16 rfl ?_
  refine V_icmp_eq (pc := 19) (tgt := 173) hk dX3_read_19 rfl ?_ ?_
  · refine V_aload_n (pc := 173) hk dX3_read_173 1 rfl ?_
    exact V_areturnX (pc := 174) hk (Or.inl ⟨_, rfl⟩) hR rfl dX3_read_174
  · refine V_aload_n (pc := 22) hk dX3_read_22 0 rfl ?_
    refine g_X3_25 (pc := 23) hk dX3_read_23 (fun v2 => ?_)
    refine V_sipush (pc := 26) (v := 200) hk dX3_read_26 rfl ?_
    refine V_icmp_lt (pc := 29) (tgt := 42) hk dX3_read_29 rfl ?_ ?_
    · refine V_pick (lc' := [(0, va_rf l0)]) [0] rfl ?_
      exact eX3_read_p42 hk hR hst w l0
    · refine V_aload_n (pc := 32) hk dX3_read_32 0 rfl ?_
      refine g_X3_25 (pc := 33) hk dX3_read_33 (fun v3 => ?_)
      refine V_sipush (pc := 36) (v := 211) hk dX3_read_36 rfl ?_
      refine V_icmp_le (pc := 39) (tgt := 48) hk dX3_read_39 rfl ?_ ?_
      · refine V_aload_n (pc := 48) hk dX3_read_48 0 rfl ?_
        refine V_aload_n (pc := 49) hk dX3_read_49 0 rfl ?_
        refine g_X3_25 (pc := 50) hk dX3_read_50 (fun v4 => ?_)
        refine p_X3_83 (pc := 53) hk dX3_read_53 (fun w5 => ?_)
        refine V_aload_n (pc := 56) hk dX3_read_56 0 rfl ?_
        refine g_X3_83 (pc := 57) hk dX3_read_57 (fun v6 => ?_)
        refine V_sipush (pc := 60) (v := 204) hk dX3_read_60 rfl ?_
        refine V_icmp_gt (pc := 63) (tgt := 88) hk dX3_read_63 rfl ?_ ?_
        · exact eX3_read_p88 hk hR hst h12 w5 l0 l1
        · refine V_aload_n (pc := 66) hk dX3_read_66 1 rfl ?_
          refine g_X3_86 (pc := 67) hk dX3_read_67 (fun v7 => ?_)
          refine V_aload_n (pc := 70) hk dX3_read_70 0 rfl ?_
          refine g_X3_83 (pc := 71) hk dX3_read_71 (fun v8 => ?_)
          refine V_sipush (pc := 74) (v := 200) hk dX3_read_74 rfl ?_
          refine V_isub (pc := 77) hk dX3_read_77 ?_
          refine V_aaload (pc := 78) hk dX3_read_78 (fun v9 => ?_)
          refine V_ifnull (pc := 79) (tgt := 88) hk dX3_read_79 rfl ?_ ?_
          · exact eX3_read_p88 hk hR hst h12 w5 l0 l1
          · refine V_aload_n (pc := 82) hk dX3_read_82 0 rfl ?_
            refine V_iconst (pc := 83) (v := 4) hk dX3_read_83 rfl ?_
            refine n_X3_70 (pc := 84) hk (fun b r h => ctX3_wrong (fl y) (fK y) hk.2.2.2.2.2.2.2.1 hst b 4 w5 r h) ⟨Nat.le_of_ble_eq_true rfl, Nat.le_of_ble_eq_true rfl⟩ (Nat.le_of_ble_eq_true rfl) dX3_read_84 (fun r10 => ?_)
            exact V_athrow (pc := 87) hk hR dX3_read_87
      · refine V_pick (lc' := [(0, va_rf l0)]) [0] rfl ?_
        exact eX3_read_p42 hk hR hst w l0
theorem eX3_read_l12 {y : Fx ((Option Nat ⊕ Nat) × Wd)} (hk : OkF y RX3 cX3_read 2 116 6363) (hR : RetX y rvR (some (.object "HookSwings$Text"))) (hst : (fl y).stackTraces = false) : ∀ (n : Nat) (w : Wd) (l0 : Option Nat) (l1 : Option Nat), V y w [(0, va_rf l0), (1, va_rf l1)] [] 12 (mX3_read_l12 n w l0 l1) := by
  intro n
  induction n with
  | zero => intro w l0 l1; exact V_none
  | succ n ih => intro w l0 l1; exact eX3_read_b12 hk hR hst ih w l0 l1
theorem eX3_read {y : Fx ((Option Nat ⊕ Nat) × Wd)} (hk : OkF y RX3 cX3_read 2 116 6363) (hR : RetX y rvR (some (.object "HookSwings$Text"))) (hst : (fl y).stackTraces = false) (this : Nat) (w : Wd) : V y w [(0, va_rf (some this))] [] 0 (mX3_read this w) := by
  unfold mX3_read
  refine o_X3_80 (pc := 0) hk dX3_read_0 ?_
  refine V_nmW (fun w1 => ?_)
  refine V_dup (pc := 3) hk dX3_read_3 (rf_cat _) ?_
  refine n_X3_82 (pc := 4) hk (fun b r h => ctX4_init (fl y) (fK y) hk.2.2.2.2.2.2.2.1 b w1 r h) ⟨Nat.le_of_ble_eq_true rfl, Nat.le_of_ble_eq_true rfl⟩ (by simp [rf_cat, cat_int, cat_long, cat_ref]) dX3_read_4 (fun r2 => ?_)
  refine V_astore_n (pc := 7) (lc' := [(1, va_rf ((some (wnx w)))), (0, va_rf ((some this)))]) (i := 1) hk dX3_read_7 rfl (Nat.le_of_ble_eq_true rfl) (by simp [rf_cat, cat_int, cat_long, cat_ref]) ?_
  refine V_aload_n (pc := 8) hk dX3_read_8 1 rfl ?_
  refine n_X3_74 (pc := 9) hk (fun b r h => ctX3_next (fl y) (fK y) hk.2.2.2.2.2.2.2.1 b r2.2 r h) ⟨Nat.le_of_ble_eq_true rfl, Nat.le_of_ble_eq_true rfl⟩ (Nat.le_of_ble_eq_true rfl) dX3_read_9 (fun r4 => ?_)
  refine V_pick (lc' := [(0, va_rf ((some this))), (1, va_rf ((some (wnx w))))]) [1, 0] rfl ?_
  exact eX3_read_l12 hk hR hst FU r4.2 ((some this)) ((some (wnx w)))
theorem ctX3_read (l : Launch) (K : Kx) (hI : Ini K) (hst : l.stackTraces = false) (b : Nat) (w : Wd) : ∀ r, mX3_read b w = some r → CtX l K 116 6363 yX3_read (ws_ yX3_read cX3_read 2 (some (.object "HookSwings$Text"))) [.ref b] w rvR r := CtX_of rvR l K hI 116 6363 [.ref b] w (by decide) (lc0 := [(0, .ref b)]) rfl (Nat.le_of_ble_eq_true rfl) (fun y hk hR hl _ hin => eX3_read hk hR (by rw [hl]; exact hst) b w)
noncomputable def mX0_text (this : Nat) (w : Wd) : Option (Int32 × Wd) :=
(gR w ((some this)) 0 0).bind fun v1 =>
(gR w v1 1 0).bind fun v2 =>
(ia w v2 2).bind fun v3 =>
if ¬ v3 = 4 then (
(gI w ((some this)) 0 3).bind fun v4 =>
(pf w ((some this)) 0 4 (.int 0)).bind fun w5 =>
(pf w5 ((some this)) 0 5 (.int (-1))).bind fun w6 =>
(gR w6 ((some this)) 0 0).bind fun v7 =>
(gR w6 v7 1 6).bind fun v8 =>
(gR w6 ((some this)) 0 0).bind fun v9 =>
(gR w6 v9 1 0).bind fun v10 =>
(ia w6 v10 2).bind fun v11 =>
(some (wnew w6 (.inr (3, df9_X3)) 8)).bind fun (w12 : Wd) =>
(gR w12 ((some this)) 0 2).bind fun v13 =>
(((some (wnx w6)))).bind fun b15 => (cal w12 (mX3_init b15 v13 v4 w12)).bind fun r14 =>
(recv r14.2 ((some (wnx w6))) 3).bind fun b17 => (calx r14.2 (mX3_read b17 r14.2)).bind fun r16 => bc r16 (fun v18 w19 =>
(aas w19 clText "HookSwings$Text" v8 v11 v18).bind fun w21 =>
(pf w21 ((some this)) 0 3 (.int 0)).bind fun w22 =>
(gR w22 ((some this)) 0 0).bind fun v23 =>
(gR w22 v23 1 0).bind fun v24 =>
(ia w22 v24 2).bind fun v25 =>
(ias w22 v24 2 (v25 + 1)).bind fun w26 =>
(gR w26 ((some this)) 0 0).bind fun v27 =>
(gR w26 v27 1 0).bind fun v28 =>
(ia w26 v28 2).bind fun v29 =>
some (v29 - 1, w26)) (fun q20 w19 =>
(gI w19 ((some q20)) 5 0).bind fun v30 =>
(pf w19 ((some this)) 0 4 (.int v30)).bind fun w31 =>
(gI w31 ((some q20)) 5 1).bind fun v32 =>
(pf w31 ((some this)) 0 5 (.int v32)).bind fun w33 =>
(pf w33 ((some this)) 0 3 (.int 0)).bind fun w34 =>
some ((-1), w34)))
else (
some ((-1), w))
theorem eX0_text {y : Fx (Int32 × Wd)} (hk : OkF y RX0 cX0_text 5 117 6384) (hR : RetM y rvI (some (.int))) (hst : (fl y).stackTraces = false) (htb : (fc y).exceptionTable.toList = tableOf [(30, 62, 70, 113), (30, 62, 96, 0), (70, 89, 96, 0), (96, 98, 96, 0)]) (this : Nat) (w : Wd) : V y w [(0, va_rf (some this))] [] 0 (mX0_text this w) := by
  unfold mX0_text
  refine V_aload_n (pc := 0) hk dX0_text_0 0 rfl ?_
  refine g_X0_21 (pc := 1) hk dX0_text_1 (fun v1 => ?_)
  refine g_X0_79 (pc := 4) hk dX0_text_4 (fun v2 => ?_)
  refine V_iconst (pc := 7) (v := 2) hk dX0_text_7 rfl ?_
  refine V_iaload (pc := 8) hk dX0_text_8 (fun v3 => ?_)
  refine V_iconst (pc := 9) (v := 4) hk dX0_text_9 rfl ?_
  refine V_icmp_ne (pc := 10) (tgt := 15) hk dX0_text_10 rfl ?_ ?_
  · refine V_aload_n (pc := 15) hk dX0_text_15 0 rfl ?_
    refine g_X0_93 (pc := 16) hk dX0_text_16 (fun v4 => ?_)
    refine V_istore_n (pc := 19) (lc' := [(1, .int v4), (0, va_rf ((some this)))]) (i := 1) hk dX0_text_19 rfl (Nat.le_of_ble_eq_true rfl) (by simp [rf_cat, cat_int, cat_long, cat_ref]) ?_
    refine V_aload_n (pc := 20) hk dX0_text_20 1 rfl ?_
    refine V_iconst (pc := 21) (v := 0) hk dX0_text_21 rfl ?_
    refine p_X0_32 (pc := 22) hk dX0_text_22 (fun w5 => ?_)
    refine V_aload_n (pc := 25) hk dX0_text_25 1 rfl ?_
    refine V_iconst (pc := 26) (v := (-1)) hk dX0_text_26 (by decide +kernel) ?_
    refine p_X0_36 (pc := 27) hk dX0_text_27 (fun w6 => ?_)
    refine V_aload_n (pc := 30) hk dX0_text_30 1 rfl ?_
    refine g_X0_21 (pc := 31) hk dX0_text_31 (fun v7 => ?_)
    refine g_X0_100 (pc := 34) hk dX0_text_34 (fun v8 => ?_)
    refine V_aload_n (pc := 37) hk dX0_text_37 1 rfl ?_
    refine g_X0_21 (pc := 38) hk dX0_text_38 (fun v9 => ?_)
    refine g_X0_79 (pc := 41) hk dX0_text_41 (fun v10 => ?_)
    refine V_iconst (pc := 44) (v := 2) hk dX0_text_44 rfl ?_
    refine V_iaload (pc := 45) hk dX0_text_45 (fun v11 => ?_)
    refine o_X0_104 (pc := 46) hk dX0_text_46 ?_
    refine V_nmW (fun w12 => ?_)
    refine V_dup (pc := 49) hk dX0_text_49 (rf_cat _) ?_
    refine V_aload_n (pc := 50) hk dX0_text_50 1 rfl ?_
    refine g_X0_28 (pc := 51) hk dX0_text_51 (fun v13 => ?_)
    refine V_iload_n (pc := 54) hk dX0_text_54 0 rfl ?_
    refine n_X0_106 (pc := 55) hk (fun b r h => ctX3_init (fl y) (fK y) hk.2.2.2.2.2.2.2.1 b v13 v4 w12 r h) ⟨Nat.le_of_ble_eq_true rfl, Nat.le_of_ble_eq_true rfl⟩ (by simp [rf_cat, cat_int, cat_long, cat_ref]) dX0_text_55 (fun r14 => ?_)
    refine n_X0_109 (pc := 58) hk htb (by decide) (by decide) q322 (fun b r h => ctX3_read (fl y) (fK y) hk.2.2.2.2.2.2.2.1 hst b r14.2 r h) ⟨Nat.le_of_ble_eq_true rfl, Nat.le_of_ble_eq_true rfl⟩ (by simp [rf_cat, cat_int, cat_long, cat_ref]) dX0_text_58 (fun v18 w19 => ?_) (fun q20 w19 => ?_)
    · refine V_aastore (pc := 61) hk cst_Text dX0_text_61 (fun w21 => ?_)
      refine V_aload_n (pc := 62) hk dX0_text_62 1 rfl ?_
      refine V_iconst (pc := 63) (v := 0) hk dX0_text_63 rfl ?_
      refine p_X0_93 (pc := 64) hk dX0_text_64 (fun w22 => ?_)
      refine V_goto (pc := 67) (tgt := 106) hk dX0_text_67 rfl ?_
      refine V_aload_n (pc := 106) hk dX0_text_106 1 rfl ?_
      refine g_X0_21 (pc := 107) hk dX0_text_107 (fun v23 => ?_)
      refine g_X0_79 (pc := 110) hk dX0_text_110 (fun v24 => ?_)
      refine V_iconst (pc := 113) (v := 2) hk dX0_text_113 rfl ?_
      refine V_dup2 (pc := 114) hk dX0_text_114 rfl (rf_cat _) ?_
      refine V_iaload (pc := 115) hk dX0_text_115 (fun v25 => ?_)
      refine V_iconst (pc := 116) (v := 1) hk dX0_text_116 rfl ?_
      refine V_iadd (pc := 117) hk dX0_text_117 ?_
      refine V_iastore (pc := 118) hk dX0_text_118 (fun w26 => ?_)
      refine V_aload_n (pc := 119) hk dX0_text_119 1 rfl ?_
      refine g_X0_21 (pc := 120) hk dX0_text_120 (fun v27 => ?_)
      refine g_X0_79 (pc := 123) hk dX0_text_123 (fun v28 => ?_)
      refine V_iconst (pc := 126) (v := 2) hk dX0_text_126 rfl ?_
      refine V_iaload (pc := 127) hk dX0_text_127 (fun v29 => ?_)
      refine V_iconst (pc := 128) (v := 1) hk dX0_text_128 rfl ?_
      refine V_isub (pc := 129) hk dX0_text_129 ?_
      exact V_ireturn (pc := 130) hk hR rfl dX0_text_130
    · refine V_astore_n (pc := 70) (lc' := [(2, va_rf ((some q20))), (1, .int v4), (0, va_rf ((some this)))]) (i := 2) hk dX0_text_70 rfl (Nat.le_of_ble_eq_true rfl) rfl ?_
      refine V_aload_n (pc := 71) hk dX0_text_71 2 rfl ?_
      refine V_aload_n (pc := 72) hk dX0_text_72 0 rfl ?_
      refine g_X0_115 (pc := 73) hk dX0_text_73 (fun v30 => ?_)
      refine p_X0_32 (pc := 76) hk dX0_text_76 (fun w31 => ?_)
      refine V_aload_n (pc := 79) hk dX0_text_79 2 rfl ?_
      refine V_aload_n (pc := 80) hk dX0_text_80 0 rfl ?_
      refine g_X0_116 (pc := 81) hk dX0_text_81 (fun v32 => ?_)
      refine p_X0_36 (pc := 84) hk dX0_text_84 (fun w33 => ?_)
      refine V_iconst (pc := 87) (v := (-1)) hk dX0_text_87 (by decide +kernel) ?_
      refine V_istore_n (pc := 88) (lc' := [(3, .int (-1)), (2, va_rf ((some q20))), (1, .int v4), (0, va_rf ((some this)))]) (i := 3) hk dX0_text_88 rfl (Nat.le_of_ble_eq_true rfl) (by simp [rf_cat, cat_int, cat_long, cat_ref]) ?_
      refine V_aload_n (pc := 89) hk dX0_text_89 3 rfl ?_
      refine V_iconst (pc := 90) (v := 0) hk dX0_text_90 rfl ?_
      refine p_X0_93 (pc := 91) hk dX0_text_91 (fun w34 => ?_)
      refine V_iload_n (pc := 94) hk dX0_text_94 0 rfl ?_
      exact V_ireturn (pc := 95) hk hR rfl dX0_text_95
  · refine V_iconst (pc := 13) (v := (-1)) hk dX0_text_13 (by decide +kernel) ?_
    exact V_ireturn (pc := 14) hk hR rfl dX0_text_14
theorem ctX0_text (l : Launch) (K : Kx) (hI : Ini K) (hst : l.stackTraces = false) (b : Nat) (w : Wd) : ∀ r, mX0_text b w = some r → Ct l K 117 6384 yX0_text (wsW_ yX0_text cX0_text 5 (some (.int)) [(30, 62, 70, 113), (30, 62, 96, 0), (70, 89, 96, 0), (96, 98, 96, 0)]) [.ref b] w (rvI r.1) r.2 := CtW_of rvI l K hI 117 6384 [.ref b] w (by decide) (lc0 := [(0, .ref b)]) rfl (Nat.le_of_ble_eq_true rfl) (fun y hk hR hl _ hin htb => eX0_text hk hR (by rw [hl]; exact hst) htb b w)
