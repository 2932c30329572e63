noncomputable def mX3_init (this : Nat) (a0 : Option Nat) (a1 : Int32) (w : Wd) : Option (Unit × Wd) :=
(((some this))).bind fun b1 =>
(pf w ((some this)) 3 0 (va_rf a0)).bind fun w2 =>
(pf w2 ((some this)) 3 1 (.int a1)).bind fun w3 =>
some ((), w3)
theorem eX3_init {y : Fx (Unit × Wd)} (hk : OkF y RX3 cX3_init 3 2 60) (hR : RetM y rvV none) (hin : (fmeth y).name = "<init>") (this : Nat) (a0 : Option Nat) (a1 : Int32) (w : Wd) : V y w [(0, va_rf (some this)), (1, va_rf a0), (2, .int a1)] [] 0 (mX3_init this a0 a1 w) := by
  unfold mX3_init
  refine V_aload_n (pc := 0) hk dX3_init_0 0 rfl ?_
  refine V_objInit (pc := 1) hk q328 q170 q171 ⟨Nat.le_of_ble_eq_true rfl, Nat.le_of_ble_eq_true rfl⟩ (Nat.le_of_ble_eq_true rfl) dX3_init_1 (fun b1 => ?_)
  refine V_aload_n (pc := 4) hk dX3_init_4 0 rfl ?_
  refine V_aload_n (pc := 5) hk dX3_init_5 1 rfl ?_
  refine p_X3_9 (pc := 6) hk hin dX3_init_6 (fun w2 => ?_)
  refine V_aload_n (pc := 9) hk dX3_init_9 0 rfl ?_
  refine V_iload_n (pc := 10) hk dX3_init_10 2 rfl ?_
  refine p_X3_15 (pc := 11) hk hin dX3_init_11 (fun w3 => ?_)
  exact V_return (pc := 14) hk hR rfl dX3_init_14
theorem ctX3_init (l : Launch) (K : Kx) (hI : Ini K) (b : Nat) (a0 : Option Nat) (a1 : Int32) (w : Wd) : ∀ r, mX3_init b a0 a1 w = some r → Ct l K 2 60 yX3_init (ws_ yX3_init cX3_init 3 none) [.ref b, va_rf a0, .int a1] w (rvV r.1) r.2 := Ct_of rvV l K hI 2 60 [.ref b, va_rf a0, .int a1] w (by decide) (lc0 := [(0, .ref b), (1, va_rf a0), (2, .int a1)]) (by simp [lv_args, rf_cat, cat_int, cat_long, cat_ref]) (lg_len _ _ (by simp [rf_cat, cat_int, cat_long, cat_ref])) (fun y hk hR _ _ hin => eX3_init hk hR hin b a0 a1 w)
noncomputable def mX3_isLetter_p12 (w : Wd) (l0 : Int32) : Option (Int32 × Wd) :=
if l0 < 65 then (
(nok (.boolean) 0).bind fun _ => some (0, w))
else (
if 90 < l0 then (
(nok (.boolean) 0).bind fun _ => some (0, w))
else (
(nok (.boolean) 1).bind fun _ => some (1, w)))
noncomputable def mX3_isLetter (a0 : Int32) (w : Wd) : Option (Int32 × Wd) :=
if a0 < 97 then (
mX3_isLetter_p12 w a0)
else (
if a0 ≤ 122 then (
(nok (.boolean) 1).bind fun _ => some (1, w))
else (
mX3_isLetter_p12 w a0))
theorem eX3_isLetter_p12 {y : Fx (Int32 × Wd)} (hk : OkF y RX3 cX3_isLetter 1 2 60) (hR : RetM y rvI (some (.boolean))) (w : Wd) (l0 : Int32) : V y w [(0, .int l0)] [] 12 (mX3_isLetter_p12 w l0) := by
  unfold mX3_isLetter_p12
  refine V_iload_n (pc := 12) hk dX3_isLetter_12 0 rfl ?_
  refine V_bipush (pc := 13) (v := 65) hk dX3_isLetter_13 rfl ?_
  refine V_icmp_lt (pc := 15) (tgt := 28) hk dX3_isLetter_15 rfl ?_ ?_
  · refine V_iconst (pc := 28) (v := 0) hk dX3_isLetter_28 rfl ?_
    exact V_zreturn (pc := 29) hk hR rfl dX3_isLetter_29
  · refine V_iload_n (pc := 18) hk dX3_isLetter_18 0 rfl ?_
    refine V_bipush (pc := 19) (v := 90) hk dX3_isLetter_19 rfl ?_
    refine V_icmp_gt (pc := 21) (tgt := 28) hk dX3_isLetter_21 rfl ?_ ?_
    · refine V_iconst (pc := 28) (v := 0) hk dX3_isLetter_28 rfl ?_
      exact V_zreturn (pc := 29) hk hR rfl dX3_isLetter_29
    · refine V_iconst (pc := 24) (v := 1) hk dX3_isLetter_24 rfl ?_
      refine V_goto (pc := 25) (tgt := 29) hk dX3_isLetter_25 rfl ?_
      exact V_zreturn (pc := 29) hk hR rfl dX3_isLetter_29
theorem eX3_isLetter {y : Fx (Int32 × Wd)} (hk : OkF y RX3 cX3_isLetter 1 2 60) (hR : RetM y rvI (some (.boolean))) (a0 : Int32) (w : Wd) : V y w [(0, .int a0)] [] 0 (mX3_isLetter a0 w) := by
  unfold mX3_isLetter
  refine V_iload_n (pc := 0) hk dX3_isLetter_0 0 rfl ?_
  refine V_bipush (pc := 1) (v := 97) hk dX3_isLetter_1 rfl ?_
  refine V_icmp_lt (pc := 3) (tgt := 12) hk dX3_isLetter_3 rfl ?_ ?_
  · exact eX3_isLetter_p12 hk hR w a0
  · refine V_iload_n (pc := 6) hk dX3_isLetter_6 0 rfl ?_
    refine V_bipush (pc := 7) (v := 122) hk dX3_isLetter_7 rfl ?_
    refine V_icmp_le (pc := 9) (tgt := 24) hk dX3_isLetter_9 rfl ?_ ?_
    · refine V_iconst (pc := 24) (v := 1) hk dX3_isLetter_24 rfl ?_
      refine V_goto (pc := 25) (tgt := 29) hk dX3_isLetter_25 rfl ?_
      exact V_zreturn (pc := 29) hk hR rfl dX3_isLetter_29
    · exact eX3_isLetter_p12 hk hR w a0
theorem ctX3_isLetter (l : Launch) (K : Kx) (hI : Ini K) (a0 : Int32) (w : Wd) : ∀ r, mX3_isLetter a0 w = some r → Ct l K 2 60 yX3_isLetter (ws_ yX3_isLetter cX3_isLetter 1 (some (.boolean))) [.int a0] w (rvI r.1) r.2 := Ct_of rvI l K hI 2 60 [.int a0] w (by decide) (lc0 := [(0, .int a0)]) rfl (Nat.le_of_ble_eq_true rfl) (fun y hk hR _ _ hin => eX3_isLetter hk hR a0 w)
noncomputable def mX3_isWord_b20 (k20 : Wd → (Option Nat) → (Option Nat) → Int32 → Option (Int32 × Wd)) (w : Wd) (l0 : Option Nat) (l1 : Option Nat) (l2 : Int32) : Option (Int32 × Wd) :=
(recv w l1 18).bind fun b2 => (cal w (mJ3_length b2 w)).bind fun r1 =>
if r1.1 ≤ l2 then (
(nok (.boolean) 1).bind fun _ => some (1, r1.2))
else (
(gR r1.2 l0 3 0).bind fun v3 =>
(gI r1.2 l0 3 3).bind fun v4 =>
(ba r1.2 v3 (v4 + l2)).bind fun v5 =>
(recv r1.2 l1 18).bind fun b7 => (cal r1.2 (mJ3_charAt b7 l2 r1.2)).bind fun r6 =>
if v5 = r6.1 then (
k20 r6.2 l0 l1 (l2 + 1))
else (
(nok (.boolean) 0).bind fun _ => some (0, r6.2)))
noncomputable def mX3_isWord_l20 : Nat → Wd → (Option Nat) → (Option Nat) → Int32 → Option (Int32 × Wd)
  | 0, _, _, _, _ => none
  | n + 1, w, l0, l1, l2 => mX3_isWord_b20 (mX3_isWord_l20 n) w l0 l1 l2
noncomputable def mX3_isWord (this : Nat) (a0 : Option Nat) (w : Wd) : Option (Int32 × Wd) :=
(gI w ((some this)) 3 2).bind fun v1 =>
(gI w ((some this)) 3 3).bind fun v2 =>
(recv w a0 18).bind fun b4 => (cal w (mJ3_length b4 w)).bind fun r3 =>
if (v1 - v2) = r3.1 then (
mX3_isWord_l20 FU r3.2 ((some this)) a0 0)
else (
(nok (.boolean) 0).bind fun _ => some (0, r3.2))
theorem eX3_isWord_b20 {y : Fx (Int32 × Wd)} (hk : OkF y RX3 cX3_isWord 3 6 145) (hR : RetM y rvI (some (.boolean))) {k20 : Wd → (Option Nat) → (Option Nat) → Int32 → Option (Int32 × Wd)} (h20 : ∀ (w : Wd) (l0 : Option Nat) (l1 : Option Nat) (l2 : Int32), V y w [(0, va_rf l0), (1, va_rf l1), (2, .int l2)] [] 20 (k20 w l0 l1 l2)) (w : Wd) (l0 : Option Nat) (l1 : Option Nat) (l2 : Int32) : V y w [(0, va_rf l0), (1, va_rf l1), (2, .int l2)] [] 20 (mX3_isWord_b20 k20 w l0 l1 l2) := by
  unfold mX3_isWord_b20
  refine V_iload_n (pc := 20) hk dX3_isWord_20 2 rfl ?_
  refine V_aload_n (pc := 21) hk dX3_isWord_21 1 rfl ?_
  refine n_X3_55 (pc := 22) hk (fun b r h => ctJ3_length (fl y) (fK y) hk.2.2.2.2.2.2.2.1 b w r h) ⟨Nat.le_of_ble_eq_true rfl, Nat.le_of_ble_eq_true rfl⟩ (Nat.le_of_ble_eq_true rfl) dX3_isWord_22 (fun r1 => ?_)
  refine V_icmp_ge (pc := 25) (tgt := 55) hk dX3_isWord_25 rfl ?_ ?_
  · refine V_iconst (pc := 55) (v := 1) hk dX3_isWord_55 rfl ?_
    exact V_zreturn (pc := 56) hk hR rfl dX3_isWord_56
  · refine V_aload_n (pc := 28) hk dX3_isWord_28 0 rfl ?_
    refine g_X3_9 (pc := 29) hk dX3_isWord_29 (fun v3 => ?_)
    refine V_aload_n (pc := 32) hk dX3_isWord_32 0 rfl ?_
    refine g_X3_22 (pc := 33) hk dX3_isWord_33 (fun v4 => ?_)
    refine V_iload_n (pc := 36) hk dX3_isWord_36 2 rfl ?_
    refine V_iadd (pc := 37) hk dX3_isWord_37 ?_
    refine V_baload (pc := 38) hk dX3_isWord_38 (fun v5 => ?_)
    refine V_aload_n (pc := 39) hk dX3_isWord_39 1 rfl ?_
    refine V_iload_n (pc := 40) hk dX3_isWord_40 2 rfl ?_
    refine n_X3_61 (pc := 41) hk (fun b r h => ctJ3_charAt (fl y) (fK y) hk.2.2.2.2.2.2.2.1 b l2 r1.2 r h) ⟨Nat.le_of_ble_eq_true rfl, Nat.le_of_ble_eq_true rfl⟩ (Nat.le_of_ble_eq_true rfl) dX3_isWord_41 (fun r6 => ?_)
    refine V_icmp_eq (pc := 44) (tgt := 49) hk dX3_isWord_44 rfl ?_ ?_
    · refine V_iinc (pc := 49) (v := 1) (lc' := [(2, .int (l2 + 1)), (0, va_rf l0), (1, va_rf l1)]) hk dX3_isWord_49 2 rfl rfl (Nat.le_of_ble_eq_true rfl) (by simp [rf_cat, cat_int, cat_long, cat_ref]) ?_
      refine V_goto (pc := 52) (tgt := 20) hk dX3_isWord_52 rfl ?_
      refine V_pick (lc' := [(0, va_rf l0), (1, va_rf l1), (2, .int (l2 + 1))]) [1, 2, 0] rfl ?_
      exact h20 r6.2 l0 l1 (l2 + 1)
    · refine V_iconst (pc := 47) (v := 0) hk dX3_isWord_47 rfl ?_
      exact V_zreturn (pc := 48) hk hR rfl dX3_isWord_48
theorem eX3_isWord_l20 {y : Fx (Int32 × Wd)} (hk : OkF y RX3 cX3_isWord 3 6 145) (hR : RetM y rvI (some (.boolean))) : ∀ (n : Nat) (w : Wd) (l0 : Option Nat) (l1 : Option Nat) (l2 : Int32), V y w [(0, va_rf l0), (1, va_rf l1), (2, .int l2)] [] 20 (mX3_isWord_l20 n w l0 l1 l2) := by
  intro n
  induction n with
  | zero => intro w l0 l1 l2; exact V_none
  | succ n ih => intro w l0 l1 l2; exact eX3_isWord_b20 hk hR ih w l0 l1 l2
theorem eX3_isWord {y : Fx (Int32 × Wd)} (hk : OkF y RX3 cX3_isWord 3 6 145) (hR : RetM y rvI (some (.boolean))) (this : Nat) (a0 : Option Nat) (w : Wd) : V y w [(0, va_rf (some this)), (1, va_rf a0)] [] 0 (mX3_isWord this a0 w) := by
  unfold mX3_isWord
  refine V_aload_n (pc := 0) hk dX3_isWord_0 0 rfl ?_
  refine g_X3_19 (pc := 1) hk dX3_isWord_1 (fun v1 => ?_)
  refine V_aload_n (pc := 4) hk dX3_isWord_4 0 rfl ?_
  refine g_X3_22 (pc := 5) hk dX3_isWord_5 (fun v2 => ?_)
  refine V_isub (pc := 8) hk dX3_isWord_8 ?_
  refine V_aload_n (pc := 9) hk dX3_isWord_9 1 rfl ?_
  refine n_X3_55 (pc := 10) hk (fun b r h => ctJ3_length (fl y) (fK y) hk.2.2.2.2.2.2.2.1 b w r h) ⟨Nat.le_of_ble_eq_true rfl, Nat.le_of_ble_eq_true rfl⟩ (Nat.le_of_ble_eq_true rfl) dX3_isWord_10 (fun r3 => ?_)
  refine V_icmp_eq (pc := 13) (tgt := 18) hk dX3_isWord_13 rfl ?_ ?_
  · refine V_iconst (pc := 18) (v := 0) hk dX3_isWord_18 rfl ?_
    refine V_istore_n (pc := 19) (lc' := [(2, .int 0), (0, va_rf ((some this))), (1, va_rf a0)]) (i := 2) hk dX3_isWord_19 rfl (Nat.le_of_ble_eq_true rfl) (by simp [rf_cat, cat_int, cat_long, cat_ref]) ?_
    refine V_pick (lc' := [(0, va_rf ((some this))), (1, va_rf a0), (2, .int 0)]) [1, 2, 0] rfl ?_
    exact eX3_isWord_l20 hk hR FU r3.2 ((some this)) a0 0
  · refine V_iconst (pc := 16) (v := 0) hk dX3_isWord_16 rfl ?_
    exact V_zreturn (pc := 17) hk hR rfl dX3_isWord_17
theorem ctX3_isWord (l : Launch) (K : Kx) (hI : Ini K) (b : Nat) (a0 : Option Nat) (w : Wd) : ∀ r, mX3_isWord b a0 w = some r → Ct l K 6 145 yX3_isWord (ws_ yX3_isWord cX3_isWord 3 (some (.boolean))) [.ref b, va_rf a0] w (rvI r.1) r.2 := Ct_of rvI l K hI 6 145 [.ref b, va_rf a0] w (by decide) (lc0 := [(0, .ref b), (1, va_rf a0)]) (by simp [lv_args, rf_cat, cat_int, cat_long, cat_ref]) (lg_len _ _ (by simp [rf_cat, cat_int, cat_long, cat_ref])) (fun y hk hR _ _ hin => eX3_isWord hk hR b a0 w)
noncomputable def mX3_isDigit (a0 : Int32) (w : Wd) : Option (Int32 × Wd) :=
if a0 < 48 then (
(nok (.boolean) 0).bind fun _ => some (0, w))
else (
if 57 < a0 then (
(nok (.boolean) 0).bind fun _ => some (0, w))
else (
(nok (.boolean) 1).bind fun _ => some (1, w)))
theorem eX3_isDigit {y : Fx (Int32 × Wd)} (hk : OkF y RX3 cX3_isDigit 1 2 60) (hR : RetM y rvI (some (.boolean))) (a0 : Int32) (w : Wd) : V y w [(0, .int a0)] [] 0 (mX3_isDigit a0 w) := by
  unfold mX3_isDigit
  refine V_iload_n (pc := 0) hk dX3_isDigit_0 0 rfl ?_
  refine V_bipush (pc := 1) (v := 48) hk dX3_isDigit_1 rfl ?_
  refine V_icmp_lt (pc := 3) (tgt := 16) hk dX3_isDigit_3 rfl ?_ ?_
  · refine V_iconst (pc := 16) (v := 0) hk dX3_isDigit_16 rfl ?_
    exact V_zreturn (pc := 17) hk hR rfl dX3_isDigit_17
  · refine V_iload_n (pc := 6) hk dX3_isDigit_6 0 rfl ?_
    refine V_bipush (pc := 7) (v := 57) hk dX3_isDigit_7 rfl ?_
    refine V_icmp_gt (pc := 9) (tgt := 16) hk dX3_isDigit_9 rfl ?_ ?_
    · refine V_iconst (pc := 16) (v := 0) hk dX3_isDigit_16 rfl ?_
      exact V_zreturn (pc := 17) hk hR rfl dX3_isDigit_17
    · refine V_iconst (pc := 12) (v := 1) hk dX3_isDigit_12 rfl ?_
      refine V_goto (pc := 13) (tgt := 17) hk dX3_isDigit_13 rfl ?_
      exact V_zreturn (pc := 17) hk hR rfl dX3_isDigit_17
theorem ctX3_isDigit (l : Launch) (K : Kx) (hI : Ini K) (a0 : Int32) (w : Wd) : ∀ r, mX3_isDigit a0 w = some r → Ct l K 2 60 yX3_isDigit (ws_ yX3_isDigit cX3_isDigit 1 (some (.boolean))) [.int a0] w (rvI r.1) r.2 := Ct_of rvI l K hI 2 60 [.int a0] w (by decide) (lc0 := [(0, .int a0)]) rfl (Nat.le_of_ble_eq_true rfl) (fun y hk hR _ _ hin => eX3_isDigit hk hR a0 w)
noncomputable def mX3_next_p348 (w : Wd) (l0 : Option Nat) (l1 : Int32) : Option (Unit × Wd) :=
(gI w l0 3 2).bind fun v1 =>
(gI w l0 3 1).bind fun v2 =>
if v2 ≤ v1 then (
some ((), w))
else (
(gR w l0 3 0).bind fun v3 =>
(gI w l0 3 2).bind fun v4 =>
(ba w v3 v4).bind fun v5 =>
if ¬ v5 = 61 then (
some ((), w))
else (
if ¬ l1 = 60 then (
(pf w l0 3 4 (.int 304)).bind fun w6 =>
(gI w6 l0 3 2).bind fun v7 =>
(pf w6 l0 3 2 (.int (v7 + 1))).bind fun w8 =>
some ((), w8))
else (
(pf w l0 3 4 (.int 303)).bind fun w9 =>
(gI w9 l0 3 2).bind fun v10 =>
(pf w9 l0 3 2 (.int (v10 + 1))).bind fun w11 =>
some ((), w11))))
noncomputable def mX3_next_b306 (k306 : Wd → (Option Nat) → Int32 → Int32 → Option (Unit × Wd)) (w : Wd) (l0 : Option Nat) (l1 : Int32) (l2 : Int32) : Option (Unit × Wd) :=
(recv w ((some 297)) 18).bind fun b2 => (cal w (mJ3_length b2 w)).bind fun r1 =>
if r1.1 ≤ l2 then (
if l1 = 60 then (
mX3_next_p348 r1.2 l0 l1)
else (
if ¬ l1 = 62 then (
some ((), r1.2))
else (
mX3_next_p348 r1.2 l0 l1)))
else (
(recv r1.2 ((some 297)) 18).bind fun b4 => (cal r1.2 (mJ3_charAt b4 l2 r1.2)).bind fun r3 =>
if ¬ r3.1 = l1 then (
k306 r3.2 l0 l1 (l2 + 1))
else (
(pf r3.2 l0 3 4 (.int l1)).bind fun w5 =>
k306 w5 l0 l1 (l2 + 1)))
noncomputable def mX3_next_l306 : Nat → Wd → (Option Nat) → Int32 → Int32 → Option (Unit × Wd)
  | 0, _, _, _, _ => none
  | n + 1, w, l0, l1, l2 => mX3_next_b306 (mX3_next_l306 n) w l0 l1 l2
noncomputable def mX3_next_b209 (k209 : Wd → (Option Nat) → Option (Unit × Wd)) (w : Wd) (l0 : Option Nat) : Option (Unit × Wd) :=
(gI w l0 3 2).bind fun v1 =>
(gI w l0 3 1).bind fun v2 =>
if v2 ≤ v1 then (
some ((), w))
else (
(gR w l0 3 0).bind fun v3 =>
(gI w l0 3 2).bind fun v4 =>
(ba w v3 v4).bind fun v5 =>
(cal w (mX3_isDigit v5 w)).bind fun r6 =>
if r6.1 = 0 then (
some ((), r6.2))
else (
(gI r6.2 l0 3 5).bind fun v7 =>
(gR r6.2 l0 3 0).bind fun v8 =>
(gI r6.2 l0 3 2).bind fun v9 =>
(ba r6.2 v8 v9).bind fun v10 =>
(pf r6.2 l0 3 5 (.int (jminI 99999 (((10 * v7) + v10) - 48)))).bind fun w11 =>
(gI w11 l0 3 2).bind fun v12 =>
(pf w11 l0 3 2 (.int (v12 + 1))).bind fun w13 =>
k209 w13 l0))
noncomputable def mX3_next_l209 : Nat → Wd → (Option Nat) → Option (Unit × Wd)
  | 0, _, _ => none
  | n + 1, w, l0 => mX3_next_b209 (mX3_next_l209 n) w l0
noncomputable def mX3_next_b144 (k144 : Wd → (Option Nat) → Int32 → Option (Unit × Wd)) (w : Wd) (l0 : Option Nat) (l1 : Int32) : Option (Unit × Wd) :=
(alen w ((some 262))).bind fun v1 =>
if v1 ≤ l1 then (
some ((), w))
else (
(aa w ((some 262)) l1).bind fun v2 =>
(recv w l0 3).bind fun b4 => (cal w (mX3_isWord b4 v2 w)).bind fun r3 =>
if r3.1 = 0 then (
k144 r3.2 l0 (l1 + 1))
else (
(pf r3.2 l0 3 4 (.int (200 + l1))).bind fun w5 =>
k144 w5 l0 (l1 + 1)))
noncomputable def mX3_next_l144 : Nat → Wd → (Option Nat) → Int32 → Option (Unit × Wd)
  | 0, _, _, _ => none
  | n + 1, w, l0, l1 => mX3_next_b144 (mX3_next_l144 n) w l0 l1
noncomputable def mX3_next_b96 (k96 : Wd → (Option Nat) → Option (Unit × Wd)) (w : Wd) (l0 : Option Nat) : Option (Unit × Wd) :=
(gI w l0 3 2).bind fun v1 =>
(gI w l0 3 1).bind fun v2 =>
if v2 ≤ v1 then (
(pf w l0 3 4 (.int 302)).bind fun w3 =>
mX3_next_l144 FU w3 l0 0)
else (
(gR w l0 3 0).bind fun v4 =>
(gI w l0 3 2).bind fun v5 =>
(ba w v4 v5).bind fun v6 =>
(cal w (mX3_isLetter v6 w)).bind fun r7 =>
if r7.1 = 0 then (
(pf r7.2 l0 3 4 (.int 302)).bind fun w8 =>
mX3_next_l144 FU w8 l0 0)
else (
(gI r7.2 l0 3 2).bind fun v9 =>
(pf r7.2 l0 3 2 (.int (v9 + 1))).bind fun w10 =>
k96 w10 l0))
noncomputable def mX3_next_l96 : Nat → Wd → (Option Nat) → Option (Unit × Wd)
  | 0, _, _ => none
  | n + 1, w, l0 => mX3_next_b96 (mX3_next_l96 n) w l0
noncomputable def mX3_next_p52 (w : Wd) (l0 : Option Nat) : Option (Unit × Wd) :=
(gI w l0 3 2).bind fun v1 =>
(pf w l0 3 3 (.int v1)).bind fun w2 =>
(gI w2 l0 3 2).bind fun v3 =>
(gI w2 l0 3 1).bind fun v4 =>
if ¬ v3 = v4 then (
(gR w2 l0 3 0).bind fun v5 =>
(gI w2 l0 3 2).bind fun v6 =>
(ba w2 v5 v6).bind fun v7 =>
(cal w2 (mX3_isLetter v7 w2)).bind fun r8 =>
if r8.1 = 0 then (
(gR r8.2 l0 3 0).bind fun v9 =>
(gI r8.2 l0 3 2).bind fun v10 =>
(ba r8.2 v9 v10).bind fun v11 =>
(cal r8.2 (mX3_isDigit v11 r8.2)).bind fun r12 =>
if r12.1 = 0 then (
(gR r12.2 l0 3 0).bind fun v13 =>
(gI r12.2 l0 3 2).bind fun v14 =>
(ba r12.2 v13 v14).bind fun v15 =>
(gI r12.2 l0 3 2).bind fun v16 =>
(pf r12.2 l0 3 2 (.int (v16 + 1))).bind fun w17 =>
(pf w17 l0 3 4 (.int 302)).bind fun w18 =>
mX3_next_l306 FU w18 l0 v15 0)
else (
(pf r12.2 l0 3 4 (.int 300)).bind fun w19 =>
(pf w19 l0 3 5 (.int 0)).bind fun w20 =>
mX3_next_l209 FU w20 l0))
else (
mX3_next_l96 FU r8.2 l0))
else (
(pf w2 l0 3 4 (.int 301)).bind fun w21 =>
some ((), w21))
noncomputable def mX3_next_b0 (k0 : Wd → (Option Nat) → Option (Unit × Wd)) (w : Wd) (l0 : Option Nat) : Option (Unit × Wd) :=
(gI w l0 3 2).bind fun v1 =>
(gI w l0 3 1).bind fun v2 =>
if v2 ≤ v1 then (
mX3_next_p52 w l0)
else (
(gR w l0 3 0).bind fun v3 =>
(gI w l0 3 2).bind fun v4 =>
(ba w v3 v4).bind fun v5 =>
if v5 = 32 then (
(gI w l0 3 2).bind fun v6 =>
(pf w l0 3 2 (.int (v6 + 1))).bind fun w7 =>
k0 w7 l0)
else (
(gR w l0 3 0).bind fun v8 =>
(gI w l0 3 2).bind fun v9 =>
(ba w v8 v9).bind fun v10 =>
if ¬ v10 = 10 then (
mX3_next_p52 w l0)
else (
(gI w l0 3 2).bind fun v11 =>
(pf w l0 3 2 (.int (v11 + 1))).bind fun w12 =>
k0 w12 l0)))
noncomputable def mX3_next_l0 : Nat → Wd → (Option Nat) → Option (Unit × Wd)
  | 0, _, _ => none
  | n + 1, w, l0 => mX3_next_b0 (mX3_next_l0 n) w l0
noncomputable def mX3_next (this : Nat) (w : Wd) : Option (Unit × Wd) := mX3_next_l0 FU w (some this)
theorem eX3_next_p348 {y : Fx (Unit × Wd)} (hk : OkF y RX3 cX3_next 3 7 167) (hR : RetM y rvV none) (w : Wd) (l0 : Option Nat) (l1 : Int32) : V y w [(0, va_rf l0), (1, .int l1)] [] 348 (mX3_next_p348 w l0 l1) := by
  unfold mX3_next_p348
  refine V_aload_n (pc := 348) hk dX3_next_348 0 rfl ?_
  refine g_X3_19 (pc := 349) hk dX3_next_349 (fun v1 => ?_)
  refine V_aload_n (pc := 352) hk dX3_next_352 0 rfl ?_
  refine g_X3_15 (pc := 353) hk dX3_next_353 (fun v2 => ?_)
  refine V_icmp_ge (pc := 356) (tgt := 402) hk dX3_next_356 rfl ?_ ?_
  · exact V_return (pc := 402) hk hR rfl dX3_next_402
  · refine V_aload_n (pc := 359) hk dX3_next_359 0 rfl ?_
    refine g_X3_9 (pc := 360) hk dX3_next_360 (fun v3 => ?_)
    refine V_aload_n (pc := 363) hk dX3_next_363 0 rfl ?_
    refine g_X3_19 (pc := 364) hk dX3_next_364 (fun v4 => ?_)
    refine V_baload (pc := 367) hk dX3_next_367 (fun v5 => ?_)
    refine V_bipush (pc := 368) (v := 61) hk dX3_next_368 rfl ?_
    refine V_icmp_ne (pc := 370) (tgt := 402) hk dX3_next_370 rfl ?_ ?_
    · exact V_return (pc := 402) hk hR rfl dX3_next_402
    · refine V_aload_n (pc := 373) hk dX3_next_373 0 rfl ?_
      refine V_iload_n (pc := 374) hk dX3_next_374 1 rfl ?_
      refine V_bipush (pc := 375) (v := 60) hk dX3_next_375 rfl ?_
      refine V_icmp_ne (pc := 377) (tgt := 386) hk dX3_next_377 rfl ?_ ?_
      · refine V_sipush (pc := 386) (v := 304) hk dX3_next_386 rfl ?_
        refine p_X3_25 (pc := 389) hk dX3_next_389 (fun w6 => ?_)
        refine V_aload_n (pc := 392) hk dX3_next_392 0 rfl ?_
        refine V_dup (pc := 393) hk dX3_next_393 (rf_cat _) ?_
        refine g_X3_19 (pc := 394) hk dX3_next_394 (fun v7 => ?_)
        refine V_iconst (pc := 397) (v := 1) hk dX3_next_397 rfl ?_
        refine V_iadd (pc := 398) hk dX3_next_398 ?_
        refine p_X3_19 (pc := 399) hk dX3_next_399 (fun w8 => ?_)
        exact V_return (pc := 402) hk hR rfl dX3_next_402
      · refine V_sipush (pc := 380) (v := 303) hk dX3_next_380 rfl ?_
        refine V_goto (pc := 383) (tgt := 389) hk dX3_next_383 rfl ?_
        refine p_X3_25 (pc := 389) hk dX3_next_389 (fun w9 => ?_)
        refine V_aload_n (pc := 392) hk dX3_next_392 0 rfl ?_
        refine V_dup (pc := 393) hk dX3_next_393 (rf_cat _) ?_
        refine g_X3_19 (pc := 394) hk dX3_next_394 (fun v10 => ?_)
        refine V_iconst (pc := 397) (v := 1) hk dX3_next_397 rfl ?_
        refine V_iadd (pc := 398) hk dX3_next_398 ?_
        refine p_X3_19 (pc := 399) hk dX3_next_399 (fun w11 => ?_)
        exact V_return (pc := 402) hk hR rfl dX3_next_402
theorem eX3_next_b306 {y : Fx (Unit × Wd)} (hk : OkF y RX3 cX3_next 3 7 167) (hR : RetM y rvV none) {k306 : Wd → (Option Nat) → Int32 → Int32 → Option (Unit × Wd)} (h306 : ∀ (w : Wd) (l0 : Option Nat) (l1 : Int32) (l2 : Int32), V y w [(0, va_rf l0), (1, .int l1), (2, .int l2)] [] 306 (k306 w l0 l1 l2)) (w : Wd) (l0 : Option Nat) (l1 : Int32) (l2 : Int32) : V y w [(0, va_rf l0), (1, .int l1), (2, .int l2)] [] 306 (mX3_next_b306 k306 w l0 l1 l2) := by
  unfold mX3_next_b306
  refine V_iload_n (pc := 306) hk dX3_next_306 2 rfl ?_
  refine V_ldcS (pc := 307) hk dX3_next_307 ?_
  refine n_X3_55 (pc := 309) hk (fun b r h => ctJ3_length (fl y) (fK y) hk.2.2.2.2.2.2.2.1 b w r h) ⟨Nat.le_of_ble_eq_true rfl, Nat.le_of_ble_eq_true rfl⟩ (Nat.le_of_ble_eq_true rfl) dX3_next_309 (fun r1 => ?_)
  refine V_icmp_ge (pc := 312) (tgt := 336) hk dX3_next_312 rfl ?_ ?_
  · refine V_iload_n (pc := 336) hk dX3_next_336 1 rfl ?_
    refine V_bipush (pc := 337) (v := 60) hk dX3_next_337 rfl ?_
    refine V_icmp_eq (pc := 339) (tgt := 348) hk dX3_next_339 rfl ?_ ?_
    · refine V_pick (lc' := [(0, va_rf l0), (1, .int l1)]) [0, 1] rfl ?_
      exact eX3_next_p348 hk hR r1.2 l0 l1
    · refine V_iload_n (pc := 342) hk dX3_next_342 1 rfl ?_
      refine V_bipush (pc := 343) (v := 62) hk dX3_next_343 rfl ?_
      refine V_icmp_ne (pc := 345) (tgt := 402) hk dX3_next_345 rfl ?_ ?_
      · exact V_return (pc := 402) hk hR rfl dX3_next_402
      · refine V_pick (lc' := [(0, va_rf l0), (1, .int l1)]) [0, 1] rfl ?_
        exact eX3_next_p348 hk hR r1.2 l0 l1
  · refine V_ldcS (pc := 315) hk dX3_next_315 ?_
    refine V_iload_n (pc := 317) hk dX3_next_317 2 rfl ?_
    refine n_X3_61 (pc := 318) hk (fun b r h => ctJ3_charAt (fl y) (fK y) hk.2.2.2.2.2.2.2.1 b l2 r1.2 r h) ⟨Nat.le_of_ble_eq_true rfl, Nat.le_of_ble_eq_true rfl⟩ (Nat.le_of_ble_eq_true rfl) dX3_next_318 (fun r3 => ?_)
    refine V_iload_n (pc := 321) hk dX3_next_321 1 rfl ?_
    refine V_icmp_ne (pc := 322) (tgt := 330) hk dX3_next_322 rfl ?_ ?_
    · refine V_iinc (pc := 330) (v := 1) (lc' := [(2, .int (l2 + 1)), (0, va_rf l0), (1, .int l1)]) hk dX3_next_330 2 rfl rfl (Nat.le_of_ble_eq_true rfl) rfl ?_
      refine V_goto (pc := 333) (tgt := 306) hk dX3_next_333 rfl ?_
      refine V_pick (lc' := [(0, va_rf l0), (1, .int l1), (2, .int (l2 + 1))]) [1, 2, 0] rfl ?_
      exact h306 r3.2 l0 l1 (l2 + 1)
    · refine V_aload_n (pc := 325) hk dX3_next_325 0 rfl ?_
      refine V_iload_n (pc := 326) hk dX3_next_326 1 rfl ?_
      refine p_X3_25 (pc := 327) hk dX3_next_327 (fun w5 => ?_)
      refine V_iinc (pc := 330) (v := 1) (lc' := [(2, .int (l2 + 1)), (0, va_rf l0), (1, .int l1)]) hk dX3_next_330 2 rfl rfl (Nat.le_of_ble_eq_true rfl) rfl ?_
      refine V_goto (pc := 333) (tgt := 306) hk dX3_next_333 rfl ?_
      refine V_pick (lc' := [(0, va_rf l0), (1, .int l1), (2, .int (l2 + 1))]) [1, 2, 0] rfl ?_
      exact h306 w5 l0 l1 (l2 + 1)
theorem eX3_next_l306 {y : Fx (Unit × Wd)} (hk : OkF y RX3 cX3_next 3 7 167) (hR : RetM y rvV none) : ∀ (n : Nat) (w : Wd) (l0 : Option Nat) (l1 : Int32) (l2 : Int32), V y w [(0, va_rf l0), (1, .int l1), (2, .int l2)] [] 306 (mX3_next_l306 n w l0 l1 l2) := by
  intro n
  induction n with
  | zero => intro w l0 l1 l2; exact V_none
  | succ n ih => intro w l0 l1 l2; exact eX3_next_b306 hk hR ih w l0 l1 l2
theorem eX3_next_b209 {y : Fx (Unit × Wd)} (hk : OkF y RX3 cX3_next 3 7 167) (hR : RetM y rvV none) {k209 : Wd → (Option Nat) → Option (Unit × Wd)} (h209 : ∀ (w : Wd) (l0 : Option Nat), V y w [(0, va_rf l0)] [] 209 (k209 w l0)) (w : Wd) (l0 : Option Nat) : V y w [(0, va_rf l0)] [] 209 (mX3_next_b209 k209 w l0) := by
  unfold mX3_next_b209
  refine V_aload_n (pc := 209) hk dX3_next_209 0 rfl ?_
  refine g_X3_19 (pc := 210) hk dX3_next_210 (fun v1 => ?_)
  refine V_aload_n (pc := 213) hk dX3_next_213 0 rfl ?_
  refine g_X3_15 (pc := 214) hk dX3_next_214 (fun v2 => ?_)
  refine V_icmp_ge (pc := 217) (tgt := 402) hk dX3_next_217 rfl ?_ ?_
  · exact V_return (pc := 402) hk hR rfl dX3_next_402
  · refine V_aload_n (pc := 220) hk dX3_next_220 0 rfl ?_
    refine g_X3_9 (pc := 221) hk dX3_next_221 (fun v3 => ?_)
    refine V_aload_n (pc := 224) hk dX3_next_224 0 rfl ?_
    refine g_X3_19 (pc := 225) hk dX3_next_225 (fun v4 => ?_)
    refine V_baload (pc := 228) hk dX3_next_228 (fun v5 => ?_)
    refine n_X3_40 (pc := 229) hk (fun r h => ctX3_isDigit (fl y) (fK y) hk.2.2.2.2.2.2.2.1 v5 w r h) ⟨Nat.le_of_ble_eq_true rfl, Nat.le_of_ble_eq_true rfl⟩ (Nat.le_of_ble_eq_true rfl) dX3_next_229 (fun r6 => ?_)
    refine V_if_eq (pc := 232) (tgt := 402) hk dX3_next_232 rfl ?_ ?_
    · exact V_return (pc := 402) hk hR rfl dX3_next_402
    · refine V_aload_n (pc := 235) hk dX3_next_235 0 rfl ?_
      refine V_ldc (pc := 236) (v := 99999) hk dX3_next_236 q470 ?_
      refine V_bipush (pc := 238) (v := 10) hk dX3_next_238 rfl ?_
      refine V_aload_n (pc := 240) hk dX3_next_240 0 rfl ?_
      refine g_X3_43 (pc := 241) hk dX3_next_241 (fun v7 => ?_)
      refine V_imul (pc := 244) hk dX3_next_244 ?_
      refine V_aload_n (pc := 245) hk dX3_next_245 0 rfl ?_
      refine g_X3_9 (pc := 246) hk dX3_next_246 (fun v8 => ?_)
      refine V_aload_n (pc := 249) hk dX3_next_249 0 rfl ?_
      refine g_X3_19 (pc := 250) hk dX3_next_250 (fun v9 => ?_)
      refine V_baload (pc := 253) hk dX3_next_253 (fun v10 => ?_)
      refine V_iadd (pc := 254) hk dX3_next_254 ?_
      refine V_bipush (pc := 255) (v := 48) hk dX3_next_255 rfl ?_
      refine V_isub (pc := 257) hk dX3_next_257 ?_
      refine V_mmin (pc := 258) hk q471 ⟨Nat.le_of_ble_eq_true rfl, Nat.le_of_ble_eq_true rfl⟩ (by simp [rf_cat, cat_int, cat_long, cat_ref]) dX3_next_258 ?_
      refine p_X3_43 (pc := 261) hk dX3_next_261 (fun w11 => ?_)
      refine V_aload_n (pc := 264) hk dX3_next_264 0 rfl ?_
      refine V_dup (pc := 265) hk dX3_next_265 (rf_cat _) ?_
      refine g_X3_19 (pc := 266) hk dX3_next_266 (fun v12 => ?_)
      refine V_iconst (pc := 269) (v := 1) hk dX3_next_269 rfl ?_
      refine V_iadd (pc := 270) hk dX3_next_270 ?_
      refine p_X3_19 (pc := 271) hk dX3_next_271 (fun w13 => ?_)
      refine V_goto (pc := 274) (tgt := 209) hk dX3_next_274 rfl ?_
      exact h209 w13 l0
theorem eX3_next_l209 {y : Fx (Unit × Wd)} (hk : OkF y RX3 cX3_next 3 7 167) (hR : RetM y rvV none) : ∀ (n : Nat) (w : Wd) (l0 : Option Nat), V y w [(0, va_rf l0)] [] 209 (mX3_next_l209 n w l0) := by
  intro n
  induction n with
  | zero => intro w l0; exact V_none
  | succ n ih => intro w l0; exact eX3_next_b209 hk hR ih w l0
theorem eX3_next_b144 {y : Fx (Unit × Wd)} (hk : OkF y RX3 cX3_next 3 7 167) (hR : RetM y rvV none) {k144 : Wd → (Option Nat) → Int32 → Option (Unit × Wd)} (h144 : ∀ (w : Wd) (l0 : Option Nat) (l1 : Int32), V y w [(0, va_rf l0), (1, .int l1)] [] 144 (k144 w l0 l1)) (w : Wd) (l0 : Option Nat) (l1 : Int32) : V y w [(0, va_rf l0), (1, .int l1)] [] 144 (mX3_next_b144 k144 w l0 l1) := by
  unfold mX3_next_b144
  refine V_iload_n (pc := 144) hk dX3_next_144 1 rfl ?_
  refine V_gets (pc := 145) (v := va_rf (some 262)) (C := "HookSwings$Tokens") hk (by decide +kernel) q413 (fun _ h => h) dX3_next_145 ?_
  refine V_alen (pc := 148) hk dX3_next_148 (fun v1 => ?_)
  refine V_icmp_ge (pc := 149) (tgt := 179) hk dX3_next_149 rfl ?_ ?_
  · refine V_goto (pc := 179) (tgt := 402) hk dX3_next_179 rfl ?_
    exact V_return (pc := 402) hk hR rfl dX3_next_402
  · refine V_aload_n (pc := 152) hk dX3_next_152 0 rfl ?_
    refine V_gets (pc := 153) (v := va_rf (some 262)) (C := "HookSwings$Tokens") hk (by decide +kernel) q413 (fun _ h => h) dX3_next_153 ?_
    refine V_iload_n (pc := 156) hk dX3_next_156 1 rfl ?_
    refine V_aaload (pc := 157) hk dX3_next_157 (fun v2 => ?_)
    refine n_X3_36 (pc := 158) hk (fun b r h => ctX3_isWord (fl y) (fK y) hk.2.2.2.2.2.2.2.1 b v2 w r h) ⟨Nat.le_of_ble_eq_true rfl, Nat.le_of_ble_eq_true rfl⟩ (Nat.le_of_ble_eq_true rfl) dX3_next_158 (fun r3 => ?_)
    refine V_if_eq (pc := 161) (tgt := 173) hk dX3_next_161 rfl ?_ ?_
    · refine V_iinc (pc := 173) (v := 1) (lc' := [(1, .int (l1 + 1)), (0, va_rf l0)]) hk dX3_next_173 1 rfl rfl (Nat.le_of_ble_eq_true rfl) (by simp [rf_cat, cat_int, cat_long, cat_ref]) ?_
      refine V_goto (pc := 176) (tgt := 144) hk dX3_next_176 rfl ?_
      refine V_pick (lc' := [(0, va_rf l0), (1, .int (l1 + 1))]) [1, 0] rfl ?_
      exact h144 r3.2 l0 (l1 + 1)
    · refine V_aload_n (pc := 164) hk dX3_next_164 0 rfl ?_
      refine V_sipush (pc := 165) (v := 200) hk dX3_next_165 rfl ?_
      refine V_iload_n (pc := 168) hk dX3_next_168 1 rfl ?_
      refine V_iadd (pc := 169) hk dX3_next_169 ?_
      refine p_X3_25 (pc := 170) hk dX3_next_170 (fun w5 => ?_)
      refine V_iinc (pc := 173) (v := 1) (lc' := [(1, .int (l1 + 1)), (0, va_rf l0)]) hk dX3_next_173 1 rfl rfl (Nat.le_of_ble_eq_true rfl) (by simp [rf_cat, cat_int, cat_long, cat_ref]) ?_
      refine V_goto (pc := 176) (tgt := 144) hk dX3_next_176 rfl ?_
      refine V_pick (lc' := [(0, va_rf l0), (1, .int (l1 + 1))]) [1, 0] rfl ?_
      exact h144 w5 l0 (l1 + 1)
theorem eX3_next_l144 {y : Fx (Unit × Wd)} (hk : OkF y RX3 cX3_next 3 7 167) (hR : RetM y rvV none) : ∀ (n : Nat) (w : Wd) (l0 : Option Nat) (l1 : Int32), V y w [(0, va_rf l0), (1, .int l1)] [] 144 (mX3_next_l144 n w l0 l1) := by
  intro n
  induction n with
  | zero => intro w l0 l1; exact V_none
  | succ n ih => intro w l0 l1; exact eX3_next_b144 hk hR ih w l0 l1
theorem eX3_next_b96 {y : Fx (Unit × Wd)} (hk : OkF y RX3 cX3_next 3 7 167) (hR : RetM y rvV none) {k96 : Wd → (Option Nat) → Option (Unit × Wd)} (h96 : ∀ (w : Wd) (l0 : Option Nat), V y w [(0, va_rf l0)] [] 96 (k96 w l0)) (w : Wd) (l0 : Option Nat) : V y w [(0, va_rf l0)] [] 96 (mX3_next_b96 k96 w l0) := by
  unfold mX3_next_b96
  refine V_aload_n (pc := 96) hk dX3_next_96 0 rfl ?_
  refine g_X3_19 (pc := 97) hk dX3_next_97 (fun v1 => ?_)
  refine V_aload_n (pc := 100) hk dX3_next_100 0 rfl ?_
  refine g_X3_15 (pc := 101) hk dX3_next_101 (fun v2 => ?_)
  refine V_icmp_ge (pc := 104) (tgt := 135) hk dX3_next_104 rfl ?_ ?_
  · refine V_aload_n (pc := 135) hk dX3_next_135 0 rfl ?_
    refine V_sipush (pc := 136) (v := 302) hk dX3_next_136 rfl ?_
    refine p_X3_25 (pc := 139) hk dX3_next_139 (fun w3 => ?_)
    refine V_iconst (pc := 142) (v := 0) hk dX3_next_142 rfl ?_
    refine V_istore_n (pc := 143) (lc' := [(1, .int 0), (0, va_rf l0)]) (i := 1) hk dX3_next_143 rfl (Nat.le_of_ble_eq_true rfl) (by simp [rf_cat, cat_int, cat_long, cat_ref]) ?_
    refine V_pick (lc' := [(0, va_rf l0), (1, .int 0)]) [1, 0] rfl ?_
    exact eX3_next_l144 hk hR FU w3 l0 0
  · refine V_aload_n (pc := 107) hk dX3_next_107 0 rfl ?_
    refine g_X3_9 (pc := 108) hk dX3_next_108 (fun v4 => ?_)
    refine V_aload_n (pc := 111) hk dX3_next_111 0 rfl ?_
    refine g_X3_19 (pc := 112) hk dX3_next_112 (fun v5 => ?_)
    refine V_baload (pc := 115) hk dX3_next_115 (fun v6 => ?_)
    refine n_X3_28 (pc := 116) hk (fun r h => ctX3_isLetter (fl y) (fK y) hk.2.2.2.2.2.2.2.1 v6 w r h) ⟨Nat.le_of_ble_eq_true rfl, Nat.le_of_ble_eq_true rfl⟩ (Nat.le_of_ble_eq_true rfl) dX3_next_116 (fun r7 => ?_)
    refine V_if_eq (pc := 119) (tgt := 135) hk dX3_next_119 rfl ?_ ?_
    · refine V_aload_n (pc := 135) hk dX3_next_135 0 rfl ?_
      refine V_sipush (pc := 136) (v := 302) hk dX3_next_136 rfl ?_
      refine p_X3_25 (pc := 139) hk dX3_next_139 (fun w8 => ?_)
      refine V_iconst (pc := 142) (v := 0) hk dX3_next_142 rfl ?_
      refine V_istore_n (pc := 143) (lc' := [(1, .int 0), (0, va_rf l0)]) (i := 1) hk dX3_next_143 rfl (Nat.le_of_ble_eq_true rfl) (by simp [rf_cat, cat_int, cat_long, cat_ref]) ?_
      refine V_pick (lc' := [(0, va_rf l0), (1, .int 0)]) [1, 0] rfl ?_
      exact eX3_next_l144 hk hR FU w8 l0 0
    · refine V_aload_n (pc := 122) hk dX3_next_122 0 rfl ?_
      refine V_dup (pc := 123) hk dX3_next_123 (rf_cat _) ?_
      refine g_X3_19 (pc := 124) hk dX3_next_124 (fun v9 => ?_)
      refine V_iconst (pc := 127) (v := 1) hk dX3_next_127 rfl ?_
      refine V_iadd (pc := 128) hk dX3_next_128 ?_
      refine p_X3_19 (pc := 129) hk dX3_next_129 (fun w10 => ?_)
      refine V_goto (pc := 132) (tgt := 96) hk dX3_next_132 rfl ?_
      exact h96 w10 l0
theorem eX3_next_l96 {y : Fx (Unit × Wd)} (hk : OkF y RX3 cX3_next 3 7 167) (hR : RetM y rvV none) : ∀ (n : Nat) (w : Wd) (l0 : Option Nat), V y w [(0, va_rf l0)] [] 96 (mX3_next_l96 n w l0) := by
  intro n
  induction n with
  | zero => intro w l0; exact V_none
  | succ n ih => intro w l0; exact eX3_next_b96 hk hR ih w l0
theorem eX3_next_p52 {y : Fx (Unit × Wd)} (hk : OkF y RX3 cX3_next 3 7 167) (hR : RetM y rvV none) (w : Wd) (l0 : Option Nat) : V y w [(0, va_rf l0)] [] 52 (mX3_next_p52 w l0) := by
  unfold mX3_next_p52
  refine V_aload_n (pc := 52) hk dX3_next_52 0 rfl ?_
  refine V_aload_n (pc := 53) hk dX3_next_53 0 rfl ?_
  refine g_X3_19 (pc := 54) hk dX3_next_54 (fun v1 => ?_)
  refine p_X3_22 (pc := 57) hk dX3_next_57 (fun w2 => ?_)
  refine V_aload_n (pc := 60) hk dX3_next_60 0 rfl ?_
  refine g_X3_19 (pc := 61) hk dX3_next_61 (fun v3 => ?_)
  refine V_aload_n (pc := 64) hk dX3_next_64 0 rfl ?_
  refine g_X3_15 (pc := 65) hk dX3_next_65 (fun v4 => ?_)
  refine V_icmp_ne (pc := 68) (tgt := 81) hk dX3_next_68 rfl ?_ ?_
  · refine V_aload_n (pc := 81) hk dX3_next_81 0 rfl ?_
    refine g_X3_9 (pc := 82) hk dX3_next_82 (fun v5 => ?_)
    refine V_aload_n (pc := 85) hk dX3_next_85 0 rfl ?_
    refine g_X3_19 (pc := 86) hk dX3_next_86 (fun v6 => ?_)
    refine V_baload (pc := 89) hk dX3_next_89 (fun v7 => ?_)
    refine n_X3_28 (pc := 90) hk (fun r h => ctX3_isLetter (fl y) (fK y) hk.2.2.2.2.2.2.2.1 v7 w2 r h) ⟨Nat.le_of_ble_eq_true rfl, Nat.le_of_ble_eq_true rfl⟩ (Nat.le_of_ble_eq_true rfl) dX3_next_90 (fun r8 => ?_)
    refine V_if_eq (pc := 93) (tgt := 182) hk dX3_next_93 rfl ?_ ?_
    · refine V_aload_n (pc := 182) hk dX3_next_182 0 rfl ?_
      refine g_X3_9 (pc := 183) hk dX3_next_183 (fun v9 => ?_)
      refine V_aload_n (pc := 186) hk dX3_next_186 0 rfl ?_
      refine g_X3_19 (pc := 187) hk dX3_next_187 (fun v10 => ?_)
      refine V_baload (pc := 190) hk dX3_next_190 (fun v11 => ?_)
      refine n_X3_40 (pc := 191) hk (fun r h => ctX3_isDigit (fl y) (fK y) hk.2.2.2.2.2.2.2.1 v11 r8.2 r h) ⟨Nat.le_of_ble_eq_true rfl, Nat.le_of_ble_eq_true rfl⟩ (Nat.le_of_ble_eq_true rfl) dX3_next_191 (fun r12 => ?_)
      refine V_if_eq (pc := 194) (tgt := 277) hk dX3_next_194 rfl ?_ ?_
      · refine V_aload_n (pc := 277) hk dX3_next_277 0 rfl ?_
        refine g_X3_9 (pc := 278) hk dX3_next_278 (fun v13 => ?_)
        refine V_aload_n (pc := 281) hk dX3_next_281 0 rfl ?_
        refine g_X3_19 (pc := 282) hk dX3_next_282 (fun v14 => ?_)
        refine V_baload (pc := 285) hk dX3_next_285 (fun v15 => ?_)
        refine V_istore_n (pc := 286) (lc' := [(1, .int v15), (0, va_rf l0)]) (i := 1) hk dX3_next_286 rfl (Nat.le_of_ble_eq_true rfl) (by simp [rf_cat, cat_int, cat_long, cat_ref]) ?_
        refine V_aload_n (pc := 287) hk dX3_next_287 1 rfl ?_
        refine V_dup (pc := 288) hk dX3_next_288 (rf_cat _) ?_
        refine g_X3_19 (pc := 289) hk dX3_next_289 (fun v16 => ?_)
        refine V_iconst (pc := 292) (v := 1) hk dX3_next_292 rfl ?_
        refine V_iadd (pc := 293) hk dX3_next_293 ?_
        refine p_X3_19 (pc := 294) hk dX3_next_294 (fun w17 => ?_)
        refine V_aload_n (pc := 297) hk dX3_next_297 1 rfl ?_
        refine V_sipush (pc := 298) (v := 302) hk dX3_next_298 rfl ?_
        refine p_X3_25 (pc := 301) hk dX3_next_301 (fun w18 => ?_)
        refine V_iconst (pc := 304) (v := 0) hk dX3_next_304 rfl ?_
        refine V_istore_n (pc := 305) (lc' := [(2, .int 0), (1, .int v15), (0, va_rf l0)]) (i := 2) hk dX3_next_305 rfl (Nat.le_of_ble_eq_true rfl) rfl ?_
        refine V_pick (lc' := [(0, va_rf l0), (1, .int v15), (2, .int 0)]) [2, 1, 0] rfl ?_
        exact eX3_next_l306 hk hR FU w18 l0 v15 0
      · refine V_aload_n (pc := 197) hk dX3_next_197 0 rfl ?_
        refine V_sipush (pc := 198) (v := 300) hk dX3_next_198 rfl ?_
        refine p_X3_25 (pc := 201) hk dX3_next_201 (fun w19 => ?_)
        refine V_aload_n (pc := 204) hk dX3_next_204 0 rfl ?_
        refine V_iconst (pc := 205) (v := 0) hk dX3_next_205 rfl ?_
        refine p_X3_43 (pc := 206) hk dX3_next_206 (fun w20 => ?_)
        exact eX3_next_l209 hk hR FU w20 l0
    · exact eX3_next_l96 hk hR FU r8.2 l0
  · refine V_aload_n (pc := 71) hk dX3_next_71 0 rfl ?_
    refine V_sipush (pc := 72) (v := 301) hk dX3_next_72 rfl ?_
    refine p_X3_25 (pc := 75) hk dX3_next_75 (fun w21 => ?_)
    refine V_goto (pc := 78) (tgt := 402) hk dX3_next_78 rfl ?_
    exact V_return (pc := 402) hk hR rfl dX3_next_402
theorem eX3_next_b0 {y : Fx (Unit × Wd)} (hk : OkF y RX3 cX3_next 3 7 167) (hR : RetM y rvV none) {k0 : Wd → (Option Nat) → Option (Unit × Wd)} (h0 : ∀ (w : Wd) (l0 : Option Nat), V y w [(0, va_rf l0)] [] 0 (k0 w l0)) (w : Wd) (l0 : Option Nat) : V y w [(0, va_rf l0)] [] 0 (mX3_next_b0 k0 w l0) := by
  unfold mX3_next_b0
  refine V_aload_n (pc := 0) hk dX3_next_0 0 rfl ?_
  refine g_X3_19 (pc := 1) hk dX3_next_1 (fun v1 => ?_)
  refine V_aload_n (pc := 4) hk dX3_next_4 0 rfl ?_
  refine g_X3_15 (pc := 5) hk dX3_next_5 (fun v2 => ?_)
  refine V_icmp_ge (pc := 8) (tgt := 52) hk dX3_next_8 rfl ?_ ?_
  · exact eX3_next_p52 hk hR w l0
  · refine V_aload_n (pc := 11) hk dX3_next_11 0 rfl ?_
    refine g_X3_9 (pc := 12) hk dX3_next_12 (fun v3 => ?_)
    refine V_aload_n (pc := 15) hk dX3_next_15 0 rfl ?_
    refine g_X3_19 (pc := 16) hk dX3_next_16 (fun v4 => ?_)
    refine V_baload (pc := 19) hk dX3_next_19 (fun v5 => ?_)
    refine V_bipush (pc := 20) (v := 32) hk dX3_next_20 rfl ?_
    refine V_icmp_eq (pc := 22) (tgt := 39) hk dX3_next_22 rfl ?_ ?_
    · refine V_aload_n (pc := 39) hk dX3_next_39 0 rfl ?_
      refine V_dup (pc := 40) hk dX3_next_40 (rf_cat _) ?_
      refine g_X3_19 (pc := 41) hk dX3_next_41 (fun v6 => ?_)
      refine V_iconst (pc := 44) (v := 1) hk dX3_next_44 rfl ?_
      refine V_iadd (pc := 45) hk dX3_next_45 ?_
      refine p_X3_19 (pc := 46) hk dX3_next_46 (fun w7 => ?_)
      refine V_goto (pc := 49) (tgt := 0) hk dX3_next_49 rfl ?_
      exact h0 w7 l0
    · refine V_aload_n (pc := 25) hk dX3_next_25 0 rfl ?_
      refine g_X3_9 (pc := 26) hk dX3_next_26 (fun v8 => ?_)
      refine V_aload_n (pc := 29) hk dX3_next_29 0 rfl ?_
      refine g_X3_19 (pc := 30) hk dX3_next_30 (fun v9 => ?_)
      refine V_baload (pc := 33) hk dX3_next_33 (fun v10 => ?_)
      refine V_bipush (pc := 34) (v := 10) hk dX3_next_34 rfl ?_
      refine V_icmp_ne (pc := 36) (tgt := 52) hk dX3_next_36 rfl ?_ ?_
      · exact eX3_next_p52 hk hR w l0
      · refine V_aload_n (pc := 39) hk dX3_next_39 0 rfl ?_
        refine V_dup (pc := 40) hk dX3_next_40 (rf_cat _) ?_
        refine g_X3_19 (pc := 41) hk dX3_next_41 (fun v11 => ?_)
        refine V_iconst (pc := 44) (v := 1) hk dX3_next_44 rfl ?_
        refine V_iadd (pc := 45) hk dX3_next_45 ?_
        refine p_X3_19 (pc := 46) hk dX3_next_46 (fun w12 => ?_)
        refine V_goto (pc := 49) (tgt := 0) hk dX3_next_49 rfl ?_
        exact h0 w12 l0
theorem eX3_next_l0 {y : Fx (Unit × Wd)} (hk : OkF y RX3 cX3_next 3 7 167) (hR : RetM y rvV none) : ∀ (n : Nat) (w : Wd) (l0 : Option Nat), V y w [(0, va_rf l0)] [] 0 (mX3_next_l0 n w l0) := by
  intro n
  induction n with
  | zero => intro w l0; exact V_none
  | succ n ih => intro w l0; exact eX3_next_b0 hk hR ih w l0
theorem eX3_next {y : Fx (Unit × Wd)} (hk : OkF y RX3 cX3_next 3 7 167) (hR : RetM y rvV none) (this : Nat) (w : Wd) : V y w [(0, va_rf (some this))] [] 0 (mX3_next this w) := by
  unfold mX3_next
  refine V_pick (lc' := [(0, va_rf ((some this)))]) [0] rfl ?_
  exact eX3_next_l0 hk hR FU w (some this)
theorem ctX3_next (l : Launch) (K : Kx) (hI : Ini K) (b : Nat) (w : Wd) : ∀ r, mX3_next b w = some r → Ct l K 7 167 yX3_next (ws_ yX3_next cX3_next 3 none) [.ref b] w (rvV r.1) r.2 := Ct_of rvV l K hI 7 167 [.ref b] w (by decide) (lc0 := [(0, .ref b)]) rfl (Nat.le_of_ble_eq_true rfl) (fun y hk hR _ _ hin => eX3_next hk hR b w)
noncomputable def mX5_init (this : Nat) (a0 : Int32) (a1 : Int32) (w : Wd) : Option (Unit × Wd) :=
(excI w ((some this))).bind fun _ =>
(pf w ((some this)) 5 0 (.int a0)).bind fun w2 =>
(pf w2 ((some this)) 5 1 (.int a1)).bind fun w3 =>
some ((), w3)
theorem eX5_init {y : Fx (Unit × Wd)} (hk : OkF y RX5 cX5_init 3 4 100) (hR : RetM y rvV none) (hin : (fmeth y).name = "<init>") (hst : (fl y).stackTraces = false) (this : Nat) (a0 : Int32) (a1 : Int32) (w : Wd) : V y w [(0, va_rf (some this)), (1, .int a0), (2, .int a1)] [] 0 (mX5_init this a0 a1 w) := by
  unfold mX5_init
  refine V_aload_n (pc := 0) hk dX5_init_0 0 rfl ?_
  refine V_excInit (pc := 1) hk hst q519 ⟨Nat.le_of_ble_eq_true rfl, Nat.le_of_ble_eq_true rfl⟩ (Nat.le_of_ble_eq_true rfl) dX5_init_1 (fun b1 => ?_)
  refine V_aload_n (pc := 4) hk dX5_init_4 0 rfl ?_
  refine V_iload_n (pc := 5) hk dX5_init_5 1 rfl ?_
  refine p_X5_7 (pc := 6) hk hin dX5_init_6 (fun w2 => ?_)
  refine V_aload_n (pc := 9) hk dX5_init_9 0 rfl ?_
  refine V_iload_n (pc := 10) hk dX5_init_10 2 rfl ?_
  refine p_X5_13 (pc := 11) hk hin dX5_init_11 (fun w3 => ?_)
  exact V_return (pc := 14) hk hR rfl dX5_init_14
theorem ctX5_init (l : Launch) (K : Kx) (hI : Ini K) (hst : l.stackTraces = false) (b : Nat) (a0 : Int32) (a1 : Int32) (w : Wd) : ∀ r, mX5_init b a0 a1 w = some r → Ct l K 4 100 yX5_init (ws_ yX5_init cX5_init 3 none) [.ref b, .int a0, .int a1] w (rvV r.1) r.2 := Ct_of rvV l K hI 4 100 [.ref b, .int a0, .int a1] w (by decide) (lc0 := [(0, .ref b), (1, .int a0), (2, .int a1)]) rfl (Nat.le_of_ble_eq_true rfl) (fun y hk hR hl _ hin => eX5_init hk hR hin (by rw [hl]; exact hst) b a0 a1 w)
noncomputable def mX3_wrong (this : Nat) (a0 : Int32) (w : Wd) : Option (Option Nat × Wd) :=
(some (wnew w (.inr (5, df9_X5)) 8)).bind fun (w1 : Wd) =>
(gI w1 ((some this)) 3 3).bind fun v2 =>
(((some (wnx w)))).bind fun b4 => (cal w1 (mX5_init b4 a0 v2 w1)).bind fun r3 =>
some ((some (wnx w)), r3.2)
theorem eX3_wrong {y : Fx (Option Nat × Wd)} (hk : OkF y RX3 cX3_wrong 2 5 122) (hR : RetM y rvR (some (.object "HookSwings$Wrong"))) (hst : (fl y).stackTraces = false) (this : Nat) (a0 : Int32) (w : Wd) : V y w [(0, va_rf (some this)), (1, .int a0)] [] 0 (mX3_wrong this a0 w) := by
  unfold mX3_wrong
  refine o_X3_65 (pc := 0) hk dX3_wrong_0 ?_
  refine V_nmW (fun w1 => ?_)
  refine V_dup (pc := 3) hk dX3_wrong_3 (rf_cat _) ?_
  refine V_iload_n (pc := 4) hk dX3_wrong_4 1 rfl ?_
  refine V_aload_n (pc := 5) hk dX3_wrong_5 0 rfl ?_
  refine g_X3_22 (pc := 6) hk dX3_wrong_6 (fun v2 => ?_)
  refine n_X3_67 (pc := 9) hk (fun b r h => ctX5_init (fl y) (fK y) hk.2.2.2.2.2.2.2.1 hst b a0 v2 w1 r h) ⟨Nat.le_of_ble_eq_true rfl, Nat.le_of_ble_eq_true rfl⟩ (by simp [rf_cat, cat_int, cat_long, cat_ref]) dX3_wrong_9 (fun r3 => ?_)
  exact V_areturn (pc := 12) hk (Or.inl ⟨_, rfl⟩) hR rfl dX3_wrong_12
theorem ctX3_wrong (l : Launch) (K : Kx) (hI : Ini K) (hst : l.stackTraces = false) (b : Nat) (a0 : Int32) (w : Wd) : ∀ r, mX3_wrong b a0 w = some r → Ct l K 5 122 yX3_wrong (ws_ yX3_wrong cX3_wrong 2 (some (.object "HookSwings$Wrong"))) [.ref b, .int a0] w (rvR r.1) r.2 := Ct_of rvR l K hI 5 122 [.ref b, .int a0] w (by decide) (lc0 := [(0, .ref b), (1, .int a0)]) rfl (Nat.le_of_ble_eq_true rfl) (fun y hk hR hl _ hin => eX3_wrong hk hR (by rw [hl]; exact hst) b a0 w)
noncomputable def mX3_number_p32 (w : Wd) (l0 : Option Nat) : Option ((Int32 ⊕ Nat) × Wd) :=
(recv w l0 3).bind fun b2 => (cal w (mX3_wrong b2 2 w)).bind fun r1 =>
thr r1.2 r1.1
noncomputable def mX3_number (this : Nat) (a0 : Int32) (a1 : Int32) (w : Wd) : Option ((Int32 ⊕ Nat) × Wd) :=
(gI w ((some this)) 3 4).bind fun v1 =>
if v1 = 300 then (
(gI w ((some this)) 3 5).bind fun v2 =>
if v2 < a0 then (
mX3_number_p32 w ((some this)))
else (
(gI w ((some this)) 3 5).bind fun v3 =>
if v3 ≤ a1 then (
(gI w ((some this)) 3 5).bind fun v4 =>
(recv w ((some this)) 3).bind fun b6 => (cal w (mX3_next b6 w)).bind fun r5 =>
some (.inl v4, r5.2))
else (
mX3_number_p32 w ((some this)))))
else (
(recv w ((some this)) 3).bind fun b8 => (cal w (mX3_wrong b8 1 w)).bind fun r7 =>
thr r7.2 r7.1)
theorem eX3_number_p32 {y : Fx ((Int32 ⊕ Nat) × Wd)} (hk : OkF y RX3 cX3_number 4 8 189) (hR : RetX y rvI (some (.int))) (hst : (fl y).stackTraces = false) (w : Wd) (l0 : Option Nat) : V y w [(0, va_rf l0)] [] 32 (mX3_number_p32 w l0) := by
  unfold mX3_number_p32
  refine V_aload_n (pc := 32) hk dX3_number_32 0 rfl ?_
  refine V_iconst (pc := 33) (v := 2) hk dX3_number_33 rfl ?_
  refine n_X3_70 (pc := 34) hk (fun b r h => ctX3_wrong (fl y) (fK y) hk.2.2.2.2.2.2.2.1 hst b 2 w r h) ⟨Nat.le_of_ble_eq_true rfl, Nat.le_of_ble_eq_true rfl⟩ (Nat.le_of_ble_eq_true rfl) dX3_number_34 (fun r1 => ?_)
  exact V_athrow (pc := 37) hk hR dX3_number_37
theorem eX3_number {y : Fx ((Int32 ⊕ Nat) × Wd)} (hk : OkF y RX3 cX3_number 4 8 189) (hR : RetX y rvI (some (.int))) (hst : (fl y).stackTraces = false) (this : Nat) (a0 : Int32) (a1 : Int32) (w : Wd) : V y w [(0, va_rf (some this)), (1, .int a0), (2, .int a1)] [] 0 (mX3_number this a0 a1 w) := by
  unfold mX3_number
  refine V_aload_n (pc := 0) hk dX3_number_0 0 rfl ?_
  refine g_X3_25 (pc := 1) hk dX3_number_1 (fun v1 => ?_)
  refine V_sipush (pc := 4) (v := 300) hk dX3_number_4 rfl ?_
  refine V_icmp_eq (pc := 7) (tgt := 16) hk dX3_number_7 rfl ?_ ?_
  · refine V_aload_n (pc := 16) hk dX3_number_16 0 rfl ?_
    refine g_X3_43 (pc := 17) hk dX3_number_17 (fun v2 => ?_)
    refine V_iload_n (pc := 20) hk dX3_number_20 1 rfl ?_
    refine V_icmp_lt (pc := 21) (tgt := 32) hk dX3_number_21 rfl ?_ ?_
    · refine V_pick (lc' := [(0, va_rf ((some this)))]) [0] rfl ?_
      exact eX3_number_p32 hk hR hst w ((some this))
    · refine V_aload_n (pc := 24) hk dX3_number_24 0 rfl ?_
      refine g_X3_43 (pc := 25) hk dX3_number_25 (fun v3 => ?_)
      refine V_iload_n (pc := 28) hk dX3_number_28 2 rfl ?_
      refine V_icmp_le (pc := 29) (tgt := 38) hk dX3_number_29 rfl ?_ ?_
      · refine V_aload_n (pc := 38) hk dX3_number_38 0 rfl ?_
        refine g_X3_43 (pc := 39) hk dX3_number_39 (fun v4 => ?_)
        refine V_istore_n (pc := 42) (lc' := [(3, .int v4), (0, va_rf ((some this))), (1, .int a0), (2, .int a1)]) (i := 3) hk dX3_number_42 rfl (Nat.le_of_ble_eq_true rfl) rfl ?_
        refine V_aload_n (pc := 43) hk dX3_number_43 1 rfl ?_
        refine n_X3_74 (pc := 44) hk (fun b r h => ctX3_next (fl y) (fK y) hk.2.2.2.2.2.2.2.1 b w r h) ⟨Nat.le_of_ble_eq_true rfl, Nat.le_of_ble_eq_true rfl⟩ (Nat.le_of_ble_eq_true rfl) dX3_number_44 (fun r5 => ?_)
        refine V_iload_n (pc := 47) hk dX3_number_47 0 rfl ?_
        exact V_ireturnX (pc := 48) hk hR rfl dX3_number_48
      · refine V_pick (lc' := [(0, va_rf ((some this)))]) [0] rfl ?_
        exact eX3_number_p32 hk hR hst w ((some this))
  · refine V_aload_n (pc := 10) hk dX3_number_10 0 rfl ?_
    refine V_iconst (pc := 11) (v := 1) hk dX3_number_11 rfl ?_
    refine n_X3_70 (pc := 12) hk (fun b r h => ctX3_wrong (fl y) (fK y) hk.2.2.2.2.2.2.2.1 hst b 1 w r h) ⟨Nat.le_of_ble_eq_true rfl, Nat.le_of_ble_eq_true rfl⟩ (Nat.le_of_ble_eq_true rfl) dX3_number_12 (fun r7 => ?_)
    exact V_athrow (pc := 15) hk hR dX3_number_15
theorem ctX3_number (l : Launch) (K : Kx) (hI : Ini K) (hst : l.stackTraces = false) (b : Nat) (a0 : Int32) (a1 : Int32) (w : Wd) : ∀ r, mX3_number b a0 a1 w = some r → CtX l K 8 189 yX3_number (ws_ yX3_number cX3_number 4 (some (.int))) [.ref b, .int a0, .int a1] w rvI r := CtX_of rvI l K hI 8 189 [.ref b, .int a0, .int a1] w (by decide) (lc0 := [(0, .ref b), (1, .int a0), (2, .int a1)]) rfl (Nat.le_of_ble_eq_true rfl) (fun y hk hR hl _ hin => eX3_number hk hR (by rw [hl]; exact hst) b a0 a1 w)
noncomputable def mX3_nameNow_p31 (w : Wd) (l0 : Option Nat) : Option (Int32 × Wd) :=
(gI w l0 3 4).bind fun v1 =>
if ¬ v1 = 208 then (
(gI w l0 3 4).bind fun v2 =>
if ¬ v2 = 232 then (
(gI w l0 3 4).bind fun v3 =>
if ¬ v3 = 233 then (
some ((-1), w))
else (
some (7, w)))
else (
some (6, w)))
else (
some (5, w))
noncomputable def mX3_nameNow (this : Nat) (w : Wd) : Option (Int32 × Wd) :=
(gI w ((some this)) 3 4).bind fun v1 =>
if v1 < 227 then (
mX3_nameNow_p31 w ((some this)))
else (
(gI w ((some this)) 3 4).bind fun v2 =>
if 231 < v2 then (
mX3_nameNow_p31 w ((some this)))
else (
(gI w ((some this)) 3 4).bind fun v3 =>
some (v3 - 227, w)))
theorem eX3_nameNow_p31 {y : Fx (Int32 × Wd)} (hk : OkF y RX3 cX3_nameNow 1 2 60) (hR : RetM y rvI (some (.int))) (w : Wd) (l0 : Option Nat) : V y w [(0, va_rf l0)] [] 31 (mX3_nameNow_p31 w l0) := by
  unfold mX3_nameNow_p31
  refine V_aload_n (pc := 31) hk dX3_nameNow_31 0 rfl ?_
  refine g_X3_25 (pc := 32) hk dX3_nameNow_32 (fun v1 => ?_)
  refine V_sipush (pc := 35) (v := 208) hk dX3_nameNow_35 rfl ?_
  refine V_icmp_ne (pc := 38) (tgt := 45) hk dX3_nameNow_38 rfl ?_ ?_
  · refine V_aload_n (pc := 45) hk dX3_nameNow_45 0 rfl ?_
    refine g_X3_25 (pc := 46) hk dX3_nameNow_46 (fun v2 => ?_)
    refine V_sipush (pc := 49) (v := 232) hk dX3_nameNow_49 rfl ?_
    refine V_icmp_ne (pc := 52) (tgt := 60) hk dX3_nameNow_52 rfl ?_ ?_
    · refine V_aload_n (pc := 60) hk dX3_nameNow_60 0 rfl ?_
      refine g_X3_25 (pc := 61) hk dX3_nameNow_61 (fun v3 => ?_)
      refine V_sipush (pc := 64) (v := 233) hk dX3_nameNow_64 rfl ?_
      refine V_icmp_ne (pc := 67) (tgt := 75) hk dX3_nameNow_67 rfl ?_ ?_
      · refine V_iconst (pc := 75) (v := (-1)) hk dX3_nameNow_75 (by decide +kernel) ?_
        exact V_ireturn (pc := 76) hk hR rfl dX3_nameNow_76
      · refine V_bipush (pc := 70) (v := 7) hk dX3_nameNow_70 rfl ?_
        refine V_goto (pc := 72) (tgt := 76) hk dX3_nameNow_72 rfl ?_
        exact V_ireturn (pc := 76) hk hR rfl dX3_nameNow_76
    · refine V_bipush (pc := 55) (v := 6) hk dX3_nameNow_55 rfl ?_
      refine V_goto (pc := 57) (tgt := 76) hk dX3_nameNow_57 rfl ?_
      exact V_ireturn (pc := 76) hk hR rfl dX3_nameNow_76
  · refine V_iconst (pc := 41) (v := 5) hk dX3_nameNow_41 rfl ?_
    refine V_goto (pc := 42) (tgt := 76) hk dX3_nameNow_42 rfl ?_
    exact V_ireturn (pc := 76) hk hR rfl dX3_nameNow_76
theorem eX3_nameNow {y : Fx (Int32 × Wd)} (hk : OkF y RX3 cX3_nameNow 1 2 60) (hR : RetM y rvI (some (.int))) (this : Nat) (w : Wd) : V y w [(0, va_rf (some this))] [] 0 (mX3_nameNow this w) := by
  unfold mX3_nameNow
  refine V_aload_n (pc := 0) hk dX3_nameNow_0 0 rfl ?_
  refine g_X3_25 (pc := 1) hk dX3_nameNow_1 (fun v1 => ?_)
  refine V_sipush (pc := 4) (v := 227) hk dX3_nameNow_4 rfl ?_
  refine V_icmp_lt (pc := 7) (tgt := 31) hk dX3_nameNow_7 rfl ?_ ?_
  · exact eX3_nameNow_p31 hk hR w ((some this))
  · refine V_aload_n (pc := 10) hk dX3_nameNow_10 0 rfl ?_
    refine g_X3_25 (pc := 11) hk dX3_nameNow_11 (fun v2 => ?_)
    refine V_sipush (pc := 14) (v := 231) hk dX3_nameNow_14 rfl ?_
    refine V_icmp_gt (pc := 17) (tgt := 31) hk dX3_nameNow_17 rfl ?_ ?_
    · exact eX3_nameNow_p31 hk hR w ((some this))
    · refine V_aload_n (pc := 20) hk dX3_nameNow_20 0 rfl ?_
      refine g_X3_25 (pc := 21) hk dX3_nameNow_21 (fun v3 => ?_)
      refine V_sipush (pc := 24) (v := 227) hk dX3_nameNow_24 rfl ?_
      refine V_isub (pc := 27) hk dX3_nameNow_27 ?_
      refine V_goto (pc := 28) (tgt := 76) hk dX3_nameNow_28 rfl ?_
      exact V_ireturn (pc := 76) hk hR rfl dX3_nameNow_76
theorem ctX3_nameNow (l : Launch) (K : Kx) (hI : Ini K) (b : Nat) (w : Wd) : ∀ r, mX3_nameNow b w = some r → Ct l K 2 60 yX3_nameNow (ws_ yX3_nameNow cX3_nameNow 1 (some (.int))) [.ref b] w (rvI r.1) r.2 := Ct_of rvI l K hI 2 60 [.ref b] w (by decide) (lc0 := [(0, .ref b)]) rfl (Nat.le_of_ble_eq_true rfl) (fun y hk hR _ _ hin => eX3_nameNow hk hR b w)
noncomputable def mX3_mayName (this : Nat) (a0 : Int32) (w : Wd) : Option (Int32 × Wd) :=
if 5 ≤ a0 then (
if ¬ a0 = 7 then (
(gI w ((some this)) 3 7).bind fun v1 =>
if v1 = 203 then (
(nok (.boolean) 0).bind fun _ => some (0, w))
else (
(nok (.boolean) 1).bind fun _ => some (1, w)))
else (
(gI w ((some this)) 3 7).bind fun v2 =>
if v2 < 203 then (
(nok (.boolean) 0).bind fun _ => some (0, w))
else (
(nok (.boolean) 1).bind fun _ => some (1, w))))
else (
(gI w ((some this)) 3 7).bind fun v3 =>
if 203 ≤ v3 then (
(nok (.boolean) 0).bind fun _ => some (0, w))
else (
(nok (.boolean) 1).bind fun _ => some (1, w)))
theorem eX3_mayName {y : Fx (Int32 × Wd)} (hk : OkF y RX3 cX3_mayName 2 2 60) (hR : RetM y rvI (some (.boolean))) (this : Nat) (a0 : Int32) (w : Wd) : V y w [(0, va_rf (some this)), (1, .int a0)] [] 0 (mX3_mayName this a0 w) := by
  unfold mX3_mayName
  refine V_iload_n (pc := 0) hk dX3_mayName_0 1 rfl ?_
  refine V_iconst (pc := 1) (v := 5) hk dX3_mayName_1 rfl ?_
  refine V_icmp_ge (pc := 2) (tgt := 21) hk dX3_mayName_2 rfl ?_ ?_
  · refine V_iload_n (pc := 21) hk dX3_mayName_21 1 rfl ?_
    refine V_bipush (pc := 22) (v := 7) hk dX3_mayName_22 rfl ?_
    refine V_icmp_ne (pc := 24) (tgt := 45) hk dX3_mayName_24 rfl ?_ ?_
    · refine V_aload_n (pc := 45) hk dX3_mayName_45 0 rfl ?_
      refine g_X3_83 (pc := 46) hk dX3_mayName_46 (fun v1 => ?_)
      refine V_sipush (pc := 49) (v := 203) hk dX3_mayName_49 rfl ?_
      refine V_icmp_eq (pc := 52) (tgt := 59) hk dX3_mayName_52 rfl ?_ ?_
      · refine V_iconst (pc := 59) (v := 0) hk dX3_mayName_59 rfl ?_
        exact V_zreturn (pc := 60) hk hR rfl dX3_mayName_60
      · refine V_iconst (pc := 55) (v := 1) hk dX3_mayName_55 rfl ?_
        refine V_goto (pc := 56) (tgt := 60) hk dX3_mayName_56 rfl ?_
        exact V_zreturn (pc := 60) hk hR rfl dX3_mayName_60
    · refine V_aload_n (pc := 27) hk dX3_mayName_27 0 rfl ?_
      refine g_X3_83 (pc := 28) hk dX3_mayName_28 (fun v2 => ?_)
      refine V_sipush (pc := 31) (v := 203) hk dX3_mayName_31 rfl ?_
      refine V_icmp_lt (pc := 34) (tgt := 41) hk dX3_mayName_34 rfl ?_ ?_
      · refine V_iconst (pc := 41) (v := 0) hk dX3_mayName_41 rfl ?_
        refine V_goto (pc := 42) (tgt := 60) hk dX3_mayName_42 rfl ?_
        exact V_zreturn (pc := 60) hk hR rfl dX3_mayName_60
      · refine V_iconst (pc := 37) (v := 1) hk dX3_mayName_37 rfl ?_
        refine V_goto (pc := 38) (tgt := 60) hk dX3_mayName_38 rfl ?_
        exact V_zreturn (pc := 60) hk hR rfl dX3_mayName_60
  · refine V_aload_n (pc := 5) hk dX3_mayName_5 0 rfl ?_
    refine g_X3_83 (pc := 6) hk dX3_mayName_6 (fun v3 => ?_)
    refine V_sipush (pc := 9) (v := 203) hk dX3_mayName_9 rfl ?_
    refine V_icmp_ge (pc := 12) (tgt := 19) hk dX3_mayName_12 rfl ?_ ?_
    · refine V_iconst (pc := 19) (v := 0) hk dX3_mayName_19 rfl ?_
      exact V_zreturn (pc := 20) hk hR rfl dX3_mayName_20
    · refine V_iconst (pc := 15) (v := 1) hk dX3_mayName_15 rfl ?_
      refine V_goto (pc := 16) (tgt := 20) hk dX3_mayName_16 rfl ?_
      exact V_zreturn (pc := 20) hk hR rfl dX3_mayName_20
theorem ctX3_mayName (l : Launch) (K : Kx) (hI : Ini K) (b : Nat) (a0 : Int32) (w : Wd) : ∀ r, mX3_mayName b a0 w = some r → Ct l K 2 60 yX3_mayName (ws_ yX3_mayName cX3_mayName 2 (some (.boolean))) [.ref b, .int a0] w (rvI r.1) r.2 := Ct_of rvI l K hI 2 60 [.ref b, .int a0] w (by decide) (lc0 := [(0, .ref b), (1, .int a0)]) rfl (Nat.le_of_ble_eq_true rfl) (fun y hk hR _ _ hin => eX3_mayName hk hR b a0 w)
noncomputable def mX3_ago_p41 (w : Wd) (l0 : Option Nat) : Option ((Option Nat ⊕ Nat) × Wd) :=
(recv w l0 3).bind fun b2 => (cal w (mX3_wrong b2 5 w)).bind fun r1 =>
thr r1.2 r1.1
noncomputable def mX3_ago (this : Nat) (w : Wd) : Option ((Option Nat ⊕ Nat) × Wd) :=
(recv w ((some this)) 3).bind fun b2 => (cal w (mX3_next b2 w)).bind fun r1 =>
(recv r1.2 ((some this)) 3).bind fun b4 => (calx r1.2 (mX3_number b4 1 9 r1.2)).bind fun r3 => bx r3 fun v5 w6 =>
(recv w6 ((some this)) 3).bind fun b8 => (cal w6 (mX3_nameNow b8 w6)).bind fun r7 =>
if ¬ r7.1 = (-1) then (
if 5 ≤ r7.1 then (
mX3_ago_p41 r7.2 ((some this)))
else (
(recv r7.2 ((some this)) 3).bind fun b10 => (cal r7.2 (mX3_mayName b10 r7.1 r7.2)).bind fun r9 =>
if ¬ r9.1 = 0 then (
(recv r9.2 ((some this)) 3).bind fun b12 => (cal r9.2 (mX3_next b12 r9.2)).bind fun r11 =>
(some (wnew r11.2 (.inr (8, df9_X8)) 1)).bind fun (w13 : Wd) =>
(((some (wnx r11.2)))).bind fun b15 => (cal w13 (mX8_init b15 ((8 + (5 * (v5 - 1))) + r7.1) w13)).bind fun r14 =>
some (.inl ((some (wnx r11.2))), r14.2))
else (
mX3_ago_p41 r9.2 ((some this)))))
else (
(recv r7.2 ((some this)) 3).bind fun b17 => (cal r7.2 (mX3_wrong b17 1 r7.2)).bind fun r16 =>
thr r16.2 r16.1)
theorem eX3_ago_p41 {y : Fx ((Option Nat ⊕ Nat) × Wd)} (hk : OkF y RX3 cX3_ago 3 9 212) (hR : RetX y rvR (some (.object "HookSwings$Sum"))) (hst : (fl y).stackTraces = false) (w : Wd) (l0 : Option Nat) : V y w [(0, va_rf l0)] [] 41 (mX3_ago_p41 w l0) := by
  unfold mX3_ago_p41
  refine V_aload_n (pc := 41) hk dX3_ago_41 0 rfl ?_
  refine V_iconst (pc := 42) (v := 5) hk dX3_ago_42 rfl ?_
  refine n_X3_70 (pc := 43) hk (fun b r h => ctX3_wrong (fl y) (fK y) hk.2.2.2.2.2.2.2.1 hst b 5 w r h) ⟨Nat.le_of_ble_eq_true rfl, Nat.le_of_ble_eq_true rfl⟩ (Nat.le_of_ble_eq_true rfl) dX3_ago_43 (fun r1 => ?_)
  exact V_athrow (pc := 46) hk hR dX3_ago_46
theorem eX3_ago {y : Fx ((Option Nat ⊕ Nat) × Wd)} (hk : OkF y RX3 cX3_ago 3 9 212) (hR : RetX y rvR (some (.object "HookSwings$Sum"))) (hst : (fl y).stackTraces = false) (this : Nat) (w : Wd) : V y w [(0, va_rf (some this))] [] 0 (mX3_ago this w) := by
  unfold mX3_ago
  refine V_aload_n (pc := 0) hk dX3_ago_0 0 rfl ?_
  refine n_X3_74 (pc := 1) hk (fun b r h => ctX3_next (fl y) (fK y) hk.2.2.2.2.2.2.2.1 b w r h) ⟨Nat.le_of_ble_eq_true rfl, Nat.le_of_ble_eq_true rfl⟩ (Nat.le_of_ble_eq_true rfl) dX3_ago_1 (fun r1 => ?_)
  refine V_aload_n (pc := 4) hk dX3_ago_4 0 rfl ?_
  refine V_iconst (pc := 5) (v := 1) hk dX3_ago_5 rfl ?_
  refine V_bipush (pc := 6) (v := 9) hk dX3_ago_6 rfl ?_
  refine n_X3_115 (pc := 8) hk hR (fun b r h => ctX3_number (fl y) (fK y) hk.2.2.2.2.2.2.2.1 hst b 1 9 r1.2 r h) ⟨Nat.le_of_ble_eq_true rfl, Nat.le_of_ble_eq_true rfl⟩ (Nat.le_of_ble_eq_true rfl) dX3_ago_8 (fun v5 w6 => ?_)
  refine V_istore_n (pc := 11) (lc' := [(1, .int v5), (0, va_rf ((some this)))]) (i := 1) hk dX3_ago_11 rfl (Nat.le_of_ble_eq_true rfl) (by simp [rf_cat, cat_int, cat_long, cat_ref]) ?_
  refine V_aload_n (pc := 12) hk dX3_ago_12 1 rfl ?_
  refine n_X3_180 (pc := 13) hk (fun b r h => ctX3_nameNow (fl y) (fK y) hk.2.2.2.2.2.2.2.1 b w6 r h) ⟨Nat.le_of_ble_eq_true rfl, Nat.le_of_ble_eq_true rfl⟩ (Nat.le_of_ble_eq_true rfl) dX3_ago_13 (fun r7 => ?_)
  refine V_istore_n (pc := 16) (lc' := [(2, .int r7.1), (1, .int v5), (0, va_rf ((some this)))]) (i := 2) hk dX3_ago_16 rfl (Nat.le_of_ble_eq_true rfl) rfl ?_
  refine V_iload_n (pc := 17) hk dX3_ago_17 0 rfl ?_
  refine V_iconst (pc := 18) (v := (-1)) hk dX3_ago_18 (by decide +kernel) ?_
  refine V_icmp_ne (pc := 19) (tgt := 28) hk dX3_ago_19 rfl ?_ ?_
  · refine V_iload_n (pc := 28) hk dX3_ago_28 0 rfl ?_
    refine V_iconst (pc := 29) (v := 5) hk dX3_ago_29 rfl ?_
    refine V_icmp_ge (pc := 30) (tgt := 41) hk dX3_ago_30 rfl ?_ ?_
    · refine V_pick (lc' := [(0, va_rf ((some this)))]) [2] rfl ?_
      exact eX3_ago_p41 hk hR hst r7.2 ((some this))
    · refine V_aload_n (pc := 33) hk dX3_ago_33 2 rfl ?_
      refine V_iload_n (pc := 34) hk dX3_ago_34 0 rfl ?_
      refine n_X3_183 (pc := 35) hk (fun b r h => ctX3_mayName (fl y) (fK y) hk.2.2.2.2.2.2.2.1 b r7.1 r7.2 r h) ⟨Nat.le_of_ble_eq_true rfl, Nat.le_of_ble_eq_true rfl⟩ (Nat.le_of_ble_eq_true rfl) dX3_ago_35 (fun r9 => ?_)
      refine V_if_ne (pc := 38) (tgt := 47) hk dX3_ago_38 rfl ?_ ?_
      · refine V_aload_n (pc := 47) hk dX3_ago_47 2 rfl ?_
        refine n_X3_74 (pc := 48) hk (fun b r h => ctX3_next (fl y) (fK y) hk.2.2.2.2.2.2.2.1 b r9.2 r h) ⟨Nat.le_of_ble_eq_true rfl, Nat.le_of_ble_eq_true rfl⟩ (Nat.le_of_ble_eq_true rfl) dX3_ago_48 (fun r11 => ?_)
        refine o_X3_186 (pc := 51) hk dX3_ago_51 ?_
        refine V_nmW (fun w13 => ?_)
        refine V_dup (pc := 54) hk dX3_ago_54 (rf_cat _) ?_
        refine V_bipush (pc := 55) (v := 8) hk dX3_ago_55 rfl ?_
        refine V_iconst (pc := 57) (v := 5) hk dX3_ago_57 rfl ?_
        refine V_iload_n (pc := 58) hk dX3_ago_58 1 rfl ?_
        refine V_iconst (pc := 59) (v := 1) hk dX3_ago_59 rfl ?_
        refine V_isub (pc := 60) hk dX3_ago_60 ?_
        refine V_imul (pc := 61) hk dX3_ago_61 ?_
        refine V_iadd (pc := 62) hk dX3_ago_62 ?_
        refine V_iload_n (pc := 63) hk dX3_ago_63 0 rfl ?_
        refine V_iadd (pc := 64) hk dX3_ago_64 ?_
        refine n_X3_188 (pc := 65) hk (fun b r h => ctX8_init (fl y) (fK y) hk.2.2.2.2.2.2.2.1 b ((8 + (5 * (v5 - 1))) + r7.1) w13 r h) ⟨Nat.le_of_ble_eq_true rfl, Nat.le_of_ble_eq_true rfl⟩ (by simp [rf_cat, cat_int, cat_long, cat_ref]) dX3_ago_65 (fun r14 => ?_)
        exact V_areturnX (pc := 68) hk (Or.inl ⟨_, rfl⟩) hR rfl dX3_ago_68
      · refine V_pick (lc' := [(0, va_rf ((some this)))]) [2] rfl ?_
        exact eX3_ago_p41 hk hR hst r9.2 ((some this))
  · refine V_aload_n (pc := 22) hk dX3_ago_22 2 rfl ?_
    refine V_iconst (pc := 23) (v := 1) hk dX3_ago_23 rfl ?_
    refine n_X3_70 (pc := 24) hk (fun b r h => ctX3_wrong (fl y) (fK y) hk.2.2.2.2.2.2.2.1 hst b 1 r7.2 r h) ⟨Nat.le_of_ble_eq_true rfl, Nat.le_of_ble_eq_true rfl⟩ (Nat.le_of_ble_eq_true rfl) dX3_ago_24 (fun r16 => ?_)
    exact V_athrow (pc := 27) hk hR dX3_ago_27
theorem ctX3_ago (l : Launch) (K : Kx) (hI : Ini K) (hst : l.stackTraces = false) (b : Nat) (w : Wd) : ∀ r, mX3_ago b w = some r → CtX l K 9 212 yX3_ago (ws_ yX3_ago cX3_ago 3 (some (.object "HookSwings$Sum"))) [.ref b] w rvR r := CtX_of rvR l K hI 9 212 [.ref b] w (by decide) (lc0 := [(0, .ref b)]) rfl (Nat.le_of_ble_eq_true rfl) (fun y hk hR hl _ hin => eX3_ago hk hR (by rw [hl]; exact hst) b w)
noncomputable def mX3_opens (this : Nat) (w : Wd) : Option ((Unit ⊕ Nat) × Wd) :=
(gI w ((some this)) 3 6).bind fun v1 =>
if ¬ v1 = 8 then (
(gI w ((some this)) 3 6).bind fun v2 =>
(pf w ((some this)) 3 6 (.int (v2 + 1))).bind fun w3 =>
(recv w3 ((some this)) 3).bind fun b5 => (cal w3 (mX3_next b5 w3)).bind fun r4 =>
some (.inl (), r4.2))
else (
(recv w ((some this)) 3).bind fun b7 => (cal w (mX3_wrong b7 3 w)).bind fun r6 =>
thr r6.2 r6.1)
theorem eX3_opens {y : Fx ((Unit ⊕ Nat) × Wd)} (hk : OkF y RX3 cX3_opens 1 8 189) (hR : RetX y rvV none) (hst : (fl y).stackTraces = false) (this : Nat) (w : Wd) : V y w [(0, va_rf (some this))] [] 0 (mX3_opens this w) := by
  unfold mX3_opens
  refine V_aload_n (pc := 0) hk dX3_opens_0 0 rfl ?_
  refine g_X3_77 (pc := 1) hk dX3_opens_1 (fun v1 => ?_)
  refine V_bipush (pc := 4) (v := 8) hk dX3_opens_4 rfl ?_
  refine V_icmp_ne (pc := 6) (tgt := 15) hk dX3_opens_6 rfl ?_ ?_
  · refine V_aload_n (pc := 15) hk dX3_opens_15 0 rfl ?_
    refine V_dup (pc := 16) hk dX3_opens_16 (rf_cat _) ?_
    refine g_X3_77 (pc := 17) hk dX3_opens_17 (fun v2 => ?_)
    refine V_iconst (pc := 20) (v := 1) hk dX3_opens_20 rfl ?_
    refine V_iadd (pc := 21) hk dX3_opens_21 ?_
    refine p_X3_77 (pc := 22) hk dX3_opens_22 (fun w3 => ?_)
    refine V_aload_n (pc := 25) hk dX3_opens_25 0 rfl ?_
    refine n_X3_74 (pc := 26) hk (fun b r h => ctX3_next (fl y) (fK y) hk.2.2.2.2.2.2.2.1 b w3 r h) ⟨Nat.le_of_ble_eq_true rfl, Nat.le_of_ble_eq_true rfl⟩ (Nat.le_of_ble_eq_true rfl) dX3_opens_26 (fun r4 => ?_)
    exact V_returnX (pc := 29) hk hR rfl dX3_opens_29
  · refine V_aload_n (pc := 9) hk dX3_opens_9 0 rfl ?_
    refine V_iconst (pc := 10) (v := 3) hk dX3_opens_10 rfl ?_
    refine n_X3_70 (pc := 11) hk (fun b r h => ctX3_wrong (fl y) (fK y) hk.2.2.2.2.2.2.2.1 hst b 3 w r h) ⟨Nat.le_of_ble_eq_true rfl, Nat.le_of_ble_eq_true rfl⟩ (Nat.le_of_ble_eq_true rfl) dX3_opens_11 (fun r6 => ?_)
    exact V_athrow (pc := 14) hk hR dX3_opens_14
theorem ctX3_opens (l : Launch) (K : Kx) (hI : Ini K) (hst : l.stackTraces = false) (b : Nat) (w : Wd) : ∀ r, mX3_opens b w = some r → CtX l K 8 189 yX3_opens (ws_ yX3_opens cX3_opens 1 none) [.ref b] w rvV r := CtX_of rvV l K hI 8 189 [.ref b] w (by decide) (lc0 := [(0, .ref b)]) rfl (Nat.le_of_ble_eq_true rfl) (fun y hk hR hl _ hin => eX3_opens hk hR (by rw [hl]; exact hst) b w)
noncomputable def mX3_want (this : Nat) (a0 : Int32) (w : Wd) : Option ((Unit ⊕ Nat) × Wd) :=
(gI w ((some this)) 3 4).bind fun v1 =>
if v1 = a0 then (
(recv w ((some this)) 3).bind fun b3 => (cal w (mX3_next b3 w)).bind fun r2 =>
some (.inl (), r2.2))
else (
(recv w ((some this)) 3).bind fun b5 => (cal w (mX3_wrong b5 1 w)).bind fun r4 =>
thr r4.2 r4.1)
theorem eX3_want {y : Fx ((Unit ⊕ Nat) × Wd)} (hk : OkF y RX3 cX3_want 2 8 189) (hR : RetX y rvV none) (hst : (fl y).stackTraces = false) (this : Nat) (a0 : Int32) (w : Wd) : V y w [(0, va_rf (some this)), (1, .int a0)] [] 0 (mX3_want this a0 w) := by
  unfold mX3_want
  refine V_aload_n (pc := 0) hk dX3_want_0 0 rfl ?_
  refine g_X3_25 (pc := 1) hk dX3_want_1 (fun v1 => ?_)
  refine V_iload_n (pc := 4) hk dX3_want_4 1 rfl ?_
  refine V_icmp_eq (pc := 5) (tgt := 14) hk dX3_want_5 rfl ?_ ?_
  · refine V_aload_n (pc := 14) hk dX3_want_14 0 rfl ?_
    refine n_X3_74 (pc := 15) hk (fun b r h => ctX3_next (fl y) (fK y) hk.2.2.2.2.2.2.2.1 b w r h) ⟨Nat.le_of_ble_eq_true rfl, Nat.le_of_ble_eq_true rfl⟩ (Nat.le_of_ble_eq_true rfl) dX3_want_15 (fun r2 => ?_)
    exact V_returnX (pc := 18) hk hR rfl dX3_want_18
  · refine V_aload_n (pc := 8) hk dX3_want_8 0 rfl ?_
    refine V_iconst (pc := 9) (v := 1) hk dX3_want_9 rfl ?_
    refine n_X3_70 (pc := 10) hk (fun b r h => ctX3_wrong (fl y) (fK y) hk.2.2.2.2.2.2.2.1 hst b 1 w r h) ⟨Nat.le_of_ble_eq_true rfl, Nat.le_of_ble_eq_true rfl⟩ (Nat.le_of_ble_eq_true rfl) dX3_want_10 (fun r4 => ?_)
    exact V_athrow (pc := 13) hk hR dX3_want_13
theorem ctX3_want (l : Launch) (K : Kx) (hI : Ini K) (hst : l.stackTraces = false) (b : Nat) (a0 : Int32) (w : Wd) : ∀ r, mX3_want b a0 w = some r → CtX l K 8 189 yX3_want (ws_ yX3_want cX3_want 2 none) [.ref b, .int a0] w rvV r := CtX_of rvV l K hI 8 189 [.ref b, .int a0] w (by decide) (lc0 := [(0, .ref b), (1, .int a0)]) rfl (Nat.le_of_ble_eq_true rfl) (fun y hk hR hl _ hin => eX3_want hk hR (by rw [hl]; exact hst) b a0 w)
noncomputable def mX3_behind (this : Nat) (a0 : Int32) (a1 : Int32) (a2 : Int32) (w : Wd) : Option ((Int32 ⊕ Nat) × Wd) :=
(recv w ((some this)) 3).bind fun b2 => (calx w (mX3_want b2 a0 w)).bind fun r1 => bx r1 fun v3 w4 =>
(recv w4 ((some this)) 3).bind fun b6 => (calx w4 (mX3_number b6 a1 a2 w4)).bind fun r5 => bx r5 fun v7 w8 =>
some (.inl v7, w8)
theorem eX3_behind {y : Fx ((Int32 ⊕ Nat) × Wd)} (hk : OkF y RX3 cX3_behind 4 9 212) (hR : RetX y rvI (some (.int))) (hst : (fl y).stackTraces = false) (this : Nat) (a0 : Int32) (a1 : Int32) (a2 : Int32) (w : Wd) : V y w [(0, va_rf (some this)), (1, .int a0), (2, .int a1), (3, .int a2)] [] 0 (mX3_behind this a0 a1 a2 w) := by
  unfold mX3_behind
  refine V_aload_n (pc := 0) hk dX3_behind_0 0 rfl ?_
  refine V_iload_n (pc := 1) hk dX3_behind_1 1 rfl ?_
  refine n_X3_111 (pc := 2) hk hR (fun b r h => ctX3_want (fl y) (fK y) hk.2.2.2.2.2.2.2.1 hst b a0 w r h) ⟨Nat.le_of_ble_eq_true rfl, Nat.le_of_ble_eq_true rfl⟩ (Nat.le_of_ble_eq_true rfl) dX3_behind_2 (fun v3 w4 => ?_)
  refine V_aload_n (pc := 5) hk dX3_behind_5 0 rfl ?_
  refine V_iload_n (pc := 6) hk dX3_behind_6 2 rfl ?_
  refine V_iload_n (pc := 7) hk dX3_behind_7 3 rfl ?_
  refine n_X3_115 (pc := 8) hk hR (fun b r h => ctX3_number (fl y) (fK y) hk.2.2.2.2.2.2.2.1 hst b a1 a2 w4 r h) ⟨Nat.le_of_ble_eq_true rfl, Nat.le_of_ble_eq_true rfl⟩ (Nat.le_of_ble_eq_true rfl) dX3_behind_8 (fun v7 w8 => ?_)
  exact V_ireturnX (pc := 11) hk hR rfl dX3_behind_11
theorem ctX3_behind (l : Launch) (K : Kx) (hI : Ini K) (hst : l.stackTraces = false) (b : Nat) (a0 : Int32) (a1 : Int32) (a2 : Int32) (w : Wd) : ∀ r, mX3_behind b a0 a1 a2 w = some r → CtX l K 9 212 yX3_behind (ws_ yX3_behind cX3_behind 4 (some (.int))) [.ref b, .int a0, .int a1, .int a2] w rvI r := CtX_of rvI l K hI 9 212 [.ref b, .int a0, .int a1, .int a2] w (by decide) (lc0 := [(0, .ref b), (1, .int a0), (2, .int a1), (3, .int a2)]) rfl (Nat.le_of_ble_eq_true rfl) (fun y hk hR hl _ hin => eX3_behind hk hR (by rw [hl]; exact hst) b a0 a1 a2 w)
noncomputable def mX3_one_2 (this : Nat) (a0 : Int32) (a1 : Int32) (a2 : Int32) (w : Wd) : Option ((Option Nat ⊕ Nat) × Wd) :=
(some (wnew w (.inr (15, df9_X15)) 7)).bind fun (w1 : Wd) =>
(gI w1 ((some this)) 3 7).bind fun v2 =>
(recv w1 ((some this)) 3).bind fun b4 => (calx w1 (mX3_number b4 a0 a1 w1)).bind fun r3 => bx r3 fun v5 w6 =>
(((some (wnx w)))).bind fun b8 => (cal w6 (mX15_init b8 v2 v5 (-1) (-1) (-1) (-1) a2 w6)).bind fun r7 =>
some (.inl ((some (wnx w))), r7.2)
theorem eX3_one_2 {y : Fx ((Option Nat ⊕ Nat) × Wd)} (hk : OkF y RX3 cX3_one_2 4 9 212) (hR : RetX y rvR (some (.object "HookSwings$Doing"))) (hst : (fl y).stackTraces = false) (this : Nat) (a0 : Int32) (a1 : Int32) (a2 : Int32) (w : Wd) : V y w [(0, va_rf (some this)), (1, .int a0), (2, .int a1), (3, .int a2)] [] 0 (mX3_one_2 this a0 a1 a2 w) := by
  unfold mX3_one_2
  refine o_X3_117 (pc := 0) hk dX3_one_2_0 ?_
  refine V_nmW (fun w1 => ?_)
  refine V_dup (pc := 3) hk dX3_one_2_3 (rf_cat _) ?_
  refine V_aload_n (pc := 4) hk dX3_one_2_4 0 rfl ?_
  refine g_X3_83 (pc := 5) hk dX3_one_2_5 (fun v2 => ?_)
  refine V_aload_n (pc := 8) hk dX3_one_2_8 0 rfl ?_
  refine V_iload_n (pc := 9) hk dX3_one_2_9 1 rfl ?_
  refine V_iload_n (pc := 10) hk dX3_one_2_10 2 rfl ?_
  refine n_X3_115 (pc := 11) hk hR (fun b r h => ctX3_number (fl y) (fK y) hk.2.2.2.2.2.2.2.1 hst b a0 a1 w1 r h) ⟨Nat.le_of_ble_eq_true rfl, Nat.le_of_ble_eq_true rfl⟩ (by simp [rf_cat, cat_int, cat_long, cat_ref]) dX3_one_2_11 (fun v5 w6 => ?_)
  refine V_iconst (pc := 14) (v := (-1)) hk dX3_one_2_14 (by decide +kernel) ?_
  refine V_iconst (pc := 15) (v := (-1)) hk dX3_one_2_15 (by decide +kernel) ?_
  refine V_iconst (pc := 16) (v := (-1)) hk dX3_one_2_16 (by decide +kernel) ?_
  refine V_iconst (pc := 17) (v := (-1)) hk dX3_one_2_17 (by decide +kernel) ?_
  refine V_iload_n (pc := 18) hk dX3_one_2_18 3 rfl ?_
  refine n_X3_119 (pc := 19) hk (fun b r h => ctX15_init (fl y) (fK y) hk.2.2.2.2.2.2.2.1 b v2 v5 (-1) (-1) (-1) (-1) a2 w6 r h) ⟨Nat.le_of_ble_eq_true rfl, Nat.le_of_ble_eq_true rfl⟩ (by simp [rf_cat, cat_int, cat_long, cat_ref]) dX3_one_2_19 (fun r7 => ?_)
  exact V_areturnX (pc := 22) hk (Or.inl ⟨_, rfl⟩) hR rfl dX3_one_2_22
theorem ctX3_one_2 (l : Launch) (K : Kx) (hI : Ini K) (hst : l.stackTraces = false) (b : Nat) (a0 : Int32) (a1 : Int32) (a2 : Int32) (w : Wd) : ∀ r, mX3_one_2 b a0 a1 a2 w = some r → CtX l K 9 212 yX3_one_2 (ws_ yX3_one_2 cX3_one_2 4 (some (.object "HookSwings$Doing"))) [.ref b, .int a0, .int a1, .int a2] w rvR r := CtX_of rvR l K hI 9 212 [.ref b, .int a0, .int a1, .int a2] w (by decide) (lc0 := [(0, .ref b), (1, .int a0), (2, .int a1), (3, .int a2)]) rfl (Nat.le_of_ble_eq_true rfl) (fun y hk hR hl _ hin => eX3_one_2 hk hR (by rw [hl]; exact hst) b a0 a1 a2 w)
noncomputable def mX3_doing_p164 (w : Wd) (l0 : Option Nat) (l1 : Int32) (l2 : Int32) : Option ((Option Nat ⊕ Nat) × Wd) :=
(some (wnew w (.inr (15, df9_X15)) 7)).bind fun (w1 : Wd) =>
(gI w1 l0 3 7).bind fun v2 =>
(((some (wnx w)))).bind fun b4 => (cal w1 (mX15_init b4 v2 l2 (-1) (-1) (-1) (-1) l1 w1)).bind fun r3 =>
some (.inl ((some (wnx w))), r3.2)
noncomputable def mX3_doing_p145 (w : Wd) (l0 : Option Nat) (l1 : Int32) (t0 : Int32) : Option ((Option Nat ⊕ Nat) × Wd) :=
if ¬ t0 = 0 then (
(recv w l0 3).bind fun b2 => (cal w (mX3_next b2 w)).bind fun r1 =>
mX3_doing_p164 r1.2 l0 l1 t0)
else (
(recv w l0 3).bind fun b4 => (calx w (mX3_want b4 215 w)).bind fun r3 => bx r3 fun v5 w6 =>
mX3_doing_p164 w6 l0 l1 t0)
noncomputable def mX3_doing (this : Nat) (a0 : Int32) (w : Wd) : Option ((Option Nat ⊕ Nat) × Wd) :=
(gI w ((some this)) 3 7).bind fun v1 =>
if v1 = 205 then (
(recv w ((some this)) 3).bind fun b3 => (calx w (mX3_number b3 1 99 w)).bind fun r2 => bx r2 fun v4 w5 =>
(recv w5 ((some this)) 3).bind fun b7 => (calx w5 (mX3_behind b7 212 0 60 w5)).bind fun r6 => bx r6 fun v8 w9 =>
(recv w9 ((some this)) 3).bind fun b11 => (calx w9 (mX3_behind b11 213 0 999 w9)).bind fun r10 => bx r10 fun v12 w13 =>
(recv w13 ((some this)) 3).bind fun b15 => (calx w13 (mX3_behind b15 214 0 9 w13)).bind fun r14 => bx r14 fun v16 w17 =>
(some (wnew w17 (.inr (15, df9_X15)) 7)).bind fun (w18 : Wd) =>
(gI w18 ((some this)) 3 7).bind fun v19 =>
(recv w18 ((some this)) 3).bind fun b21 => (calx w18 (mX3_behind b21 215 0 1 w18)).bind fun r20 => bx r20 fun v22 w23 =>
(((some (wnx w17)))).bind fun b25 => (cal w23 (mX15_init b25 v19 v4 v8 v12 v16 v22 a0 w23)).bind fun r24 =>
some (.inl ((some (wnx w17))), r24.2))
else (
if v1 = 206 then (
(gI w ((some this)) 3 4).bind fun v26 =>
if ¬ v26 = 216 then (
(gI w ((some this)) 3 4).bind fun v27 =>
if ¬ v27 = 217 then (
mX3_doing_p145 w ((some this)) a0 0)
else (
mX3_doing_p145 w ((some this)) a0 (-1)))
else (
mX3_doing_p145 w ((some this)) a0 1))
else (
if v1 = 207 then (
(recv w ((some this)) 3).bind fun b29 => (calx w (mX3_one_2 b29 1 60 a0 w)).bind fun r28 => bx r28 fun v30 w31 =>
some (.inl v30, w31))
else (
if v1 = 208 then (
(recv w ((some this)) 3).bind fun b33 => (calx w (mX3_one_2 b33 1 24 a0 w)).bind fun r32 => bx r32 fun v34 w35 =>
some (.inl v34, w35))
else (
if v1 = 209 then (
(recv w ((some this)) 3).bind fun b37 => (calx w (mX3_one_2 b37 0 600 a0 w)).bind fun r36 => bx r36 fun v38 w39 =>
some (.inl v38, w39))
else (
if v1 = 210 then (
(recv w ((some this)) 3).bind fun b41 => (calx w (mX3_one_2 b41 0 7 a0 w)).bind fun r40 => bx r40 fun v42 w43 =>
some (.inl v42, w43))
else (
(some (wnew w (.inr (15, df9_X15)) 7)).bind fun (w44 : Wd) =>
(gI w44 ((some this)) 3 7).bind fun v45 =>
(((some (wnx w)))).bind fun b47 => (cal w44 (mX15_init b47 v45 (-1) (-1) (-1) (-1) (-1) a0 w44)).bind fun r46 =>
some (.inl ((some (wnx w))), r46.2)))))))
theorem eX3_doing_p164 {y : Fx ((Option Nat ⊕ Nat) × Wd)} (hk : OkF y RX3 cX3_doing 6 10 235) (hR : RetX y rvR (some (.object "HookSwings$Doing"))) (hst : (fl y).stackTraces = false) (w : Wd) (l0 : Option Nat) (l1 : Int32) (l2 : Int32) : V y w [(0, va_rf l0), (1, .int l1), (2, .int l2)] [] 164 (mX3_doing_p164 w l0 l1 l2) := by
  unfold mX3_doing_p164
  refine o_X3_117 (pc := 164) hk dX3_doing_164 ?_
  refine V_nmW (fun w1 => ?_)
  refine V_dup (pc := 167) hk dX3_doing_167 (rf_cat _) ?_
  refine V_aload_n (pc := 168) hk dX3_doing_168 0 rfl ?_
  refine g_X3_83 (pc := 169) hk dX3_doing_169 (fun v2 => ?_)
  refine V_iload_n (pc := 172) hk dX3_doing_172 2 rfl ?_
  refine V_iconst (pc := 173) (v := (-1)) hk dX3_doing_173 (by decide +kernel) ?_
  refine V_iconst (pc := 174) (v := (-1)) hk dX3_doing_174 (by decide +kernel) ?_
  refine V_iconst (pc := 175) (v := (-1)) hk dX3_doing_175 (by decide +kernel) ?_
  refine V_iconst (pc := 176) (v := (-1)) hk dX3_doing_176 (by decide +kernel) ?_
  refine V_iload_n (pc := 177) hk dX3_doing_177 1 rfl ?_
  refine n_X3_119 (pc := 178) hk (fun b r h => ctX15_init (fl y) (fK y) hk.2.2.2.2.2.2.2.1 b v2 l2 (-1) (-1) (-1) (-1) l1 w1 r h) ⟨Nat.le_of_ble_eq_true rfl, Nat.le_of_ble_eq_true rfl⟩ (by simp [rf_cat, cat_int, cat_long, cat_ref]) dX3_doing_178 (fun r3 => ?_)
  exact V_areturnX (pc := 181) hk (Or.inl ⟨_, rfl⟩) hR rfl dX3_doing_181
theorem eX3_doing_p145 {y : Fx ((Option Nat ⊕ Nat) × Wd)} (hk : OkF y RX3 cX3_doing 6 10 235) (hR : RetX y rvR (some (.object "HookSwings$Doing"))) (hst : (fl y).stackTraces = false) (w : Wd) (l0 : Option Nat) (l1 : Int32) (t0 : Int32) : V y w [(0, va_rf l0), (1, .int l1)] [.int t0] 145 (mX3_doing_p145 w l0 l1 t0) := by
  unfold mX3_doing_p145
  refine V_istore_n (pc := 145) (lc' := [(2, .int t0), (0, va_rf l0), (1, .int l1)]) (i := 2) hk dX3_doing_145 rfl (Nat.le_of_ble_eq_true rfl) rfl ?_
  refine V_iload_n (pc := 146) hk dX3_doing_146 0 rfl ?_
  refine V_if_ne (pc := 147) (tgt := 160) hk dX3_doing_147 rfl ?_ ?_
  · refine V_aload_n (pc := 160) hk dX3_doing_160 1 rfl ?_
    refine n_X3_74 (pc := 161) hk (fun b r h => ctX3_next (fl y) (fK y) hk.2.2.2.2.2.2.2.1 b w r h) ⟨Nat.le_of_ble_eq_true rfl, Nat.le_of_ble_eq_true rfl⟩ (Nat.le_of_ble_eq_true rfl) dX3_doing_161 (fun r1 => ?_)
    refine V_pick (lc' := [(0, va_rf l0), (1, .int l1), (2, .int t0)]) [1, 2, 0] rfl ?_
    exact eX3_doing_p164 hk hR hst r1.2 l0 l1 t0
  · refine V_aload_n (pc := 150) hk dX3_doing_150 1 rfl ?_
    refine V_sipush (pc := 151) (v := 215) hk dX3_doing_151 rfl ?_
    refine n_X3_111 (pc := 154) hk hR (fun b r h => ctX3_want (fl y) (fK y) hk.2.2.2.2.2.2.2.1 hst b 215 w r h) ⟨Nat.le_of_ble_eq_true rfl, Nat.le_of_ble_eq_true rfl⟩ (Nat.le_of_ble_eq_true rfl) dX3_doing_154 (fun v5 w6 => ?_)
    refine V_goto (pc := 157) (tgt := 164) hk dX3_doing_157 rfl ?_
    refine V_pick (lc' := [(0, va_rf l0), (1, .int l1), (2, .int t0)]) [1, 2, 0] rfl ?_
    exact eX3_doing_p164 hk hR hst w6 l0 l1 t0
theorem eX3_doing {y : Fx ((Option Nat ⊕ Nat) × Wd)} (hk : OkF y RX3 cX3_doing 6 10 235) (hR : RetX y rvR (some (.object "HookSwings$Doing"))) (hst : (fl y).stackTraces = false) (this : Nat) (a0 : Int32) (w : Wd) : V y w [(0, va_rf (some this)), (1, .int a0)] [] 0 (mX3_doing this a0 w) := by
  unfold mX3_doing
  refine V_aload_n (pc := 0) hk dX3_doing_0 0 rfl ?_
  refine g_X3_83 (pc := 1) hk dX3_doing_1 (fun v1 => ?_)
  refine V_if (fun hx => ?_) (fun hn205 => ?_)
  · refine V_tblIn (pc := 4) (tgt := 44) (off := 40) hk 205 hx dX3_doing_4 (by decide) (by decide) (by decide +kernel) rfl ?_
    refine V_aload_n (pc := 44) hk dX3_doing_44 0 rfl ?_
    refine V_iconst (pc := 45) (v := 1) hk dX3_doing_45 rfl ?_
    refine V_bipush (pc := 46) (v := 99) hk dX3_doing_46 rfl ?_
    refine n_X3_115 (pc := 48) hk hR (fun b r h => ctX3_number (fl y) (fK y) hk.2.2.2.2.2.2.2.1 hst b 1 99 w r h) ⟨Nat.le_of_ble_eq_true rfl, Nat.le_of_ble_eq_true rfl⟩ (Nat.le_of_ble_eq_true rfl) dX3_doing_48 (fun v4 w5 => ?_)
    refine V_istore_n (pc := 51) (lc' := [(2, .int v4), (0, va_rf ((some this))), (1, .int a0)]) (i := 2) hk dX3_doing_51 rfl (Nat.le_of_ble_eq_true rfl) rfl ?_
    refine V_aload_n (pc := 52) hk dX3_doing_52 1 rfl ?_
    refine V_sipush (pc := 53) (v := 212) hk dX3_doing_53 rfl ?_
    refine V_iconst (pc := 56) (v := 0) hk dX3_doing_56 rfl ?_
    refine V_bipush (pc := 57) (v := 60) hk dX3_doing_57 rfl ?_
    refine n_X3_122 (pc := 59) hk hR (fun b r h => ctX3_behind (fl y) (fK y) hk.2.2.2.2.2.2.2.1 hst b 212 0 60 w5 r h) ⟨Nat.le_of_ble_eq_true rfl, Nat.le_of_ble_eq_true rfl⟩ (Nat.le_of_ble_eq_true rfl) dX3_doing_59 (fun v8 w9 => ?_)
    refine V_istore_n (pc := 62) (lc' := [(3, .int v8), (2, .int v4), (0, va_rf ((some this))), (1, .int a0)]) (i := 3) hk dX3_doing_62 rfl (Nat.le_of_ble_eq_true rfl) rfl ?_
    refine V_aload_n (pc := 63) hk dX3_doing_63 2 rfl ?_
    refine V_sipush (pc := 64) (v := 213) hk dX3_doing_64 rfl ?_
    refine V_iconst (pc := 67) (v := 0) hk dX3_doing_67 rfl ?_
    refine V_sipush (pc := 68) (v := 999) hk dX3_doing_68 rfl ?_
    refine n_X3_122 (pc := 71) hk hR (fun b r h => ctX3_behind (fl y) (fK y) hk.2.2.2.2.2.2.2.1 hst b 213 0 999 w9 r h) ⟨Nat.le_of_ble_eq_true rfl, Nat.le_of_ble_eq_true rfl⟩ (Nat.le_of_ble_eq_true rfl) dX3_doing_71 (fun v12 w13 => ?_)
    refine V_istore (pc := 74) (lc' := [(4, .int v12), (3, .int v8), (2, .int v4), (0, va_rf ((some this))), (1, .int a0)]) (i := 4) hk dX3_doing_74 (Nat.le_of_ble_eq_true rfl) rfl ?_
    refine V_aload_n (pc := 76) hk dX3_doing_76 3 rfl ?_
    refine V_sipush (pc := 77) (v := 214) hk dX3_doing_77 rfl ?_
    refine V_iconst (pc := 80) (v := 0) hk dX3_doing_80 rfl ?_
    refine V_bipush (pc := 81) (v := 9) hk dX3_doing_81 rfl ?_
    refine n_X3_122 (pc := 83) hk hR (fun b r h => ctX3_behind (fl y) (fK y) hk.2.2.2.2.2.2.2.1 hst b 214 0 9 w13 r h) ⟨Nat.le_of_ble_eq_true rfl, Nat.le_of_ble_eq_true rfl⟩ (Nat.le_of_ble_eq_true rfl) dX3_doing_83 (fun v16 w17 => ?_)
    refine V_istore (pc := 86) (lc' := [(5, .int v16), (4, .int v12), (3, .int v8), (2, .int v4), (0, va_rf ((some this))), (1, .int a0)]) (i := 5) hk dX3_doing_86 (Nat.le_of_ble_eq_true rfl) rfl ?_
    refine o_X3_117 (pc := 88) hk dX3_doing_88 ?_
    refine V_nmW (fun w18 => ?_)
    refine V_dup (pc := 91) hk dX3_doing_91 (rf_cat _) ?_
    refine V_aload_n (pc := 92) hk dX3_doing_92 4 rfl ?_
    refine g_X3_83 (pc := 93) hk dX3_doing_93 (fun v19 => ?_)
    refine V_iload_n (pc := 96) hk dX3_doing_96 3 rfl ?_
    refine V_iload_n (pc := 97) hk dX3_doing_97 2 rfl ?_
    refine V_iload (pc := 98) hk dX3_doing_98 1 rfl ?_
    refine V_iload (pc := 100) hk dX3_doing_100 0 rfl ?_
    refine V_aload_n (pc := 102) hk dX3_doing_102 4 rfl ?_
    refine V_sipush (pc := 103) (v := 215) hk dX3_doing_103 rfl ?_
    refine V_iconst (pc := 106) (v := 0) hk dX3_doing_106 rfl ?_
    refine V_iconst (pc := 107) (v := 1) hk dX3_doing_107 rfl ?_
    refine n_X3_122 (pc := 108) hk hR (fun b r h => ctX3_behind (fl y) (fK y) hk.2.2.2.2.2.2.2.1 hst b 215 0 1 w18 r h) ⟨Nat.le_of_ble_eq_true rfl, Nat.le_of_ble_eq_true rfl⟩ (by simp [rf_cat, cat_int, cat_long, cat_ref]) dX3_doing_108 (fun v22 w23 => ?_)
    refine V_iload_n (pc := 111) hk dX3_doing_111 5 rfl ?_
    refine n_X3_119 (pc := 112) hk (fun b r h => ctX15_init (fl y) (fK y) hk.2.2.2.2.2.2.2.1 b v19 v4 v8 v12 v16 v22 a0 w23 r h) ⟨Nat.le_of_ble_eq_true rfl, Nat.le_of_ble_eq_true rfl⟩ (by simp [rf_cat, cat_int, cat_long, cat_ref]) dX3_doing_112 (fun r24 => ?_)
    exact V_areturnX (pc := 115) hk (Or.inl ⟨_, rfl⟩) hR rfl dX3_doing_115
  refine V_if (fun hx => ?_) (fun hn206 => ?_)
  · refine V_tblIn (pc := 4) (tgt := 116) (off := 112) hk 206 hx dX3_doing_4 (by decide) (by decide) (by decide +kernel) rfl ?_
    refine V_aload_n (pc := 116) hk dX3_doing_116 0 rfl ?_
    refine g_X3_25 (pc := 117) hk dX3_doing_117 (fun v26 => ?_)
    refine V_sipush (pc := 120) (v := 216) hk dX3_doing_120 rfl ?_
    refine V_icmp_ne (pc := 123) (tgt := 130) hk dX3_doing_123 rfl ?_ ?_
    · refine V_aload_n (pc := 130) hk dX3_doing_130 0 rfl ?_
      refine g_X3_25 (pc := 131) hk dX3_doing_131 (fun v27 => ?_)
      refine V_sipush (pc := 134) (v := 217) hk dX3_doing_134 rfl ?_
      refine V_icmp_ne (pc := 137) (tgt := 144) hk dX3_doing_137 rfl ?_ ?_
      · refine V_iconst (pc := 144) (v := 0) hk dX3_doing_144 rfl ?_
        exact eX3_doing_p145 hk hR hst w ((some this)) a0 0
      · refine V_iconst (pc := 140) (v := (-1)) hk dX3_doing_140 (by decide +kernel) ?_
        refine V_goto (pc := 141) (tgt := 145) hk dX3_doing_141 rfl ?_
        exact eX3_doing_p145 hk hR hst w ((some this)) a0 (-1)
    · refine V_iconst (pc := 126) (v := 1) hk dX3_doing_126 rfl ?_
      refine V_goto (pc := 127) (tgt := 145) hk dX3_doing_127 rfl ?_
      exact eX3_doing_p145 hk hR hst w ((some this)) a0 1
  refine V_if (fun hx => ?_) (fun hn207 => ?_)
  · refine V_tblIn (pc := 4) (tgt := 182) (off := 178) hk 207 hx dX3_doing_4 (by decide) (by decide) (by decide +kernel) rfl ?_
    refine V_aload_n (pc := 182) hk dX3_doing_182 0 rfl ?_
    refine V_iconst (pc := 183) (v := 1) hk dX3_doing_183 rfl ?_
    refine V_bipush (pc := 184) (v := 60) hk dX3_doing_184 rfl ?_
    refine V_iload_n (pc := 186) hk dX3_doing_186 1 rfl ?_
    refine n_X3_126 (pc := 187) hk hR (fun b r h => ctX3_one_2 (fl y) (fK y) hk.2.2.2.2.2.2.2.1 hst b 1 60 a0 w r h) ⟨Nat.le_of_ble_eq_true rfl, Nat.le_of_ble_eq_true rfl⟩ (Nat.le_of_ble_eq_true rfl) dX3_doing_187 (fun v30 w31 => ?_)
    exact V_areturnX (pc := 190) hk (Or.inl ⟨_, rfl⟩) hR rfl dX3_doing_190
  refine V_if (fun hx => ?_) (fun hn208 => ?_)
  · refine V_tblIn (pc := 4) (tgt := 191) (off := 187) hk 208 hx dX3_doing_4 (by decide) (by decide) (by decide +kernel) rfl ?_
    refine V_aload_n (pc := 191) hk dX3_doing_191 0 rfl ?_
    refine V_iconst (pc := 192) (v := 1) hk dX3_doing_192 rfl ?_
    refine V_bipush (pc := 193) (v := 24) hk dX3_doing_193 rfl ?_
    refine V_iload_n (pc := 195) hk dX3_doing_195 1 rfl ?_
    refine n_X3_126 (pc := 196) hk hR (fun b r h => ctX3_one_2 (fl y) (fK y) hk.2.2.2.2.2.2.2.1 hst b 1 24 a0 w r h) ⟨Nat.le_of_ble_eq_true rfl, Nat.le_of_ble_eq_true rfl⟩ (Nat.le_of_ble_eq_true rfl) dX3_doing_196 (fun v34 w35 => ?_)
    exact V_areturnX (pc := 199) hk (Or.inl ⟨_, rfl⟩) hR rfl dX3_doing_199
  refine V_if (fun hx => ?_) (fun hn209 => ?_)
  · refine V_tblIn (pc := 4) (tgt := 200) (off := 196) hk 209 hx dX3_doing_4 (by decide) (by decide) (by decide +kernel) rfl ?_
    refine V_aload_n (pc := 200) hk dX3_doing_200 0 rfl ?_
    refine V_iconst (pc := 201) (v := 0) hk dX3_doing_201 rfl ?_
    refine V_sipush (pc := 202) (v := 600) hk dX3_doing_202 rfl ?_
    refine V_iload_n (pc := 205) hk dX3_doing_205 1 rfl ?_
    refine n_X3_126 (pc := 206) hk hR (fun b r h => ctX3_one_2 (fl y) (fK y) hk.2.2.2.2.2.2.2.1 hst b 0 600 a0 w r h) ⟨Nat.le_of_ble_eq_true rfl, Nat.le_of_ble_eq_true rfl⟩ (Nat.le_of_ble_eq_true rfl) dX3_doing_206 (fun v38 w39 => ?_)
    exact V_areturnX (pc := 209) hk (Or.inl ⟨_, rfl⟩) hR rfl dX3_doing_209
  refine V_if (fun hx => ?_) (fun hn210 => ?_)
  · refine V_tblIn (pc := 4) (tgt := 210) (off := 206) hk 210 hx dX3_doing_4 (by decide) (by decide) (by decide +kernel) rfl ?_
    refine V_aload_n (pc := 210) hk dX3_doing_210 0 rfl ?_
    refine V_iconst (pc := 211) (v := 0) hk dX3_doing_211 rfl ?_
    refine V_bipush (pc := 212) (v := 7) hk dX3_doing_212 rfl ?_
    refine V_iload_n (pc := 214) hk dX3_doing_214 1 rfl ?_
    refine n_X3_126 (pc := 215) hk hR (fun b r h => ctX3_one_2 (fl y) (fK y) hk.2.2.2.2.2.2.2.1 hst b 0 7 a0 w r h) ⟨Nat.le_of_ble_eq_true rfl, Nat.le_of_ble_eq_true rfl⟩ (Nat.le_of_ble_eq_true rfl) dX3_doing_215 (fun v42 w43 => ?_)
    exact V_areturnX (pc := 218) hk (Or.inl ⟨_, rfl⟩) hR rfl dX3_doing_218
  refine V_tblOut (pc := 4) (tgt := 219) hk dX3_doing_4 (tbl_out 205 210 (by intro k h1 h2; obtain rfl | rfl | rfl | rfl | rfl | rfl : k = 205 ∨ k = 206 ∨ k = 207 ∨ k = 208 ∨ k = 209 ∨ k = 210 := (by omega); exact hn205; exact hn206; exact hn207; exact hn208; exact hn209; exact hn210)) rfl ?_
  refine o_X3_117 (pc := 219) hk dX3_doing_219 ?_
  refine V_nmW (fun w44 => ?_)
  refine V_dup (pc := 222) hk dX3_doing_222 (rf_cat _) ?_
  refine V_aload_n (pc := 223) hk dX3_doing_223 0 rfl ?_
  refine g_X3_83 (pc := 224) hk dX3_doing_224 (fun v45 => ?_)
  refine V_iconst (pc := 227) (v := (-1)) hk dX3_doing_227 (by decide +kernel) ?_
  refine V_iconst (pc := 228) (v := (-1)) hk dX3_doing_228 (by decide +kernel) ?_
  refine V_iconst (pc := 229) (v := (-1)) hk dX3_doing_229 (by decide +kernel) ?_
  refine V_iconst (pc := 230) (v := (-1)) hk dX3_doing_230 (by decide +kernel) ?_
  refine V_iconst (pc := 231) (v := (-1)) hk dX3_doing_231 (by decide +kernel) ?_
  refine V_iload_n (pc := 232) hk dX3_doing_232 1 rfl ?_
  refine n_X3_119 (pc := 233) hk (fun b r h => ctX15_init (fl y) (fK y) hk.2.2.2.2.2.2.2.1 b v45 (-1) (-1) (-1) (-1) (-1) a0 w44 r h) ⟨Nat.le_of_ble_eq_true rfl, Nat.le_of_ble_eq_true rfl⟩ (by simp [rf_cat, cat_int, cat_long, cat_ref]) dX3_doing_233 (fun r46 => ?_)
  exact V_areturnX (pc := 236) hk (Or.inl ⟨_, rfl⟩) hR rfl dX3_doing_236
theorem ctX3_doing (l : Launch) (K : Kx) (hI : Ini K) (hst : l.stackTraces = false) (b : Nat) (a0 : Int32) (w : Wd) : ∀ r, mX3_doing b a0 w = some r → CtX l K 10 235 yX3_doing (ws_ yX3_doing cX3_doing 6 (some (.object "HookSwings$Doing"))) [.ref b, .int a0] w rvR r := CtX_of rvR l K hI 10 235 [.ref b, .int a0] w (by decide) (lc0 := [(0, .ref b), (1, .int a0)]) rfl (Nat.le_of_ble_eq_true rfl) (fun y hk hR hl _ hin => eX3_doing hk hR (by rw [hl]; exact hst) b a0 w)
