noncomputable def mJ0_init (this : Nat) (w : Wd) : Option (Unit × Wd) :=
(((some this))).bind fun b1 =>
some ((), w)
theorem eJ0_init {y : Fx (Unit × Wd)} (hk : OkF y RJ0 cJ0_init 1 2 60) (hR : RetM y rvV none) (this : Nat) (w : Wd) : V y w [(0, va_rf (some this))] [] 0 (mJ0_init this w) := by
  unfold mJ0_init
  refine V_aload_n (pc := 0) hk dJ0_init_0 0 rfl ?_
  refine V_objInit (pc := 1) hk q377 q170 q171 ⟨Nat.le_of_ble_eq_true rfl, Nat.le_of_ble_eq_true rfl⟩ (Nat.le_of_ble_eq_true rfl) dJ0_init_1 (fun b1 => ?_)
  exact V_return (pc := 4) hk hR rfl dJ0_init_4
theorem ctJ0_init (l : Launch) (K : Kx) (hI : Ini K) (b : Nat) (w : Wd) : ∀ r, mJ0_init b w = some r → Ct l K 2 60 yJ0_init (ws_ yJ0_init cJ0_init 1 none) [.ref b] w (rvV r.1) r.2 := Ct_of rvV l K hI 2 60 [.ref b] w (by decide) (lc0 := [(0, .ref b)]) rfl (Nat.le_of_ble_eq_true rfl) (fun y hk hR _ _ hin => eJ0_init hk hR b w)
noncomputable def mJ1_init (this : Nat) (w : Wd) : Option (Unit × Wd) :=
(((some this))).bind fun b2 => (cal w (mJ0_init b2 w)).bind fun r1 =>
(pf r1.2 ((some this)) 16 0 (.int 0)).bind fun w3 =>
some ((), w3)
theorem eJ1_init {y : Fx (Unit × Wd)} (hk : OkF y RJ1 cJ1_init 1 3 80) (hR : RetM y rvV none) (this : Nat) (w : Wd) : V y w [(0, va_rf (some this))] [] 0 (mJ1_init this w) := by
  unfold mJ1_init
  refine V_aload_n (pc := 0) hk dJ1_init_0 0 rfl ?_
  refine n_J1_1 (pc := 1) hk (fun b r h => ctJ0_init (fl y) (fK y) hk.2.2.2.2.2.2.2.1 b w r h) ⟨Nat.le_of_ble_eq_true rfl, Nat.le_of_ble_eq_true rfl⟩ (Nat.le_of_ble_eq_true rfl) dJ1_init_1 (fun r1 => ?_)
  refine V_aload_n (pc := 4) hk dJ1_init_4 0 rfl ?_
  refine V_iconst (pc := 5) (v := 0) hk dJ1_init_5 rfl ?_
  refine p_J1_7 (pc := 6) hk dJ1_init_6 (fun w3 => ?_)
  exact V_return (pc := 9) hk hR rfl dJ1_init_9
theorem ctJ1_init (l : Launch) (K : Kx) (hI : Ini K) (b : Nat) (w : Wd) : ∀ r, mJ1_init b w = some r → Ct l K 3 80 yJ1_init (ws_ yJ1_init cJ1_init 1 none) [.ref b] w (rvV r.1) r.2 := Ct_of rvV l K hI 3 80 [.ref b] w (by decide) (lc0 := [(0, .ref b)]) rfl (Nat.le_of_ble_eq_true rfl) (fun y hk hR _ _ hin => eJ1_init hk hR b w)
noncomputable def mJ10_init (this : Nat) (w : Wd) : Option (Unit × Wd) :=
(((some this))).bind fun b1 =>
some ((), w)
theorem eJ10_init {y : Fx (Unit × Wd)} (hk : OkF y RJ10 cJ10_init 1 2 60) (hR : RetM y rvV none) (this : Nat) (w : Wd) : V y w [(0, va_rf (some this))] [] 0 (mJ10_init this w) := by
  unfold mJ10_init
  refine V_aload_n (pc := 0) hk dJ10_init_0 0 rfl ?_
  refine V_objInit (pc := 1) hk q569 q170 q171 ⟨Nat.le_of_ble_eq_true rfl, Nat.le_of_ble_eq_true rfl⟩ (Nat.le_of_ble_eq_true rfl) dJ10_init_1 (fun b1 => ?_)
  exact V_return (pc := 4) hk hR rfl dJ10_init_4
theorem ctJ10_init (l : Launch) (K : Kx) (hI : Ini K) (b : Nat) (w : Wd) : ∀ r, mJ10_init b w = some r → Ct l K 2 60 yJ10_init (ws_ yJ10_init cJ10_init 1 none) [.ref b] w (rvV r.1) r.2 := Ct_of rvV l K hI 2 60 [.ref b] w (by decide) (lc0 := [(0, .ref b)]) rfl (Nat.le_of_ble_eq_true rfl) (fun y hk hR _ _ hin => eJ10_init hk hR b w)
noncomputable def mJ11_hugeLength (a0 : Int32) (a1 : Int32) (w : Wd) : Option (Int32 × Wd) :=
if 0 ≤ (a0 + a1) then (
if 2147483639 < (a0 + a1) then (
some (a0 + a1, w))
else (
some (2147483639, w)))
else (
none)
theorem eJ11_hugeLength {y : Fx (Int32 × Wd)} (hk : OkF y RJ11 cJ11_hugeLength 3 2 60) (hR : RetM y rvI (some (.int))) (a0 : Int32) (a1 : Int32) (w : Wd) : V y w [(0, .int a0), (1, .int a1)] [] 0 (mJ11_hugeLength a0 a1 w) := by
  unfold mJ11_hugeLength
  refine V_iload_n (pc := 0) hk dJ11_hugeLength_0 0 rfl ?_
  refine V_iload_n (pc := 1) hk dJ11_hugeLength_1 1 rfl ?_
  refine V_iadd (pc := 2) hk dJ11_hugeLength_2 ?_
  refine V_istore_n (pc := 3) (lc' := [(2, .int (a0 + a1)), (0, .int a0), (1, .int a1)]) (i := 2) hk dJ11_hugeLength_3 rfl (Nat.le_of_ble_eq_true rfl) rfl ?_
  refine V_iload_n (pc := 4) hk dJ11_hugeLength_4 0 rfl ?_
  refine V_if_ge (pc := 5) (tgt := 49) hk dJ11_hugeLength_5 rfl ?_ ?_
  · refine V_iload_n (pc := 49) hk dJ11_hugeLength_49 0 rfl ?_
    refine V_ldc (pc := 50) (v := 2147483639) hk dJ11_hugeLength_50 q666 ?_
    refine V_icmp_gt (pc := 52) (tgt := 58) hk dJ11_hugeLength_52 rfl ?_ ?_
    · refine V_iload_n (pc := 58) hk dJ11_hugeLength_58 0 rfl ?_
      exact V_ireturn (pc := 59) hk hR rfl dJ11_hugeLength_59
    · refine V_ldc (pc := 55) (v := 2147483639) hk dJ11_hugeLength_55 q666 ?_
      exact V_ireturn (pc := 57) hk hR rfl dJ11_hugeLength_57
  · exact V_none
theorem ctJ11_hugeLength (l : Launch) (K : Kx) (hI : Ini K) (a0 : Int32) (a1 : Int32) (w : Wd) : ∀ r, mJ11_hugeLength a0 a1 w = some r → Ct l K 2 60 yJ11_hugeLength (ws_ yJ11_hugeLength cJ11_hugeLength 3 (some (.int))) [.int a0, .int a1] w (rvI r.1) r.2 := Ct_of rvI l K hI 2 60 [.int a0, .int a1] w (by decide) (lc0 := [(0, .int a0), (1, .int a1)]) rfl (Nat.le_of_ble_eq_true rfl) (fun y hk hR _ _ hin => eJ11_hugeLength hk hR a0 a1 w)
noncomputable def mJ11_newLength_p21 (w : Wd) (l0 : Int32) (l1 : Int32) : Option (Int32 × Wd) :=
(cal w (mJ11_hugeLength l0 l1 w)).bind fun r1 =>
some (r1.1, r1.2)
noncomputable def mJ11_newLength (a0 : Int32) (a1 : Int32) (a2 : Int32) (w : Wd) : Option (Int32 × Wd) :=
if (a0 + (jmaxI a1 a2)) ≤ 0 then (
mJ11_newLength_p21 w a0 a1)
else (
if 2147483639 < (a0 + (jmaxI a1 a2)) then (
mJ11_newLength_p21 w a0 a1)
else (
some (a0 + (jmaxI a1 a2), w)))
theorem eJ11_newLength_p21 {y : Fx (Int32 × Wd)} (hk : OkF y RJ11 cJ11_newLength 4 3 82) (hR : RetM y rvI (some (.int))) (w : Wd) (l0 : Int32) (l1 : Int32) : V y w [(0, .int l0), (1, .int l1)] [] 21 (mJ11_newLength_p21 w l0 l1) := by
  unfold mJ11_newLength_p21
  refine V_iload_n (pc := 21) hk dJ11_newLength_21 0 rfl ?_
  refine V_iload_n (pc := 22) hk dJ11_newLength_22 1 rfl ?_
  refine n_J11_201 (pc := 23) hk (fun r h => ctJ11_hugeLength (fl y) (fK y) hk.2.2.2.2.2.2.2.1 l0 l1 w r h) ⟨Nat.le_of_ble_eq_true rfl, Nat.le_of_ble_eq_true rfl⟩ (Nat.le_of_ble_eq_true rfl) dJ11_newLength_23 (fun r1 => ?_)
  exact V_ireturn (pc := 26) hk hR rfl dJ11_newLength_26
theorem eJ11_newLength {y : Fx (Int32 × Wd)} (hk : OkF y RJ11 cJ11_newLength 4 3 82) (hR : RetM y rvI (some (.int))) (a0 : Int32) (a1 : Int32) (a2 : Int32) (w : Wd) : V y w [(0, .int a0), (1, .int a1), (2, .int a2)] [] 0 (mJ11_newLength a0 a1 a2 w) := by
  unfold mJ11_newLength
  refine V_iload_n (pc := 0) hk dJ11_newLength_0 0 rfl ?_
  refine V_iload_n (pc := 1) hk dJ11_newLength_1 1 rfl ?_
  refine V_iload_n (pc := 2) hk dJ11_newLength_2 2 rfl ?_
  refine V_mmax (pc := 3) hk q663 ⟨Nat.le_of_ble_eq_true rfl, Nat.le_of_ble_eq_true rfl⟩ (Nat.le_of_ble_eq_true rfl) dJ11_newLength_3 ?_
  refine V_iadd (pc := 6) hk dJ11_newLength_6 ?_
  refine V_istore_n (pc := 7) (lc' := [(3, .int (a0 + (jmaxI a1 a2))), (0, .int a0), (1, .int a1), (2, .int a2)]) (i := 3) hk dJ11_newLength_7 rfl (Nat.le_of_ble_eq_true rfl) rfl ?_
  refine V_iconst (pc := 8) (v := 0) hk dJ11_newLength_8 rfl ?_
  refine V_iload_n (pc := 9) hk dJ11_newLength_9 0 rfl ?_
  refine V_icmp_ge (pc := 10) (tgt := 21) hk dJ11_newLength_10 rfl ?_ ?_
  · refine V_pick (lc' := [(0, .int a0), (1, .int a1)]) [1, 2] rfl ?_
    exact eJ11_newLength_p21 hk hR w a0 a1
  · refine V_iload_n (pc := 13) hk dJ11_newLength_13 0 rfl ?_
    refine V_ldc (pc := 14) (v := 2147483639) hk dJ11_newLength_14 q666 ?_
    refine V_icmp_gt (pc := 16) (tgt := 21) hk dJ11_newLength_16 rfl ?_ ?_
    · refine V_pick (lc' := [(0, .int a0), (1, .int a1)]) [1, 2] rfl ?_
      exact eJ11_newLength_p21 hk hR w a0 a1
    · refine V_iload_n (pc := 19) hk dJ11_newLength_19 0 rfl ?_
      exact V_ireturn (pc := 20) hk hR rfl dJ11_newLength_20
theorem ctJ11_newLength (l : Launch) (K : Kx) (hI : Ini K) (a0 : Int32) (a1 : Int32) (a2 : Int32) (w : Wd) : ∀ r, mJ11_newLength a0 a1 a2 w = some r → Ct l K 3 82 yJ11_newLength (ws_ yJ11_newLength cJ11_newLength 4 (some (.int))) [.int a0, .int a1, .int a2] w (rvI r.1) r.2 := Ct_of rvI l K hI 3 82 [.int a0, .int a1, .int a2] w (by decide) (lc0 := [(0, .int a0), (1, .int a1), (2, .int a2)]) rfl (Nat.le_of_ble_eq_true rfl) (fun y hk hR _ _ hin => eJ11_newLength hk hR a0 a1 a2 w)
noncomputable def mJ12_copyOf_2 (a0 : Option Nat) (a1 : Int32) (a2 : Option Nat) (w : Wd) : Option (Option Nat × Wd) :=
(acok a2 ((some 399))).bind fun _ => if ¬ a2 = ((some 399)) then (
none)
else (
(nchk a1).bind fun n1 => (some (wnew w (.inl (.object "java/lang/Object", n1, .inr (.inr (.inr (.inr (fun _ => none)))))) n1)).bind fun (w2 : Wd) =>
(alen w2 a0).bind fun v3 =>
(acpR w2 clObj "java/lang/Object" a0 0 ((some (wnx w))) 0 (jminI v3 a1)).bind fun w4 =>
some ((some (wnx w)), w4))
theorem eJ12_copyOf_2 {y : Fx (Option Nat × Wd)} (hk : OkF y RJ12 cJ12_copyOf_2 4 2 60) (hR : RetM y rvR (some (.array (.object "java/lang/Object")))) (a0 : Option Nat) (a1 : Int32) (a2 : Option Nat) (w : Wd) : V y w [(0, va_rf a0), (1, .int a1), (2, va_rf a2)] [] 0 (mJ12_copyOf_2 a0 a1 a2 w) := by
  unfold mJ12_copyOf_2
  refine V_aload_n (pc := 0) hk dJ12_copyOf_2_0 2 rfl ?_
  refine V_ldcM (pc := 1) hk q698 dJ12_copyOf_2_1 ?_
  refine V_acmp_ne (pc := 3) (tgt := 13) hk dJ12_copyOf_2_3 rfl ?_ ?_
  · refine V_aload_n (pc := 13) hk dJ12_copyOf_2_13 2 rfl ?_
    exact V_none
  · refine V_iload_n (pc := 6) hk dJ12_copyOf_2_6 1 rfl ?_
    refine V_anewA (pc := 7) (C := "java/lang/Object") hk (by decide) q700 q699 dJ12_copyOf_2_7 (fun n1 => ?_)
    refine V_nmW (fun w2 => ?_)
    refine V_goto (pc := 10) (tgt := 24) hk dJ12_copyOf_2_10 rfl ?_
    refine V_astore_n (pc := 24) (lc' := [(3, va_rf ((some (wnx w)))), (0, va_rf a0), (1, .int a1), (2, va_rf a2)]) (i := 3) hk dJ12_copyOf_2_24 rfl (Nat.le_of_ble_eq_true rfl) (by simp [rf_cat, cat_int, cat_long, cat_ref]) ?_
    refine V_aload_n (pc := 25) hk dJ12_copyOf_2_25 1 rfl ?_
    refine V_iconst (pc := 26) (v := 0) hk dJ12_copyOf_2_26 rfl ?_
    refine V_aload_n (pc := 27) hk dJ12_copyOf_2_27 0 rfl ?_
    refine V_iconst (pc := 28) (v := 0) hk dJ12_copyOf_2_28 rfl ?_
    refine V_aload_n (pc := 29) hk dJ12_copyOf_2_29 1 rfl ?_
    refine V_alen (pc := 30) hk dJ12_copyOf_2_30 (fun v3 => ?_)
    refine V_iload_n (pc := 31) hk dJ12_copyOf_2_31 2 rfl ?_
    refine V_mmin (pc := 32) hk q701 ⟨Nat.le_of_ble_eq_true rfl, Nat.le_of_ble_eq_true rfl⟩ (by simp [rf_cat, cat_int, cat_long, cat_ref]) dJ12_copyOf_2_32 ?_
    refine V_acpR (pc := 35) hk cst_Obj (acpW hk q702 q222 q221 q132) ⟨Nat.le_of_ble_eq_true rfl, Nat.le_of_ble_eq_true rfl⟩ (Nat.le_of_ble_eq_true rfl) dJ12_copyOf_2_35 (fun w4 => ?_)
    refine V_aload_n (pc := 38) hk dJ12_copyOf_2_38 0 rfl ?_
    exact V_areturn (pc := 39) hk (Or.inr ⟨_, rfl⟩) hR rfl dJ12_copyOf_2_39
theorem ctJ12_copyOf_2 (l : Launch) (K : Kx) (hI : Ini K) (a0 : Option Nat) (a1 : Int32) (a2 : Option Nat) (w : Wd) : ∀ r, mJ12_copyOf_2 a0 a1 a2 w = some r → Ct l K 2 60 yJ12_copyOf_2 (ws_ yJ12_copyOf_2 cJ12_copyOf_2 4 (some (.array (.object "java/lang/Object")))) [va_rf a0, .int a1, va_rf a2] w (rvR r.1) r.2 := Ct_of rvR l K hI 2 60 [va_rf a0, .int a1, va_rf a2] w (by decide) (lc0 := [(0, va_rf a0), (1, .int a1), (2, va_rf a2)]) (by simp [lv_args, rf_cat, cat_int, cat_long, cat_ref]) (lg_len _ _ (by simp [rf_cat, cat_int, cat_long, cat_ref])) (fun y hk hR _ _ hin => eJ12_copyOf_2 hk hR a0 a1 a2 w)
noncomputable def mJ12_copyOf (a0 : Option Nat) (a1 : Int32) (w : Wd) : Option (Option Nat × Wd) :=
(gcls w a0).bind fun _ =>
(cal w (mJ12_copyOf_2 a0 a1 ((some 399)) w)).bind fun r1 =>
some (r1.1, r1.2)
theorem eJ12_copyOf {y : Fx (Option Nat × Wd)} (hk : OkF y RJ12 cJ12_copyOf 2 3 83) (hR : RetM y rvR (some (.array (.object "java/lang/Object")))) (a0 : Option Nat) (a1 : Int32) (w : Wd) : V y w [(0, va_rf a0), (1, .int a1)] [] 0 (mJ12_copyOf a0 a1 w) := by
  unfold mJ12_copyOf
  refine V_aload_n (pc := 0) hk dJ12_copyOf_0 0 rfl ?_
  refine V_iload_n (pc := 1) hk dJ12_copyOf_1 1 rfl ?_
  refine V_aload_n (pc := 2) hk dJ12_copyOf_2 0 rfl ?_
  refine V_getC (pc := 3) hk q673 q2040 q2039 q674 q694 ⟨Nat.le_of_ble_eq_true rfl, Nat.le_of_ble_eq_true rfl⟩ (by simp [rf_cat, cat_int, cat_long, cat_ref]) dJ12_copyOf_3 ?_
  refine n_J12_300 (pc := 6) hk (fun r h => ctJ12_copyOf_2 (fl y) (fK y) hk.2.2.2.2.2.2.2.1 a0 a1 ((some 399)) w r h) ⟨Nat.le_of_ble_eq_true rfl, Nat.le_of_ble_eq_true rfl⟩ (Nat.le_of_ble_eq_true rfl) dJ12_copyOf_6 (fun r1 => ?_)
  exact V_areturn (pc := 9) hk (Or.inr ⟨_, rfl⟩) hR rfl dJ12_copyOf_9
theorem ctJ12_copyOf (l : Launch) (K : Kx) (hI : Ini K) (a0 : Option Nat) (a1 : Int32) (w : Wd) : ∀ r, mJ12_copyOf a0 a1 w = some r → Ct l K 3 83 yJ12_copyOf (ws_ yJ12_copyOf cJ12_copyOf 2 (some (.array (.object "java/lang/Object")))) [va_rf a0, .int a1] w (rvR r.1) r.2 := Ct_of rvR l K hI 3 83 [va_rf a0, .int a1] w (by decide) (lc0 := [(0, va_rf a0), (1, .int a1)]) (by simp [lv_args, rf_cat, cat_int, cat_long, cat_ref]) (lg_len _ _ (by simp [rf_cat, cat_int, cat_long, cat_ref])) (fun y hk hR _ _ hin => eJ12_copyOf hk hR a0 a1 w)
noncomputable def mJ12_rangeCheck (a0 : Int32) (a1 : Int32) (a2 : Int32) (w : Wd) : Option (Unit × Wd) :=
if a1 ≤ a2 then (
if 0 ≤ a1 then (
if a2 ≤ a0 then (
some ((), w))
else (
none))
else (
none))
else (
none)
theorem eJ12_rangeCheck {y : Fx (Unit × Wd)} (hk : OkF y RJ12 cJ12_rangeCheck 3 2 60) (hR : RetM y rvV none) (a0 : Int32) (a1 : Int32) (a2 : Int32) (w : Wd) : V y w [(0, .int a0), (1, .int a1), (2, .int a2)] [] 0 (mJ12_rangeCheck a0 a1 a2 w) := by
  unfold mJ12_rangeCheck
  refine V_iload_n (pc := 0) hk dJ12_rangeCheck_0 1 rfl ?_
  refine V_iload_n (pc := 1) hk dJ12_rangeCheck_1 2 rfl ?_
  refine V_icmp_le (pc := 2) (tgt := 46) hk dJ12_rangeCheck_2 rfl ?_ ?_
  · refine V_iload_n (pc := 46) hk dJ12_rangeCheck_46 1 rfl ?_
    refine V_if_ge (pc := 47) (tgt := 59) hk dJ12_rangeCheck_47 rfl ?_ ?_
    · refine V_iload_n (pc := 59) hk dJ12_rangeCheck_59 2 rfl ?_
      refine V_iload_n (pc := 60) hk dJ12_rangeCheck_60 0 rfl ?_
      refine V_icmp_le (pc := 61) (tgt := 73) hk dJ12_rangeCheck_61 rfl ?_ ?_
      · exact V_return (pc := 73) hk hR rfl dJ12_rangeCheck_73
      · exact V_none
    · exact V_none
  · exact V_none
theorem ctJ12_rangeCheck (l : Launch) (K : Kx) (hI : Ini K) (a0 : Int32) (a1 : Int32) (a2 : Int32) (w : Wd) : ∀ r, mJ12_rangeCheck a0 a1 a2 w = some r → Ct l K 2 60 yJ12_rangeCheck (ws_ yJ12_rangeCheck cJ12_rangeCheck 3 none) [.int a0, .int a1, .int a2] w (rvV r.1) r.2 := Ct_of rvV l K hI 2 60 [.int a0, .int a1, .int a2] w (by decide) (lc0 := [(0, .int a0), (1, .int a1), (2, .int a2)]) rfl (Nat.le_of_ble_eq_true rfl) (fun y hk hR _ _ hin => eJ12_rangeCheck hk hR a0 a1 a2 w)
noncomputable def mJ12_fill_b10 (k10 : Wd → (Option Nat) → Int32 → Int32 → Int32 → Option (Unit × Wd)) (w : Wd) (l0 : Option Nat) (l2 : Int32) (l3 : Int32) (l4 : Int32) : Option (Unit × Wd) :=
if l2 ≤ l4 then (
some ((), w))
else (
(ias w l0 l4 l3).bind fun w1 =>
k10 w1 l0 l2 l3 (l4 + 1))
noncomputable def mJ12_fill_l10 : Nat → Wd → (Option Nat) → Int32 → Int32 → Int32 → Option (Unit × Wd)
  | 0, _, _, _, _, _ => none
  | n + 1, w, l0, l2, l3, l4 => mJ12_fill_b10 (mJ12_fill_l10 n) w l0 l2 l3 l4
noncomputable def mJ12_fill (a0 : Option Nat) (a1 : Int32) (a2 : Int32) (a3 : Int32) (w : Wd) : Option (Unit × Wd) :=
(alen w a0).bind fun v1 =>
(cal w (mJ12_rangeCheck v1 a1 a2 w)).bind fun r2 =>
mJ12_fill_l10 FU r2.2 a0 a2 a3 a1
theorem eJ12_fill_b10 {y : Fx (Unit × Wd)} (hk : OkF y RJ12 cJ12_fill 5 3 82) (hR : RetM y rvV none) {k10 : Wd → (Option Nat) → Int32 → Int32 → Int32 → Option (Unit × Wd)} (h10 : ∀ (w : Wd) (l0 : Option Nat) (l2 : Int32) (l3 : Int32) (l4 : Int32), V y w [(0, va_rf l0), (2, .int l2), (3, .int l3), (4, .int l4)] [] 10 (k10 w l0 l2 l3 l4)) (w : Wd) (l0 : Option Nat) (l2 : Int32) (l3 : Int32) (l4 : Int32) : V y w [(0, va_rf l0), (2, .int l2), (3, .int l3), (4, .int l4)] [] 10 (mJ12_fill_b10 k10 w l0 l2 l3 l4) := by
  unfold mJ12_fill_b10
  refine V_iload (pc := 10) hk dJ12_fill_10 3 rfl ?_
  refine V_iload_n (pc := 12) hk dJ12_fill_12 1 rfl ?_
  refine V_icmp_ge (pc := 13) (tgt := 27) hk dJ12_fill_13 rfl ?_ ?_
  · exact V_return (pc := 27) hk hR rfl dJ12_fill_27
  · refine V_aload_n (pc := 16) hk dJ12_fill_16 0 rfl ?_
    refine V_iload (pc := 17) hk dJ12_fill_17 3 rfl ?_
    refine V_iload_n (pc := 19) hk dJ12_fill_19 2 rfl ?_
    refine V_iastore (pc := 20) hk dJ12_fill_20 (fun w1 => ?_)
    refine V_iinc (pc := 21) (v := 1) (lc' := [(4, .int (l4 + 1)), (0, va_rf l0), (2, .int l2), (3, .int l3)]) hk dJ12_fill_21 3 rfl rfl (Nat.le_of_ble_eq_true rfl) rfl ?_
    refine V_goto (pc := 24) (tgt := 10) hk dJ12_fill_24 rfl ?_
    refine V_pick (lc' := [(0, va_rf l0), (2, .int l2), (3, .int l3), (4, .int (l4 + 1))]) [1, 2, 3, 0] rfl ?_
    exact h10 w1 l0 l2 l3 (l4 + 1)
theorem eJ12_fill_l10 {y : Fx (Unit × Wd)} (hk : OkF y RJ12 cJ12_fill 5 3 82) (hR : RetM y rvV none) : ∀ (n : Nat) (w : Wd) (l0 : Option Nat) (l2 : Int32) (l3 : Int32) (l4 : Int32), V y w [(0, va_rf l0), (2, .int l2), (3, .int l3), (4, .int l4)] [] 10 (mJ12_fill_l10 n w l0 l2 l3 l4) := by
  intro n
  induction n with
  | zero => intro w l0 l2 l3 l4; exact V_none
  | succ n ih => intro w l0 l2 l3 l4; exact eJ12_fill_b10 hk hR ih w l0 l2 l3 l4
theorem eJ12_fill {y : Fx (Unit × Wd)} (hk : OkF y RJ12 cJ12_fill 5 3 82) (hR : RetM y rvV none) (a0 : Option Nat) (a1 : Int32) (a2 : Int32) (a3 : Int32) (w : Wd) : V y w [(0, va_rf a0), (1, .int a1), (2, .int a2), (3, .int a3)] [] 0 (mJ12_fill a0 a1 a2 a3 w) := by
  unfold mJ12_fill
  refine V_aload_n (pc := 0) hk dJ12_fill_0 0 rfl ?_
  refine V_alen (pc := 1) hk dJ12_fill_1 (fun v1 => ?_)
  refine V_iload_n (pc := 2) hk dJ12_fill_2 1 rfl ?_
  refine V_iload_n (pc := 3) hk dJ12_fill_3 2 rfl ?_
  refine n_J12_13 (pc := 4) hk (fun r h => ctJ12_rangeCheck (fl y) (fK y) hk.2.2.2.2.2.2.2.1 v1 a1 a2 w r h) ⟨Nat.le_of_ble_eq_true rfl, Nat.le_of_ble_eq_true rfl⟩ (Nat.le_of_ble_eq_true rfl) dJ12_fill_4 (fun r2 => ?_)
  refine V_iload_n (pc := 7) hk dJ12_fill_7 1 rfl ?_
  refine V_istore (pc := 8) (lc' := [(4, .int a1), (0, va_rf a0), (1, .int a1), (2, .int a2), (3, .int a3)]) (i := 4) hk dJ12_fill_8 (Nat.le_of_ble_eq_true rfl) rfl ?_
  refine V_pick (lc' := [(0, va_rf a0), (2, .int a2), (3, .int a3), (4, .int a1)]) [1, 3, 4, 0] rfl ?_
  exact eJ12_fill_l10 hk hR FU r2.2 a0 a2 a3 a1
theorem ctJ12_fill (l : Launch) (K : Kx) (hI : Ini K) (a0 : Option Nat) (a1 : Int32) (a2 : Int32) (a3 : Int32) (w : Wd) : ∀ r, mJ12_fill a0 a1 a2 a3 w = some r → Ct l K 3 82 yJ12_fill (ws_ yJ12_fill cJ12_fill 5 none) [va_rf a0, .int a1, .int a2, .int a3] w (rvV r.1) r.2 := Ct_of rvV l K hI 3 82 [va_rf a0, .int a1, .int a2, .int a3] w (by decide) (lc0 := [(0, va_rf a0), (1, .int a1), (2, .int a2), (3, .int a3)]) (by simp [lv_args, rf_cat, cat_int, cat_long, cat_ref]) (lg_len _ _ (by simp [rf_cat, cat_int, cat_long, cat_ref])) (fun y hk hR _ _ hin => eJ12_fill hk hR a0 a1 a2 a3 w)
noncomputable def mJ12_fill_2_b5 (k5 : Wd → (Option Nat) → Int32 → Int32 → Int32 → Option (Unit × Wd)) (w : Wd) (l0 : Option Nat) (l1 : Int32) (l2 : Int32) (l3 : Int32) : Option (Unit × Wd) :=
if l3 ≤ l2 then (
some ((), w))
else (
(ias w l0 l2 l1).bind fun w1 =>
k5 w1 l0 l1 (l2 + 1) l3)
noncomputable def mJ12_fill_2_l5 : Nat → Wd → (Option Nat) → Int32 → Int32 → Int32 → Option (Unit × Wd)
  | 0, _, _, _, _, _ => none
  | n + 1, w, l0, l1, l2, l3 => mJ12_fill_2_b5 (mJ12_fill_2_l5 n) w l0 l1 l2 l3
noncomputable def mJ12_fill_2 (a0 : Option Nat) (a1 : Int32) (w : Wd) : Option (Unit × Wd) :=
(alen w a0).bind fun v1 =>
mJ12_fill_2_l5 FU w a0 a1 0 v1
theorem eJ12_fill_2_b5 {y : Fx (Unit × Wd)} (hk : OkF y RJ12 cJ12_fill_2 4 2 60) (hR : RetM y rvV none) {k5 : Wd → (Option Nat) → Int32 → Int32 → Int32 → Option (Unit × Wd)} (h5 : ∀ (w : Wd) (l0 : Option Nat) (l1 : Int32) (l2 : Int32) (l3 : Int32), V y w [(0, va_rf l0), (1, .int l1), (2, .int l2), (3, .int l3)] [] 5 (k5 w l0 l1 l2 l3)) (w : Wd) (l0 : Option Nat) (l1 : Int32) (l2 : Int32) (l3 : Int32) : V y w [(0, va_rf l0), (1, .int l1), (2, .int l2), (3, .int l3)] [] 5 (mJ12_fill_2_b5 k5 w l0 l1 l2 l3) := by
  unfold mJ12_fill_2_b5
  refine V_iload_n (pc := 5) hk dJ12_fill_2_5 2 rfl ?_
  refine V_iload_n (pc := 6) hk dJ12_fill_2_6 3 rfl ?_
  refine V_icmp_ge (pc := 7) (tgt := 20) hk dJ12_fill_2_7 rfl ?_ ?_
  · exact V_return (pc := 20) hk hR rfl dJ12_fill_2_20
  · refine V_aload_n (pc := 10) hk dJ12_fill_2_10 0 rfl ?_
    refine V_iload_n (pc := 11) hk dJ12_fill_2_11 2 rfl ?_
    refine V_iload_n (pc := 12) hk dJ12_fill_2_12 1 rfl ?_
    refine V_iastore (pc := 13) hk dJ12_fill_2_13 (fun w1 => ?_)
    refine V_iinc (pc := 14) (v := 1) (lc' := [(2, .int (l2 + 1)), (0, va_rf l0), (1, .int l1), (3, .int l3)]) hk dJ12_fill_2_14 2 rfl rfl (Nat.le_of_ble_eq_true rfl) rfl ?_
    refine V_goto (pc := 17) (tgt := 5) hk dJ12_fill_2_17 rfl ?_
    refine V_pick (lc' := [(0, va_rf l0), (1, .int l1), (2, .int (l2 + 1)), (3, .int l3)]) [1, 2, 0, 3] rfl ?_
    exact h5 w1 l0 l1 (l2 + 1) l3
theorem eJ12_fill_2_l5 {y : Fx (Unit × Wd)} (hk : OkF y RJ12 cJ12_fill_2 4 2 60) (hR : RetM y rvV none) : ∀ (n : Nat) (w : Wd) (l0 : Option Nat) (l1 : Int32) (l2 : Int32) (l3 : Int32), V y w [(0, va_rf l0), (1, .int l1), (2, .int l2), (3, .int l3)] [] 5 (mJ12_fill_2_l5 n w l0 l1 l2 l3) := by
  intro n
  induction n with
  | zero => intro w l0 l1 l2 l3; exact V_none
  | succ n ih => intro w l0 l1 l2 l3; exact eJ12_fill_2_b5 hk hR ih w l0 l1 l2 l3
theorem eJ12_fill_2 {y : Fx (Unit × Wd)} (hk : OkF y RJ12 cJ12_fill_2 4 2 60) (hR : RetM y rvV none) (a0 : Option Nat) (a1 : Int32) (w : Wd) : V y w [(0, va_rf a0), (1, .int a1)] [] 0 (mJ12_fill_2 a0 a1 w) := by
  unfold mJ12_fill_2
  refine V_iconst (pc := 0) (v := 0) hk dJ12_fill_2_0 rfl ?_
  refine V_istore_n (pc := 1) (lc' := [(2, .int 0), (0, va_rf a0), (1, .int a1)]) (i := 2) hk dJ12_fill_2_1 rfl (Nat.le_of_ble_eq_true rfl) rfl ?_
  refine V_aload_n (pc := 2) hk dJ12_fill_2_2 1 rfl ?_
  refine V_alen (pc := 3) hk dJ12_fill_2_3 (fun v1 => ?_)
  refine V_istore_n (pc := 4) (lc' := [(3, .int v1), (2, .int 0), (0, va_rf a0), (1, .int a1)]) (i := 3) hk dJ12_fill_2_4 rfl (Nat.le_of_ble_eq_true rfl) rfl ?_
  refine V_pick (lc' := [(0, va_rf a0), (1, .int a1), (2, .int 0), (3, .int v1)]) [2, 3, 1, 0] rfl ?_
  exact eJ12_fill_2_l5 hk hR FU w a0 a1 0 v1
theorem ctJ12_fill_2 (l : Launch) (K : Kx) (hI : Ini K) (a0 : Option Nat) (a1 : Int32) (w : Wd) : ∀ r, mJ12_fill_2 a0 a1 w = some r → Ct l K 2 60 yJ12_fill_2 (ws_ yJ12_fill_2 cJ12_fill_2 4 none) [va_rf a0, .int a1] w (rvV r.1) r.2 := Ct_of rvV l K hI 2 60 [va_rf a0, .int a1] w (by decide) (lc0 := [(0, va_rf a0), (1, .int a1)]) (by simp [lv_args, rf_cat, cat_int, cat_long, cat_ref]) (lg_len _ _ (by simp [rf_cat, cat_int, cat_long, cat_ref])) (fun y hk hR _ _ hin => eJ12_fill_2 hk hR a0 a1 w)
noncomputable def mJ5_checkIndex (a0 : Int32) (a1 : Int32) (w : Wd) : Option (Int32 × Wd) :=
if a0 < 0 then (
none)
else (
if a0 < a1 then (
some (a0, w))
else (
none))
theorem eJ5_checkIndex {y : Fx (Int32 × Wd)} (hk : OkF y RJ5 cJ5_checkIndex 3 2 60) (hR : RetM y rvI (some (.int))) (a0 : Int32) (a1 : Int32) (a2 : Option Nat) (w : Wd) : V y w [(0, .int a0), (1, .int a1), (2, va_rf a2)] [] 0 (mJ5_checkIndex a0 a1 w) := by
  unfold mJ5_checkIndex
  refine V_iload_n (pc := 0) hk dJ5_checkIndex_0 0 rfl ?_
  refine V_if_lt (pc := 1) (tgt := 9) hk dJ5_checkIndex_1 rfl ?_ ?_
  · exact V_none
  · refine V_iload_n (pc := 4) hk dJ5_checkIndex_4 0 rfl ?_
    refine V_iload_n (pc := 5) hk dJ5_checkIndex_5 1 rfl ?_
    refine V_icmp_lt (pc := 6) (tgt := 16) hk dJ5_checkIndex_6 rfl ?_ ?_
    · refine V_iload_n (pc := 16) hk dJ5_checkIndex_16 0 rfl ?_
      exact V_ireturn (pc := 17) hk hR rfl dJ5_checkIndex_17
    · exact V_none
theorem ctJ5_checkIndex (l : Launch) (K : Kx) (hI : Ini K) (a0 : Int32) (a1 : Int32) (a2 : Option Nat) (w : Wd) : ∀ r, mJ5_checkIndex a0 a1 w = some r → Ct l K 2 60 yJ5_checkIndex (ws_ yJ5_checkIndex cJ5_checkIndex 3 (some (.int))) [.int a0, .int a1, va_rf a2] w (rvI r.1) r.2 := Ct_of rvI l K hI 2 60 [.int a0, .int a1, va_rf a2] w (by decide) (lc0 := [(0, .int a0), (1, .int a1), (2, va_rf a2)]) (by simp [lv_args, rf_cat, cat_int, cat_long, cat_ref]) (lg_len _ _ (by simp [rf_cat, cat_int, cat_long, cat_ref])) (fun y hk hR _ _ hin => eJ5_checkIndex hk hR a0 a1 a2 w)
noncomputable def mJ13_checkIndex (a0 : Int32) (a1 : Int32) (w : Wd) : Option (Int32 × Wd) :=
(cal w (mJ5_checkIndex a0 a1 w)).bind fun r1 =>
some (r1.1, r1.2)
theorem eJ13_checkIndex {y : Fx (Int32 × Wd)} (hk : OkF y RJ13 cJ13_checkIndex 2 3 82) (hR : RetM y rvI (some (.int))) (a0 : Int32) (a1 : Int32) (w : Wd) : V y w [(0, .int a0), (1, .int a1)] [] 0 (mJ13_checkIndex a0 a1 w) := by
  unfold mJ13_checkIndex
  refine V_iload_n (pc := 0) hk dJ13_checkIndex_0 0 rfl ?_
  refine V_iload_n (pc := 1) hk dJ13_checkIndex_1 1 rfl ?_
  refine V_null (pc := 2) hk dJ13_checkIndex_2 ?_
  refine n_J13_105 (pc := 3) hk (fun r h => ctJ5_checkIndex (fl y) (fK y) hk.2.2.2.2.2.2.2.1 a0 a1 none w r h) ⟨Nat.le_of_ble_eq_true rfl, Nat.le_of_ble_eq_true rfl⟩ (Nat.le_of_ble_eq_true rfl) dJ13_checkIndex_3 (fun r1 => ?_)
  exact V_ireturn (pc := 6) hk hR rfl dJ13_checkIndex_6
theorem ctJ13_checkIndex (l : Launch) (K : Kx) (hI : Ini K) (a0 : Int32) (a1 : Int32) (w : Wd) : ∀ r, mJ13_checkIndex a0 a1 w = some r → Ct l K 3 82 yJ13_checkIndex (ws_ yJ13_checkIndex cJ13_checkIndex 2 (some (.int))) [.int a0, .int a1] w (rvI r.1) r.2 := Ct_of rvI l K hI 3 82 [.int a0, .int a1] w (by decide) (lc0 := [(0, .int a0), (1, .int a1)]) rfl (Nat.le_of_ble_eq_true rfl) (fun y hk hR _ _ hin => eJ13_checkIndex hk hR a0 a1 w)
noncomputable def mJ14_init (this : Nat) (w : Wd) : Option (Unit × Wd) :=
(((some this))).bind fun b1 =>
some ((), w)
theorem eJ14_init {y : Fx (Unit × Wd)} (hk : OkF y RJ14 cJ14_init 1 2 60) (hR : RetM y rvV none) (this : Nat) (w : Wd) : V y w [(0, va_rf (some this))] [] 0 (mJ14_init this w) := by
  unfold mJ14_init
  refine V_aload_n (pc := 0) hk dJ14_init_0 0 rfl ?_
  refine V_objInit (pc := 1) hk q810 q170 q171 ⟨Nat.le_of_ble_eq_true rfl, Nat.le_of_ble_eq_true rfl⟩ (Nat.le_of_ble_eq_true rfl) dJ14_init_1 (fun b1 => ?_)
  exact V_return (pc := 4) hk hR rfl dJ14_init_4
theorem ctJ14_init (l : Launch) (K : Kx) (hI : Ini K) (b : Nat) (w : Wd) : ∀ r, mJ14_init b w = some r → Ct l K 2 60 yJ14_init (ws_ yJ14_init cJ14_init 1 none) [.ref b] w (rvV r.1) r.2 := Ct_of rvV l K hI 2 60 [.ref b] w (by decide) (lc0 := [(0, .ref b)]) rfl (Nat.le_of_ble_eq_true rfl) (fun y hk hR _ _ hin => eJ14_init hk hR b w)
noncomputable def mJ15_init (this : Nat) (a0 : Int32) (w : Wd) : Option (Unit × Wd) :=
(((some this))).bind fun b2 => (cal w (mJ14_init b2 w)).bind fun r1 =>
(pf r1.2 ((some this)) 17 0 (.int a0)).bind fun w3 =>
some ((), w3)
theorem eJ15_init {y : Fx (Unit × Wd)} (hk : OkF y RJ15 cJ15_init 2 3 80) (hR : RetM y rvV none) (hin : (fmeth y).name = "<init>") (this : Nat) (a0 : Int32) (w : Wd) : V y w [(0, va_rf (some this)), (1, .int a0)] [] 0 (mJ15_init this a0 w) := by
  unfold mJ15_init
  refine V_aload_n (pc := 0) hk dJ15_init_0 0 rfl ?_
  refine n_J15_202 (pc := 1) hk (fun b r h => ctJ14_init (fl y) (fK y) hk.2.2.2.2.2.2.2.1 b w r h) ⟨Nat.le_of_ble_eq_true rfl, Nat.le_of_ble_eq_true rfl⟩ (Nat.le_of_ble_eq_true rfl) dJ15_init_1 (fun r1 => ?_)
  refine V_aload_n (pc := 4) hk dJ15_init_4 0 rfl ?_
  refine V_iload_n (pc := 5) hk dJ15_init_5 1 rfl ?_
  refine p_J15_205 (pc := 6) hk hin dJ15_init_6 (fun w3 => ?_)
  exact V_return (pc := 9) hk hR rfl dJ15_init_9
theorem ctJ15_init (l : Launch) (K : Kx) (hI : Ini K) (b : Nat) (a0 : Int32) (w : Wd) : ∀ r, mJ15_init b a0 w = some r → Ct l K 3 80 yJ15_init (ws_ yJ15_init cJ15_init 2 none) [.ref b, .int a0] w (rvV r.1) r.2 := Ct_of rvV l K hI 3 80 [.ref b, .int a0] w (by decide) (lc0 := [(0, .ref b), (1, .int a0)]) rfl (Nat.le_of_ble_eq_true rfl) (fun y hk hR _ _ hin => eJ15_init hk hR hin b a0 w)
noncomputable def mJ15_valueOf_p23 (w : Wd) (l0 : Int32) : Option (Option Nat × Wd) :=
(some (wnew w (.inr (17, df9_J15)) 1)).bind fun (w1 : Wd) =>
(((some (wnx w)))).bind fun b3 => (cal w1 (mJ15_init b3 l0 w1)).bind fun r2 =>
some ((some (wnx w)), r2.2)
noncomputable def mJ15_valueOf (a0 : Int32) (w : Wd) : Option (Option Nat × Wd) :=
if a0 < (-128) then (
mJ15_valueOf_p23 w a0)
else (
if 127 < a0 then (
mJ15_valueOf_p23 w a0)
else (
(aa w ((some 5)) (a0 + 128)).bind fun v1 =>
some (v1, w)))
theorem eJ15_valueOf_p23 {y : Fx (Option Nat × Wd)} (hk : OkF y RJ15 cJ15_valueOf 1 4 101) (hR : RetM y rvR (some (.object "java/lang/Integer"))) (w : Wd) (l0 : Int32) : V y w [(0, .int l0)] [] 23 (mJ15_valueOf_p23 w l0) := by
  unfold mJ15_valueOf_p23
  refine o_J15_1 (pc := 23) hk dJ15_valueOf_23 ?_
  refine V_nmW (fun w1 => ?_)
  refine V_dup (pc := 26) hk dJ15_valueOf_26 (rf_cat _) ?_
  refine V_iload_n (pc := 27) hk dJ15_valueOf_27 0 rfl ?_
  refine n_J15_199 (pc := 28) hk (fun b r h => ctJ15_init (fl y) (fK y) hk.2.2.2.2.2.2.2.1 b l0 w1 r h) ⟨Nat.le_of_ble_eq_true rfl, Nat.le_of_ble_eq_true rfl⟩ (by simp [rf_cat, cat_int, cat_long, cat_ref]) dJ15_valueOf_28 (fun r2 => ?_)
  exact V_areturn (pc := 31) hk (Or.inl ⟨_, rfl⟩) hR rfl dJ15_valueOf_31
theorem eJ15_valueOf {y : Fx (Option Nat × Wd)} (hk : OkF y RJ15 cJ15_valueOf 1 4 101) (hR : RetM y rvR (some (.object "java/lang/Integer"))) (a0 : Int32) (w : Wd) : V y w [(0, .int a0)] [] 0 (mJ15_valueOf a0 w) := by
  unfold mJ15_valueOf
  refine V_iload_n (pc := 0) hk dJ15_valueOf_0 0 rfl ?_
  refine V_bipush (pc := 1) (v := (-128)) hk dJ15_valueOf_1 (by decide +kernel) ?_
  refine V_icmp_lt (pc := 3) (tgt := 23) hk dJ15_valueOf_3 rfl ?_ ?_
  · exact eJ15_valueOf_p23 hk hR w a0
  · refine V_iload_n (pc := 6) hk dJ15_valueOf_6 0 rfl ?_
    refine V_gets (pc := 7) (v := .int 127) (C := "java/lang/Integer$IntegerCache") hk (by decide +kernel) q798 (fun _ h => h) dJ15_valueOf_7 ?_
    refine V_icmp_gt (pc := 10) (tgt := 23) hk dJ15_valueOf_10 rfl ?_ ?_
    · exact eJ15_valueOf_p23 hk hR w a0
    · refine V_gets (pc := 13) (v := va_rf (some 5)) (C := "java/lang/Integer$IntegerCache") hk (by decide +kernel) q800 (fun _ h => h) dJ15_valueOf_13 ?_
      refine V_iload_n (pc := 16) hk dJ15_valueOf_16 0 rfl ?_
      refine V_sipush (pc := 17) (v := 128) hk dJ15_valueOf_17 rfl ?_
      refine V_iadd (pc := 20) hk dJ15_valueOf_20 ?_
      refine V_aaload (pc := 21) hk dJ15_valueOf_21 (fun v1 => ?_)
      exact V_areturn (pc := 22) hk (Or.inl ⟨_, rfl⟩) hR rfl dJ15_valueOf_22
theorem ctJ15_valueOf (l : Launch) (K : Kx) (hI : Ini K) (a0 : Int32) (w : Wd) : ∀ r, mJ15_valueOf a0 w = some r → Ct l K 4 101 yJ15_valueOf (ws_ yJ15_valueOf cJ15_valueOf 1 (some (.object "java/lang/Integer"))) [.int a0] w (rvR r.1) r.2 := Ct_of rvR l K hI 4 101 [.int a0] w (by decide) (lc0 := [(0, .int a0)]) rfl (Nat.le_of_ble_eq_true rfl) (fun y hk hR _ _ hin => eJ15_valueOf hk hR a0 w)
noncomputable def mJ15_intValue (this : Nat) (w : Wd) : Option (Int32 × Wd) :=
(gI w ((some this)) 17 0).bind fun v1 =>
some (v1, w)
theorem eJ15_intValue {y : Fx (Int32 × Wd)} (hk : OkF y RJ15 cJ15_intValue 1 2 60) (hR : RetM y rvI (some (.int))) (this : Nat) (w : Wd) : V y w [(0, va_rf (some this))] [] 0 (mJ15_intValue this w) := by
  unfold mJ15_intValue
  refine V_aload_n (pc := 0) hk dJ15_intValue_0 0 rfl ?_
  refine g_J15_205 (pc := 1) hk dJ15_intValue_1 (fun v1 => ?_)
  exact V_ireturn (pc := 4) hk hR rfl dJ15_intValue_4
theorem ctJ15_intValue (l : Launch) (K : Kx) (hI : Ini K) (b : Nat) (w : Wd) : ∀ r, mJ15_intValue b w = some r → Ct l K 2 60 yJ15_intValue (ws_ yJ15_intValue cJ15_intValue 1 (some (.int))) [.ref b] w (rvI r.1) r.2 := Ct_of rvI l K hI 2 60 [.ref b] w (by decide) (lc0 := [(0, .ref b)]) rfl (Nat.le_of_ble_eq_true rfl) (fun y hk hR _ _ hin => eJ15_intValue hk hR b w)
noncomputable def mJ15_bitCount (a0 : Int32) (w : Wd) : Option (Int32 × Wd) :=
(some (a0 - ((((a0 : Int32).toUInt32 >>> ((1 : Int32).toUInt32 &&& Int32.toUInt32 31)).toInt32) &&& 1431655765))).bind fun (x1 : Int32) =>
(some ((x1 &&& 858993459) + ((((x1 : Int32).toUInt32 >>> ((2 : Int32).toUInt32 &&& Int32.toUInt32 31)).toInt32) &&& 858993459))).bind fun (x2 : Int32) =>
(some ((x2 + (((x2 : Int32).toUInt32 >>> ((4 : Int32).toUInt32 &&& Int32.toUInt32 31)).toInt32)) &&& 252645135)).bind fun (x3 : Int32) =>
(some (x3 + (((x3 : Int32).toUInt32 >>> ((8 : Int32).toUInt32 &&& Int32.toUInt32 31)).toInt32))).bind fun (x4 : Int32) =>
(some (x4 + (((x4 : Int32).toUInt32 >>> ((16 : Int32).toUInt32 &&& Int32.toUInt32 31)).toInt32))).bind fun (x5 : Int32) =>
some (x5 &&& 63, w)
theorem eJ15_bitCount {y : Fx (Int32 × Wd)} (hk : OkF y RJ15 cJ15_bitCount 1 2 60) (hR : RetM y rvI (some (.int))) (a0 : Int32) (w : Wd) : V y w [(0, .int a0)] [] 0 (mJ15_bitCount a0 w) := by
  unfold mJ15_bitCount
  refine V_iload_n (pc := 0) hk dJ15_bitCount_0 0 rfl ?_
  refine V_iload_n (pc := 1) hk dJ15_bitCount_1 0 rfl ?_
  refine V_iconst (pc := 2) (v := 1) hk dJ15_bitCount_2 rfl ?_
  refine V_iushr (pc := 3) hk dJ15_bitCount_3 ?_
  refine V_ldcw (pc := 4) (v := 1431655765) hk dJ15_bitCount_4 q1281 ?_
  refine V_iand (pc := 7) hk dJ15_bitCount_7 ?_
  refine V_isub (pc := 8) hk dJ15_bitCount_8 ?_
  refine V_nmI (fun x1 => ?_)
  refine V_istore_n (pc := 9) (lc' := [(0, .int x1)]) (i := 0) hk dJ15_bitCount_9 rfl (Nat.le_of_ble_eq_true rfl) rfl ?_
  refine V_iload_n (pc := 10) hk dJ15_bitCount_10 0 rfl ?_
  refine V_ldcw (pc := 11) (v := 858993459) hk dJ15_bitCount_11 q1282 ?_
  refine V_iand (pc := 14) hk dJ15_bitCount_14 ?_
  refine V_iload_n (pc := 15) hk dJ15_bitCount_15 0 rfl ?_
  refine V_iconst (pc := 16) (v := 2) hk dJ15_bitCount_16 rfl ?_
  refine V_iushr (pc := 17) hk dJ15_bitCount_17 ?_
  refine V_ldcw (pc := 18) (v := 858993459) hk dJ15_bitCount_18 q1282 ?_
  refine V_iand (pc := 21) hk dJ15_bitCount_21 ?_
  refine V_iadd (pc := 22) hk dJ15_bitCount_22 ?_
  refine V_nmI (fun x2 => ?_)
  refine V_istore_n (pc := 23) (lc' := [(0, .int x2)]) (i := 0) hk dJ15_bitCount_23 rfl (Nat.le_of_ble_eq_true rfl) rfl ?_
  refine V_iload_n (pc := 24) hk dJ15_bitCount_24 0 rfl ?_
  refine V_iload_n (pc := 25) hk dJ15_bitCount_25 0 rfl ?_
  refine V_iconst (pc := 26) (v := 4) hk dJ15_bitCount_26 rfl ?_
  refine V_iushr (pc := 27) hk dJ15_bitCount_27 ?_
  refine V_iadd (pc := 28) hk dJ15_bitCount_28 ?_
  refine V_ldcw (pc := 29) (v := 252645135) hk dJ15_bitCount_29 q1283 ?_
  refine V_iand (pc := 32) hk dJ15_bitCount_32 ?_
  refine V_nmI (fun x3 => ?_)
  refine V_istore_n (pc := 33) (lc' := [(0, .int x3)]) (i := 0) hk dJ15_bitCount_33 rfl (Nat.le_of_ble_eq_true rfl) rfl ?_
  refine V_iload_n (pc := 34) hk dJ15_bitCount_34 0 rfl ?_
  refine V_iload_n (pc := 35) hk dJ15_bitCount_35 0 rfl ?_
  refine V_bipush (pc := 36) (v := 8) hk dJ15_bitCount_36 rfl ?_
  refine V_iushr (pc := 38) hk dJ15_bitCount_38 ?_
  refine V_iadd (pc := 39) hk dJ15_bitCount_39 ?_
  refine V_nmI (fun x4 => ?_)
  refine V_istore_n (pc := 40) (lc' := [(0, .int x4)]) (i := 0) hk dJ15_bitCount_40 rfl (Nat.le_of_ble_eq_true rfl) rfl ?_
  refine V_iload_n (pc := 41) hk dJ15_bitCount_41 0 rfl ?_
  refine V_iload_n (pc := 42) hk dJ15_bitCount_42 0 rfl ?_
  refine V_bipush (pc := 43) (v := 16) hk dJ15_bitCount_43 rfl ?_
  refine V_iushr (pc := 45) hk dJ15_bitCount_45 ?_
  refine V_iadd (pc := 46) hk dJ15_bitCount_46 ?_
  refine V_nmI (fun x5 => ?_)
  refine V_istore_n (pc := 47) (lc' := [(0, .int x5)]) (i := 0) hk dJ15_bitCount_47 rfl (Nat.le_of_ble_eq_true rfl) rfl ?_
  refine V_iload_n (pc := 48) hk dJ15_bitCount_48 0 rfl ?_
  refine V_bipush (pc := 49) (v := 63) hk dJ15_bitCount_49 rfl ?_
  refine V_iand (pc := 51) hk dJ15_bitCount_51 ?_
  exact V_ireturn (pc := 52) hk hR rfl dJ15_bitCount_52
theorem ctJ15_bitCount (l : Launch) (K : Kx) (hI : Ini K) (a0 : Int32) (w : Wd) : ∀ r, mJ15_bitCount a0 w = some r → Ct l K 2 60 yJ15_bitCount (ws_ yJ15_bitCount cJ15_bitCount 1 (some (.int))) [.int a0] w (rvI r.1) r.2 := Ct_of rvI l K hI 2 60 [.int a0] w (by decide) (lc0 := [(0, .int a0)]) rfl (Nat.le_of_ble_eq_true rfl) (fun y hk hR _ _ hin => eJ15_bitCount hk hR a0 w)
noncomputable def mJ2_init (this : Nat) (w : Wd) : Option (Unit × Wd) :=
(((some this))).bind fun b2 => (cal w (mJ1_init b2 w)).bind fun r1 =>
(pf r1.2 ((some this)) 16 1 (va_rf ((some 4)))).bind fun w3 =>
some ((), w3)
theorem eJ2_init {y : Fx (Unit × Wd)} (hk : OkF y RJ2 cJ2_init 1 4 100) (hR : RetM y rvV none) (this : Nat) (w : Wd) : V y w [(0, va_rf (some this))] [] 0 (mJ2_init this w) := by
  unfold mJ2_init
  refine V_aload_n (pc := 0) hk dJ2_init_0 0 rfl ?_
  refine n_J2_1 (pc := 1) hk (fun b r h => ctJ1_init (fl y) (fK y) hk.2.2.2.2.2.2.2.1 b w r h) ⟨Nat.le_of_ble_eq_true rfl, Nat.le_of_ble_eq_true rfl⟩ (Nat.le_of_ble_eq_true rfl) dJ2_init_1 (fun r1 => ?_)
  refine V_aload_n (pc := 4) hk dJ2_init_4 0 rfl ?_
  refine V_gets (pc := 5) (v := va_rf (some 4)) (C := "java/util/ArrayList") hk (by decide +kernel) q378 (fun _ h => h) dJ2_init_5 ?_
  refine p_J2_9 (pc := 8) hk dJ2_init_8 (fun w3 => ?_)
  exact V_return (pc := 11) hk hR rfl dJ2_init_11
theorem ctJ2_init (l : Launch) (K : Kx) (hI : Ini K) (b : Nat) (w : Wd) : ∀ r, mJ2_init b w = some r → Ct l K 4 100 yJ2_init (ws_ yJ2_init cJ2_init 1 none) [.ref b] w (rvV r.1) r.2 := Ct_of rvV l K hI 4 100 [.ref b] w (by decide) (lc0 := [(0, .ref b)]) rfl (Nat.le_of_ble_eq_true rfl) (fun y hk hR _ _ hin => eJ2_init hk hR b w)
noncomputable def mJ2_grow_2_p20 (w : Wd) (l0 : Option Nat) (l1 : Int32) (l2 : Int32) : Option (Option Nat × Wd) :=
(cal w (mJ11_newLength l2 (l1 - l2) (l2 >>> (1 &&& 31)) w)).bind fun r1 =>
(gR r1.2 l0 16 1).bind fun v2 =>
(cal r1.2 (mJ12_copyOf v2 r1.1 r1.2)).bind fun r3 =>
(pf r3.2 l0 16 1 (va_rf r3.1)).bind fun w4 =>
some (r3.1, w4)
noncomputable def mJ2_grow_2 (this : Nat) (a0 : Int32) (w : Wd) : Option (Option Nat × Wd) :=
(gR w ((some this)) 16 1).bind fun v1 =>
(alen w v1).bind fun v2 =>
if 0 < v2 then (
mJ2_grow_2_p20 w ((some this)) a0 v2)
else (
(gR w ((some this)) 16 1).bind fun v3 =>
(acok v3 ((some 4))).bind fun _ => if v3 = ((some 4)) then (
(nchk (jmaxI 10 a0)).bind fun n4 => (some (wnew w (.inl (.object "java/lang/Object", n4, .inr (.inr (.inr (.inr (fun _ => none)))))) n4)).bind fun (w5 : Wd) =>
(pf w5 ((some this)) 16 1 (va_rf ((some (wnx w))))).bind fun w6 =>
some ((some (wnx w)), w6))
else (
mJ2_grow_2_p20 w ((some this)) a0 v2))
theorem eJ2_grow_2_p20 {y : Fx (Option Nat × Wd)} (hk : OkF y RJ2 cJ2_grow_2 4 4 105) (hR : RetM y rvR (some (.array (.object "java/lang/Object")))) (w : Wd) (l0 : Option Nat) (l1 : Int32) (l2 : Int32) : V y w [(0, va_rf l0), (1, .int l1), (2, .int l2)] [] 20 (mJ2_grow_2_p20 w l0 l1 l2) := by
  unfold mJ2_grow_2_p20
  refine V_iload_n (pc := 20) hk dJ2_grow_2_20 2 rfl ?_
  refine V_iload_n (pc := 21) hk dJ2_grow_2_21 1 rfl ?_
  refine V_iload_n (pc := 22) hk dJ2_grow_2_22 2 rfl ?_
  refine V_isub (pc := 23) hk dJ2_grow_2_23 ?_
  refine V_iload_n (pc := 24) hk dJ2_grow_2_24 2 rfl ?_
  refine V_iconst (pc := 25) (v := 1) hk dJ2_grow_2_25 rfl ?_
  refine V_ishr (pc := 26) hk dJ2_grow_2_26 ?_
  refine n_J2_73 (pc := 27) hk (fun r h => ctJ11_newLength (fl y) (fK y) hk.2.2.2.2.2.2.2.1 l2 (l1 - l2) (l2 >>> (1 &&& 31)) w r h) ⟨Nat.le_of_ble_eq_true rfl, Nat.le_of_ble_eq_true rfl⟩ (Nat.le_of_ble_eq_true rfl) dJ2_grow_2_27 (fun r1 => ?_)
  refine V_istore_n (pc := 30) (lc' := [(3, .int r1.1), (0, va_rf l0), (1, .int l1), (2, .int l2)]) (i := 3) hk dJ2_grow_2_30 rfl (Nat.le_of_ble_eq_true rfl) rfl ?_
  refine V_aload_n (pc := 31) hk dJ2_grow_2_31 1 rfl ?_
  refine V_aload_n (pc := 32) hk dJ2_grow_2_32 1 rfl ?_
  refine g_J2_9 (pc := 33) hk dJ2_grow_2_33 (fun v2 => ?_)
  refine V_iload_n (pc := 36) hk dJ2_grow_2_36 0 rfl ?_
  refine n_J2_66 (pc := 37) hk (fun r h => ctJ12_copyOf (fl y) (fK y) hk.2.2.2.2.2.2.2.1 v2 r1.1 r1.2 r h) ⟨Nat.le_of_ble_eq_true rfl, Nat.le_of_ble_eq_true rfl⟩ (by simp [rf_cat, cat_int, cat_long, cat_ref]) dJ2_grow_2_37 (fun r3 => ?_)
  refine V_dup_x1 (pc := 40) hk dJ2_grow_2_40 (rf_cat _) (rf_cat _) ?_
  refine p_J2_9 (pc := 41) hk dJ2_grow_2_41 (fun w4 => ?_)
  exact V_areturn (pc := 44) hk (Or.inr ⟨_, rfl⟩) hR rfl dJ2_grow_2_44
theorem eJ2_grow_2 {y : Fx (Option Nat × Wd)} (hk : OkF y RJ2 cJ2_grow_2 4 4 105) (hR : RetM y rvR (some (.array (.object "java/lang/Object")))) (this : Nat) (a0 : Int32) (w : Wd) : V y w [(0, va_rf (some this)), (1, .int a0)] [] 0 (mJ2_grow_2 this a0 w) := by
  unfold mJ2_grow_2
  refine V_aload_n (pc := 0) hk dJ2_grow_2_0 0 rfl ?_
  refine g_J2_9 (pc := 1) hk dJ2_grow_2_1 (fun v1 => ?_)
  refine V_alen (pc := 4) hk dJ2_grow_2_4 (fun v2 => ?_)
  refine V_istore_n (pc := 5) (lc' := [(2, .int v2), (0, va_rf ((some this))), (1, .int a0)]) (i := 2) hk dJ2_grow_2_5 rfl (Nat.le_of_ble_eq_true rfl) rfl ?_
  refine V_iload_n (pc := 6) hk dJ2_grow_2_6 0 rfl ?_
  refine V_if_gt (pc := 7) (tgt := 20) hk dJ2_grow_2_7 rfl ?_ ?_
  · refine V_pick (lc' := [(0, va_rf ((some this))), (1, .int a0), (2, .int v2)]) [1, 2, 0] rfl ?_
    exact eJ2_grow_2_p20 hk hR w ((some this)) a0 v2
  · refine V_aload_n (pc := 10) hk dJ2_grow_2_10 1 rfl ?_
    refine g_J2_9 (pc := 11) hk dJ2_grow_2_11 (fun v3 => ?_)
    refine V_gets (pc := 14) (v := va_rf (some 4)) (C := "java/util/ArrayList") hk (by decide +kernel) q378 (fun _ h => h) dJ2_grow_2_14 ?_
    refine V_acmp_eq (pc := 17) (tgt := 45) hk dJ2_grow_2_17 rfl ?_ ?_
    · refine V_aload_n (pc := 45) hk dJ2_grow_2_45 1 rfl ?_
      refine V_bipush (pc := 46) (v := 10) hk dJ2_grow_2_46 rfl ?_
      refine V_iload_n (pc := 48) hk dJ2_grow_2_48 2 rfl ?_
      refine V_mmax (pc := 49) hk q703 ⟨Nat.le_of_ble_eq_true rfl, Nat.le_of_ble_eq_true rfl⟩ (by simp [rf_cat, cat_int, cat_long, cat_ref]) dJ2_grow_2_49 ?_
      refine V_anewA (pc := 52) (C := "java/lang/Object") hk (by decide) q704 q699 dJ2_grow_2_52 (fun n4 => ?_)
      refine V_nmW (fun w5 => ?_)
      refine V_dup_x1 (pc := 55) hk dJ2_grow_2_55 (rf_cat _) (rf_cat _) ?_
      refine p_J2_9 (pc := 56) hk dJ2_grow_2_56 (fun w6 => ?_)
      exact V_areturn (pc := 59) hk (Or.inr ⟨_, rfl⟩) hR rfl dJ2_grow_2_59
    · refine V_pick (lc' := [(0, va_rf ((some this))), (1, .int a0), (2, .int v2)]) [1, 2, 0] rfl ?_
      exact eJ2_grow_2_p20 hk hR w ((some this)) a0 v2
theorem ctJ2_grow_2 (l : Launch) (K : Kx) (hI : Ini K) (b : Nat) (a0 : Int32) (w : Wd) : ∀ r, mJ2_grow_2 b a0 w = some r → Ct l K 4 105 yJ2_grow_2 (ws_ yJ2_grow_2 cJ2_grow_2 4 (some (.array (.object "java/lang/Object")))) [.ref b, .int a0] w (rvR r.1) r.2 := Ct_of rvR l K hI 4 105 [.ref b, .int a0] w (by decide) (lc0 := [(0, .ref b), (1, .int a0)]) rfl (Nat.le_of_ble_eq_true rfl) (fun y hk hR _ _ hin => eJ2_grow_2 hk hR b a0 w)
noncomputable def mJ2_grow (this : Nat) (w : Wd) : Option (Option Nat × Wd) :=
(gI w ((some this)) 16 2).bind fun v1 =>
(recv w ((some this)) 16).bind fun b3 => (cal w (mJ2_grow_2 b3 (v1 + 1) w)).bind fun r2 =>
some (r2.1, r2.2)
theorem eJ2_grow {y : Fx (Option Nat × Wd)} (hk : OkF y RJ2 cJ2_grow 1 5 128) (hR : RetM y rvR (some (.array (.object "java/lang/Object")))) (this : Nat) (w : Wd) : V y w [(0, va_rf (some this))] [] 0 (mJ2_grow this w) := by
  unfold mJ2_grow
  refine V_aload_n (pc := 0) hk dJ2_grow_0 0 rfl ?_
  refine V_aload_n (pc := 1) hk dJ2_grow_1 0 rfl ?_
  refine g_J2_48 (pc := 2) hk dJ2_grow_2 (fun v1 => ?_)
  refine V_iconst (pc := 5) (v := 1) hk dJ2_grow_5 rfl ?_
  refine V_iadd (pc := 6) hk dJ2_grow_6 ?_
  refine n_J2_69 (pc := 7) hk (fun b r h => ctJ2_grow_2 (fl y) (fK y) hk.2.2.2.2.2.2.2.1 b (v1 + 1) w r h) ⟨Nat.le_of_ble_eq_true rfl, Nat.le_of_ble_eq_true rfl⟩ (Nat.le_of_ble_eq_true rfl) dJ2_grow_7 (fun r2 => ?_)
  exact V_areturn (pc := 10) hk (Or.inr ⟨_, rfl⟩) hR rfl dJ2_grow_10
theorem ctJ2_grow (l : Launch) (K : Kx) (hI : Ini K) (b : Nat) (w : Wd) : ∀ r, mJ2_grow b w = some r → Ct l K 5 128 yJ2_grow (ws_ yJ2_grow cJ2_grow 1 (some (.array (.object "java/lang/Object")))) [.ref b] w (rvR r.1) r.2 := Ct_of rvR l K hI 5 128 [.ref b] w (by decide) (lc0 := [(0, .ref b)]) rfl (Nat.le_of_ble_eq_true rfl) (fun y hk hR _ _ hin => eJ2_grow hk hR b w)
noncomputable def mJ2_add_2_p11 (w : Wd) (l0 : Option Nat) (l1 : Option Nat) (l2 : Option Nat) (l3 : Int32) : Option (Unit × Wd) :=
(aas w clObj "java/lang/Object" l2 l3 l1).bind fun w1 =>
(pf w1 l0 16 2 (.int (l3 + 1))).bind fun w2 =>
some ((), w2)
noncomputable def mJ2_add_2 (this : Nat) (a0 : Option Nat) (a1 : Option Nat) (a2 : Int32) (w : Wd) : Option (Unit × Wd) :=
(alen w a1).bind fun v1 =>
if ¬ a2 = v1 then (
mJ2_add_2_p11 w ((some this)) a0 a1 a2)
else (
(recv w ((some this)) 16).bind fun b3 => (cal w (mJ2_grow b3 w)).bind fun r2 =>
mJ2_add_2_p11 r2.2 ((some this)) a0 r2.1 a2)
theorem eJ2_add_2_p11 {y : Fx (Unit × Wd)} (hk : OkF y RJ2 cJ2_add_2 4 6 148) (hR : RetM y rvV none) (w : Wd) (l0 : Option Nat) (l1 : Option Nat) (l2 : Option Nat) (l3 : Int32) : V y w [(0, va_rf l0), (1, va_rf l1), (2, va_rf l2), (3, .int l3)] [] 11 (mJ2_add_2_p11 w l0 l1 l2 l3) := by
  unfold mJ2_add_2_p11
  refine V_aload_n (pc := 11) hk dJ2_add_2_11 2 rfl ?_
  refine V_iload_n (pc := 12) hk dJ2_add_2_12 3 rfl ?_
  refine V_aload_n (pc := 13) hk dJ2_add_2_13 1 rfl ?_
  refine V_aastore (pc := 14) hk cst_Obj dJ2_add_2_14 (fun w1 => ?_)
  refine V_aload_n (pc := 15) hk dJ2_add_2_15 0 rfl ?_
  refine V_iload_n (pc := 16) hk dJ2_add_2_16 3 rfl ?_
  refine V_iconst (pc := 17) (v := 1) hk dJ2_add_2_17 rfl ?_
  refine V_iadd (pc := 18) hk dJ2_add_2_18 ?_
  refine p_J2_48 (pc := 19) hk dJ2_add_2_19 (fun w2 => ?_)
  exact V_return (pc := 22) hk hR rfl dJ2_add_2_22
theorem eJ2_add_2 {y : Fx (Unit × Wd)} (hk : OkF y RJ2 cJ2_add_2 4 6 148) (hR : RetM y rvV none) (this : Nat) (a0 : Option Nat) (a1 : Option Nat) (a2 : Int32) (w : Wd) : V y w [(0, va_rf (some this)), (1, va_rf a0), (2, va_rf a1), (3, .int a2)] [] 0 (mJ2_add_2 this a0 a1 a2 w) := by
  unfold mJ2_add_2
  refine V_iload_n (pc := 0) hk dJ2_add_2_0 3 rfl ?_
  refine V_aload_n (pc := 1) hk dJ2_add_2_1 2 rfl ?_
  refine V_alen (pc := 2) hk dJ2_add_2_2 (fun v1 => ?_)
  refine V_icmp_ne (pc := 3) (tgt := 11) hk dJ2_add_2_3 rfl ?_ ?_
  · exact eJ2_add_2_p11 hk hR w ((some this)) a0 a1 a2
  · refine V_aload_n (pc := 6) hk dJ2_add_2_6 0 rfl ?_
    refine n_J2_129 (pc := 7) hk (fun b r h => ctJ2_grow (fl y) (fK y) hk.2.2.2.2.2.2.2.1 b w r h) ⟨Nat.le_of_ble_eq_true rfl, Nat.le_of_ble_eq_true rfl⟩ (Nat.le_of_ble_eq_true rfl) dJ2_add_2_7 (fun r2 => ?_)
    refine V_astore_n (pc := 10) (lc' := [(2, va_rf r2.1), (0, va_rf ((some this))), (1, va_rf a0), (3, .int a2)]) (i := 2) hk dJ2_add_2_10 rfl (Nat.le_of_ble_eq_true rfl) (by simp [rf_cat, cat_int, cat_long, cat_ref]) ?_
    refine V_pick (lc' := [(0, va_rf ((some this))), (1, va_rf a0), (2, va_rf r2.1), (3, .int a2)]) [1, 2, 0, 3] rfl ?_
    exact eJ2_add_2_p11 hk hR r2.2 ((some this)) a0 r2.1 a2
theorem ctJ2_add_2 (l : Launch) (K : Kx) (hI : Ini K) (b : Nat) (a0 : Option Nat) (a1 : Option Nat) (a2 : Int32) (w : Wd) : ∀ r, mJ2_add_2 b a0 a1 a2 w = some r → Ct l K 6 148 yJ2_add_2 (ws_ yJ2_add_2 cJ2_add_2 4 none) [.ref b, va_rf a0, va_rf a1, .int a2] w (rvV r.1) r.2 := Ct_of rvV l K hI 6 148 [.ref b, va_rf a0, va_rf a1, .int a2] w (by decide) (lc0 := [(0, .ref b), (1, va_rf a0), (2, va_rf a1), (3, .int a2)]) (by simp [lv_args, rf_cat, cat_int, cat_long, cat_ref]) (lg_len _ _ (by simp [rf_cat, cat_int, cat_long, cat_ref])) (fun y hk hR _ _ hin => eJ2_add_2 hk hR b a0 a1 a2 w)
noncomputable def mJ2_add (this : Nat) (a0 : Option Nat) (w : Wd) : Option (Int32 × Wd) :=
(gI w ((some this)) 16 0).bind fun v1 =>
(pf w ((some this)) 16 0 (.int (v1 + 1))).bind fun w2 =>
(gR w2 ((some this)) 16 1).bind fun v3 =>
(gI w2 ((some this)) 16 2).bind fun v4 =>
(recv w2 ((some this)) 16).bind fun b6 => (cal w2 (mJ2_add_2 b6 a0 v3 v4 w2)).bind fun r5 =>
(nok (.boolean) 1).bind fun _ => some (1, r5.2)
theorem eJ2_add {y : Fx (Int32 × Wd)} (hk : OkF y RJ2 cJ2_add 2 7 171) (hR : RetM y rvI (some (.boolean))) (this : Nat) (a0 : Option Nat) (w : Wd) : V y w [(0, va_rf (some this)), (1, va_rf a0)] [] 0 (mJ2_add this a0 w) := by
  unfold mJ2_add
  refine V_aload_n (pc := 0) hk dJ2_add_0 0 rfl ?_
  refine V_dup (pc := 1) hk dJ2_add_1 (rf_cat _) ?_
  refine g_J2_63 (pc := 2) hk dJ2_add_2 (fun v1 => ?_)
  refine V_iconst (pc := 5) (v := 1) hk dJ2_add_5 rfl ?_
  refine V_iadd (pc := 6) hk dJ2_add_6 ?_
  refine p_J2_63 (pc := 7) hk dJ2_add_7 (fun w2 => ?_)
  refine V_aload_n (pc := 10) hk dJ2_add_10 0 rfl ?_
  refine V_aload_n (pc := 11) hk dJ2_add_11 1 rfl ?_
  refine V_aload_n (pc := 12) hk dJ2_add_12 0 rfl ?_
  refine g_J2_9 (pc := 13) hk dJ2_add_13 (fun v3 => ?_)
  refine V_aload_n (pc := 16) hk dJ2_add_16 0 rfl ?_
  refine g_J2_48 (pc := 17) hk dJ2_add_17 (fun v4 => ?_)
  refine n_J2_131 (pc := 20) hk (fun b r h => ctJ2_add_2 (fl y) (fK y) hk.2.2.2.2.2.2.2.1 b a0 v3 v4 w2 r h) ⟨Nat.le_of_ble_eq_true rfl, Nat.le_of_ble_eq_true rfl⟩ (Nat.le_of_ble_eq_true rfl) dJ2_add_20 (fun r5 => ?_)
  refine V_iconst (pc := 23) (v := 1) hk dJ2_add_23 rfl ?_
  exact V_zreturn (pc := 24) hk hR rfl dJ2_add_24
theorem ctJ2_add (l : Launch) (K : Kx) (hI : Ini K) (b : Nat) (a0 : Option Nat) (w : Wd) : ∀ r, mJ2_add b a0 w = some r → Ct l K 7 171 yJ2_add (ws_ yJ2_add cJ2_add 2 (some (.boolean))) [.ref b, va_rf a0] w (rvI r.1) r.2 := Ct_of rvI l K hI 7 171 [.ref b, va_rf a0] w (by decide) (lc0 := [(0, .ref b), (1, va_rf a0)]) (by simp [lv_args, rf_cat, cat_int, cat_long, cat_ref]) (lg_len _ _ (by simp [rf_cat, cat_int, cat_long, cat_ref])) (fun y hk hR _ _ hin => eJ2_add hk hR b a0 w)
noncomputable def mJ2_size (this : Nat) (w : Wd) : Option (Int32 × Wd) :=
(gI w ((some this)) 16 2).bind fun v1 =>
some (v1, w)
theorem eJ2_size {y : Fx (Int32 × Wd)} (hk : OkF y RJ2 cJ2_size 1 2 60) (hR : RetM y rvI (some (.int))) (this : Nat) (w : Wd) : V y w [(0, va_rf (some this))] [] 0 (mJ2_size this w) := by
  unfold mJ2_size
  refine V_aload_n (pc := 0) hk dJ2_size_0 0 rfl ?_
  refine g_J2_48 (pc := 1) hk dJ2_size_1 (fun v1 => ?_)
  exact V_ireturn (pc := 4) hk hR rfl dJ2_size_4
theorem ctJ2_size (l : Launch) (K : Kx) (hI : Ini K) (b : Nat) (w : Wd) : ∀ r, mJ2_size b w = some r → Ct l K 2 60 yJ2_size (ws_ yJ2_size cJ2_size 1 (some (.int))) [.ref b] w (rvI r.1) r.2 := Ct_of rvI l K hI 2 60 [.ref b] w (by decide) (lc0 := [(0, .ref b)]) rfl (Nat.le_of_ble_eq_true rfl) (fun y hk hR _ _ hin => eJ2_size hk hR b w)
noncomputable def mJ2_elementData (this : Nat) (a0 : Int32) (w : Wd) : Option (Option Nat × Wd) :=
(gR w ((some this)) 16 1).bind fun v1 =>
(aa w v1 a0).bind fun v2 =>
some (v2, w)
theorem eJ2_elementData {y : Fx (Option Nat × Wd)} (hk : OkF y RJ2 cJ2_elementData 2 2 60) (hR : RetM y rvR (some (.object "java/lang/Object"))) (this : Nat) (a0 : Int32) (w : Wd) : V y w [(0, va_rf (some this)), (1, .int a0)] [] 0 (mJ2_elementData this a0 w) := by
  unfold mJ2_elementData
  refine V_aload_n (pc := 0) hk dJ2_elementData_0 0 rfl ?_
  refine g_J2_9 (pc := 1) hk dJ2_elementData_1 (fun v1 => ?_)
  refine V_iload_n (pc := 4) hk dJ2_elementData_4 1 rfl ?_
  refine V_aaload (pc := 5) hk dJ2_elementData_5 (fun v2 => ?_)
  exact V_areturn (pc := 6) hk (Or.inl ⟨_, rfl⟩) hR rfl dJ2_elementData_6
theorem ctJ2_elementData (l : Launch) (K : Kx) (hI : Ini K) (b : Nat) (a0 : Int32) (w : Wd) : ∀ r, mJ2_elementData b a0 w = some r → Ct l K 2 60 yJ2_elementData (ws_ yJ2_elementData cJ2_elementData 2 (some (.object "java/lang/Object"))) [.ref b, .int a0] w (rvR r.1) r.2 := Ct_of rvR l K hI 2 60 [.ref b, .int a0] w (by decide) (lc0 := [(0, .ref b), (1, .int a0)]) rfl (Nat.le_of_ble_eq_true rfl) (fun y hk hR _ _ hin => eJ2_elementData hk hR b a0 w)
noncomputable def mJ2_get (this : Nat) (a0 : Int32) (w : Wd) : Option (Option Nat × Wd) :=
(gI w ((some this)) 16 2).bind fun v1 =>
(cal w (mJ13_checkIndex a0 v1 w)).bind fun r2 =>
(recv r2.2 ((some this)) 16).bind fun b4 => (cal r2.2 (mJ2_elementData b4 a0 r2.2)).bind fun r3 =>
some (r3.1, r3.2)
theorem eJ2_get {y : Fx (Option Nat × Wd)} (hk : OkF y RJ2 cJ2_get 2 4 103) (hR : RetM y rvR (some (.object "java/lang/Object"))) (this : Nat) (a0 : Int32) (w : Wd) : V y w [(0, va_rf (some this)), (1, .int a0)] [] 0 (mJ2_get this a0 w) := by
  unfold mJ2_get
  refine V_iload_n (pc := 0) hk dJ2_get_0 1 rfl ?_
  refine V_aload_n (pc := 1) hk dJ2_get_1 0 rfl ?_
  refine g_J2_48 (pc := 2) hk dJ2_get_2 (fun v1 => ?_)
  refine n_J2_118 (pc := 5) hk (fun r h => ctJ13_checkIndex (fl y) (fK y) hk.2.2.2.2.2.2.2.1 a0 v1 w r h) ⟨Nat.le_of_ble_eq_true rfl, Nat.le_of_ble_eq_true rfl⟩ (Nat.le_of_ble_eq_true rfl) dJ2_get_5 (fun r2 => ?_)
  refine V_pop (pc := 8) hk dJ2_get_8 rfl ?_
  refine V_aload_n (pc := 9) hk dJ2_get_9 0 rfl ?_
  refine V_iload_n (pc := 10) hk dJ2_get_10 1 rfl ?_
  refine n_J2_123 (pc := 11) hk (fun b r h => ctJ2_elementData (fl y) (fK y) hk.2.2.2.2.2.2.2.1 b a0 r2.2 r h) ⟨Nat.le_of_ble_eq_true rfl, Nat.le_of_ble_eq_true rfl⟩ (Nat.le_of_ble_eq_true rfl) dJ2_get_11 (fun r3 => ?_)
  exact V_areturn (pc := 14) hk (Or.inl ⟨_, rfl⟩) hR rfl dJ2_get_14
theorem ctJ2_get (l : Launch) (K : Kx) (hI : Ini K) (b : Nat) (a0 : Int32) (w : Wd) : ∀ r, mJ2_get b a0 w = some r → Ct l K 4 103 yJ2_get (ws_ yJ2_get cJ2_get 2 (some (.object "java/lang/Object"))) [.ref b, .int a0] w (rvR r.1) r.2 := Ct_of rvR l K hI 4 103 [.ref b, .int a0] w (by decide) (lc0 := [(0, .ref b), (1, .int a0)]) rfl (Nat.le_of_ble_eq_true rfl) (fun y hk hR _ _ hin => eJ2_get hk hR b a0 w)
noncomputable def mJ2_isEmpty (this : Nat) (w : Wd) : Option (Int32 × Wd) :=
(gI w ((some this)) 16 2).bind fun v1 =>
if ¬ v1 = 0 then (
(nok (.boolean) 0).bind fun _ => some (0, w))
else (
(nok (.boolean) 1).bind fun _ => some (1, w))
theorem eJ2_isEmpty {y : Fx (Int32 × Wd)} (hk : OkF y RJ2 cJ2_isEmpty 1 2 60) (hR : RetM y rvI (some (.boolean))) (this : Nat) (w : Wd) : V y w [(0, va_rf (some this))] [] 0 (mJ2_isEmpty this w) := by
  unfold mJ2_isEmpty
  refine V_aload_n (pc := 0) hk dJ2_isEmpty_0 0 rfl ?_
  refine g_J2_48 (pc := 1) hk dJ2_isEmpty_1 (fun v1 => ?_)
  refine V_if_ne (pc := 4) (tgt := 11) hk dJ2_isEmpty_4 rfl ?_ ?_
  · refine V_iconst (pc := 11) (v := 0) hk dJ2_isEmpty_11 rfl ?_
    exact V_zreturn (pc := 12) hk hR rfl dJ2_isEmpty_12
  · refine V_iconst (pc := 7) (v := 1) hk dJ2_isEmpty_7 rfl ?_
    refine V_goto (pc := 8) (tgt := 12) hk dJ2_isEmpty_8 rfl ?_
    exact V_zreturn (pc := 12) hk hR rfl dJ2_isEmpty_12
theorem ctJ2_isEmpty (l : Launch) (K : Kx) (hI : Ini K) (b : Nat) (w : Wd) : ∀ r, mJ2_isEmpty b w = some r → Ct l K 2 60 yJ2_isEmpty (ws_ yJ2_isEmpty cJ2_isEmpty 1 (some (.boolean))) [.ref b] w (rvI r.1) r.2 := Ct_of rvI l K hI 2 60 [.ref b] w (by decide) (lc0 := [(0, .ref b)]) rfl (Nat.le_of_ble_eq_true rfl) (fun y hk hR _ _ hin => eJ2_isEmpty hk hR b w)
noncomputable def mJ3_coder (this : Nat) (w : Wd) : Option (Int32 × Wd) :=
if (1 : Int32) = 0 then (
(nok (.byte) 1).bind fun _ => some (1, w))
else (
(gI w ((some this)) 18 1).bind fun v1 =>
(nok (.byte) v1).bind fun _ => some (v1, w))
theorem eJ3_coder {y : Fx (Int32 × Wd)} (hk : OkF y RJ3 cJ3_coder 1 2 60) (hR : RetM y rvI (some (.byte))) (this : Nat) (w : Wd) : V y w [(0, va_rf (some this))] [] 0 (mJ3_coder this w) := by
  unfold mJ3_coder
  refine V_gets (pc := 0) (v := .int 1) (C := "java/lang/String") hk (by decide +kernel) q427 (fun _ h => h) dJ3_coder_0 ?_
  refine V_if_eq (pc := 3) (tgt := 13) hk dJ3_coder_3 rfl ?_ ?_
  · refine V_iconst (pc := 13) (v := 1) hk dJ3_coder_13 rfl ?_
    exact V_zreturn (pc := 14) hk hR rfl dJ3_coder_14
  · refine V_aload_n (pc := 6) hk dJ3_coder_6 0 rfl ?_
    refine g_J3_15 (pc := 7) hk dJ3_coder_7 (fun v1 => ?_)
    refine V_goto (pc := 10) (tgt := 14) hk dJ3_coder_10 rfl ?_
    exact V_zreturn (pc := 14) hk hR rfl dJ3_coder_14
theorem ctJ3_coder (l : Launch) (K : Kx) (hI : Ini K) (b : Nat) (w : Wd) : ∀ r, mJ3_coder b w = some r → Ct l K 2 60 yJ3_coder (ws_ yJ3_coder cJ3_coder 1 (some (.byte))) [.ref b] w (rvI r.1) r.2 := Ct_of rvI l K hI 2 60 [.ref b] w (by decide) (lc0 := [(0, .ref b)]) rfl (Nat.le_of_ble_eq_true rfl) (fun y hk hR _ _ hin => eJ3_coder hk hR b w)
noncomputable def mJ3_length (this : Nat) (w : Wd) : Option (Int32 × Wd) :=
(gR w ((some this)) 18 0).bind fun v1 =>
(alen w v1).bind fun v2 =>
(recv w ((some this)) 18).bind fun b4 => (cal w (mJ3_coder b4 w)).bind fun r3 =>
some (v2 >>> (r3.1 &&& 31), r3.2)
theorem eJ3_length {y : Fx (Int32 × Wd)} (hk : OkF y RJ3 cJ3_length 1 3 80) (hR : RetM y rvI (some (.int))) (this : Nat) (w : Wd) : V y w [(0, va_rf (some this))] [] 0 (mJ3_length this w) := by
  unfold mJ3_length
  refine V_aload_n (pc := 0) hk dJ3_length_0 0 rfl ?_
  refine g_J3_9 (pc := 1) hk dJ3_length_1 (fun v1 => ?_)
  refine V_alen (pc := 4) hk dJ3_length_4 (fun v2 => ?_)
  refine V_aload_n (pc := 5) hk dJ3_length_5 0 rfl ?_
  refine n_J3_335 (pc := 6) hk (fun b r h => ctJ3_coder (fl y) (fK y) hk.2.2.2.2.2.2.2.1 b w r h) ⟨Nat.le_of_ble_eq_true rfl, Nat.le_of_ble_eq_true rfl⟩ (Nat.le_of_ble_eq_true rfl) dJ3_length_6 (fun r3 => ?_)
  refine V_ishr (pc := 9) hk dJ3_length_9 ?_
  exact V_ireturn (pc := 10) hk hR rfl dJ3_length_10
theorem ctJ3_length (l : Launch) (K : Kx) (hI : Ini K) (b : Nat) (w : Wd) : ∀ r, mJ3_length b w = some r → Ct l K 3 80 yJ3_length (ws_ yJ3_length cJ3_length 1 (some (.int))) [.ref b] w (rvI r.1) r.2 := Ct_of rvI l K hI 3 80 [.ref b] w (by decide) (lc0 := [(0, .ref b)]) rfl (Nat.le_of_ble_eq_true rfl) (fun y hk hR _ _ hin => eJ3_length hk hR b w)
noncomputable def mJ3_isLatin1 (this : Nat) (w : Wd) : Option (Int32 × Wd) :=
if (1 : Int32) = 0 then (
(nok (.boolean) 0).bind fun _ => some (0, w))
else (
(gI w ((some this)) 18 1).bind fun v1 =>
if ¬ v1 = 0 then (
(nok (.boolean) 0).bind fun _ => some (0, w))
else (
(nok (.boolean) 1).bind fun _ => some (1, w)))
theorem eJ3_isLatin1 {y : Fx (Int32 × Wd)} (hk : OkF y RJ3 cJ3_isLatin1 1 2 60) (hR : RetM y rvI (some (.boolean))) (this : Nat) (w : Wd) : V y w [(0, va_rf (some this))] [] 0 (mJ3_isLatin1 this w) := by
  unfold mJ3_isLatin1
  refine V_gets (pc := 0) (v := .int 1) (C := "java/lang/String") hk (by decide +kernel) q427 (fun _ h => h) dJ3_isLatin1_0 ?_
  refine V_if_eq (pc := 3) (tgt := 17) hk dJ3_isLatin1_3 rfl ?_ ?_
  · refine V_iconst (pc := 17) (v := 0) hk dJ3_isLatin1_17 rfl ?_
    exact V_zreturn (pc := 18) hk hR rfl dJ3_isLatin1_18
  · refine V_aload_n (pc := 6) hk dJ3_isLatin1_6 0 rfl ?_
    refine g_J3_15 (pc := 7) hk dJ3_isLatin1_7 (fun v1 => ?_)
    refine V_if_ne (pc := 10) (tgt := 17) hk dJ3_isLatin1_10 rfl ?_ ?_
    · refine V_iconst (pc := 17) (v := 0) hk dJ3_isLatin1_17 rfl ?_
      exact V_zreturn (pc := 18) hk hR rfl dJ3_isLatin1_18
    · refine V_iconst (pc := 13) (v := 1) hk dJ3_isLatin1_13 rfl ?_
      refine V_goto (pc := 14) (tgt := 18) hk dJ3_isLatin1_14 rfl ?_
      exact V_zreturn (pc := 18) hk hR rfl dJ3_isLatin1_18
theorem ctJ3_isLatin1 (l : Launch) (K : Kx) (hI : Ini K) (b : Nat) (w : Wd) : ∀ r, mJ3_isLatin1 b w = some r → Ct l K 2 60 yJ3_isLatin1 (ws_ yJ3_isLatin1 cJ3_isLatin1 1 (some (.boolean))) [.ref b] w (rvI r.1) r.2 := Ct_of rvI l K hI 2 60 [.ref b] w (by decide) (lc0 := [(0, .ref b)]) rfl (Nat.le_of_ble_eq_true rfl) (fun y hk hR _ _ hin => eJ3_isLatin1 hk hR b w)
noncomputable def mJ3_checkIndex (a0 : Int32) (a1 : Int32) (w : Wd) : Option (Unit × Wd) :=
(cal w (mJ5_checkIndex a0 a1 w)).bind fun r2 =>
some ((), r2.2)
theorem eJ3_checkIndex {y : Fx (Unit × Wd)} (hk : OkF y RJ3 cJ3_checkIndex 2 3 82) (hR : RetM y rvV none) (a0 : Int32) (a1 : Int32) (w : Wd) : V y w [(0, .int a0), (1, .int a1)] [] 0 (mJ3_checkIndex a0 a1 w) := by
  unfold mJ3_checkIndex
  refine V_iload_n (pc := 0) hk dJ3_checkIndex_0 0 rfl ?_
  refine V_iload_n (pc := 1) hk dJ3_checkIndex_1 1 rfl ?_
  refine V_getsU (pc := 2) (lab := 398) (C := "jdk/internal/util/Preconditions") hk (by decide +kernel) q443 (fun _ h => h) dJ3_checkIndex_2 (fun g1 => ?_)
  refine n_J3_1059 (pc := 5) hk (fun r h => ctJ5_checkIndex (fl y) (fK y) hk.2.2.2.2.2.2.2.1 a0 a1 g1 w r h) ⟨Nat.le_of_ble_eq_true rfl, Nat.le_of_ble_eq_true rfl⟩ (Nat.le_of_ble_eq_true rfl) dJ3_checkIndex_5 (fun r2 => ?_)
  refine V_pop (pc := 8) hk dJ3_checkIndex_8 rfl ?_
  exact V_return (pc := 9) hk hR rfl dJ3_checkIndex_9
theorem ctJ3_checkIndex (l : Launch) (K : Kx) (hI : Ini K) (a0 : Int32) (a1 : Int32) (w : Wd) : ∀ r, mJ3_checkIndex a0 a1 w = some r → Ct l K 3 82 yJ3_checkIndex (ws_ yJ3_checkIndex cJ3_checkIndex 2 none) [.int a0, .int a1] w (rvV r.1) r.2 := Ct_of rvV l K hI 3 82 [.int a0, .int a1] w (by decide) (lc0 := [(0, .int a0), (1, .int a1)]) rfl (Nat.le_of_ble_eq_true rfl) (fun y hk hR _ _ hin => eJ3_checkIndex hk hR a0 a1 w)
noncomputable def mJ4_charAt (a0 : Option Nat) (a1 : Int32) (w : Wd) : Option (Int32 × Wd) :=
(alen w a0).bind fun v1 =>
(cal w (mJ3_checkIndex a1 v1 w)).bind fun r2 =>
(ba r2.2 a0 a1).bind fun v3 =>
(nok (.char) ((((v3 &&& 255) : Int32).toUInt32 % 65536).toInt32)).bind fun _ => some ((((v3 &&& 255) : Int32).toUInt32 % 65536).toInt32, r2.2)
theorem eJ4_charAt {y : Fx (Int32 × Wd)} (hk : OkF y RJ4 cJ4_charAt 2 4 103) (hR : RetM y rvI (some (.char))) (a0 : Option Nat) (a1 : Int32) (w : Wd) : V y w [(0, va_rf a0), (1, .int a1)] [] 0 (mJ4_charAt a0 a1 w) := by
  unfold mJ4_charAt
  refine V_iload_n (pc := 0) hk dJ4_charAt_0 1 rfl ?_
  refine V_aload_n (pc := 1) hk dJ4_charAt_1 0 rfl ?_
  refine V_alen (pc := 2) hk dJ4_charAt_2 (fun v1 => ?_)
  refine n_J4_9 (pc := 3) hk (fun r h => ctJ3_checkIndex (fl y) (fK y) hk.2.2.2.2.2.2.2.1 a1 v1 w r h) ⟨Nat.le_of_ble_eq_true rfl, Nat.le_of_ble_eq_true rfl⟩ (Nat.le_of_ble_eq_true rfl) dJ4_charAt_3 (fun r2 => ?_)
  refine V_aload_n (pc := 6) hk dJ4_charAt_6 0 rfl ?_
  refine V_iload_n (pc := 7) hk dJ4_charAt_7 1 rfl ?_
  refine V_baload (pc := 8) hk dJ4_charAt_8 (fun v3 => ?_)
  refine V_sipush (pc := 9) (v := 255) hk dJ4_charAt_9 rfl ?_
  refine V_iand (pc := 12) hk dJ4_charAt_12 ?_
  refine V_i2c (pc := 13) hk dJ4_charAt_13 ?_
  exact V_zreturn (pc := 14) hk hR rfl dJ4_charAt_14
theorem ctJ4_charAt (l : Launch) (K : Kx) (hI : Ini K) (a0 : Option Nat) (a1 : Int32) (w : Wd) : ∀ r, mJ4_charAt a0 a1 w = some r → Ct l K 4 103 yJ4_charAt (ws_ yJ4_charAt cJ4_charAt 2 (some (.char))) [va_rf a0, .int a1] w (rvI r.1) r.2 := Ct_of rvI l K hI 4 103 [va_rf a0, .int a1] w (by decide) (lc0 := [(0, va_rf a0), (1, .int a1)]) (by simp [lv_args, rf_cat, cat_int, cat_long, cat_ref]) (lg_len _ _ (by simp [rf_cat, cat_int, cat_long, cat_ref])) (fun y hk hR _ _ hin => eJ4_charAt hk hR a0 a1 w)
noncomputable def mJ3_charAt (this : Nat) (a0 : Int32) (w : Wd) : Option (Int32 × Wd) :=
(recv w ((some this)) 18).bind fun b2 => (cal w (mJ3_isLatin1 b2 w)).bind fun r1 =>
if r1.1 = 0 then (
(gR r1.2 ((some this)) 18 0).bind fun v3 =>
none)
else (
(gR r1.2 ((some this)) 18 0).bind fun v4 =>
(cal r1.2 (mJ4_charAt v4 a0 r1.2)).bind fun r5 =>
(nok (.char) r5.1).bind fun _ => some (r5.1, r5.2))
theorem eJ3_charAt {y : Fx (Int32 × Wd)} (hk : OkF y RJ3 cJ3_charAt 2 5 124) (hR : RetM y rvI (some (.char))) (this : Nat) (a0 : Int32) (w : Wd) : V y w [(0, va_rf (some this)), (1, .int a0)] [] 0 (mJ3_charAt this a0 w) := by
  unfold mJ3_charAt
  refine V_aload_n (pc := 0) hk dJ3_charAt_0 0 rfl ?_
  refine n_J3_492 (pc := 1) hk (fun b r h => ctJ3_isLatin1 (fl y) (fK y) hk.2.2.2.2.2.2.2.1 b w r h) ⟨Nat.le_of_ble_eq_true rfl, Nat.le_of_ble_eq_true rfl⟩ (Nat.le_of_ble_eq_true rfl) dJ3_charAt_1 (fun r1 => ?_)
  refine V_if_eq (pc := 4) (tgt := 16) hk dJ3_charAt_4 rfl ?_ ?_
  · refine V_aload_n (pc := 16) hk dJ3_charAt_16 0 rfl ?_
    refine g_J3_9 (pc := 17) hk dJ3_charAt_17 (fun v3 => ?_)
    refine V_iload_n (pc := 20) hk dJ3_charAt_20 1 rfl ?_
    exact V_none
  · refine V_aload_n (pc := 7) hk dJ3_charAt_7 0 rfl ?_
    refine g_J3_9 (pc := 8) hk dJ3_charAt_8 (fun v4 => ?_)
    refine V_iload_n (pc := 11) hk dJ3_charAt_11 1 rfl ?_
    refine n_J3_495 (pc := 12) hk (fun r h => ctJ4_charAt (fl y) (fK y) hk.2.2.2.2.2.2.2.1 v4 a0 r1.2 r h) ⟨Nat.le_of_ble_eq_true rfl, Nat.le_of_ble_eq_true rfl⟩ (Nat.le_of_ble_eq_true rfl) dJ3_charAt_12 (fun r5 => ?_)
    exact V_zreturn (pc := 15) hk hR rfl dJ3_charAt_15
theorem ctJ3_charAt (l : Launch) (K : Kx) (hI : Ini K) (b : Nat) (a0 : Int32) (w : Wd) : ∀ r, mJ3_charAt b a0 w = some r → Ct l K 5 124 yJ3_charAt (ws_ yJ3_charAt cJ3_charAt 2 (some (.char))) [.ref b, .int a0] w (rvI r.1) r.2 := Ct_of rvI l K hI 5 124 [.ref b, .int a0] w (by decide) (lc0 := [(0, .ref b), (1, .int a0)]) rfl (Nat.le_of_ble_eq_true rfl) (fun y hk hR _ _ hin => eJ3_charAt hk hR b a0 w)
