/-! ===== the two interfaces ===== -/
def clSum : List Nat := [6, 7, 8, 12, 13, 14]
def clAsk : List Nat := [9, 10, 11]
def clObj : List Nat := [6, 7, 8, 9, 10, 11, 12, 13, 14, 15, 17]
def clInt : List Nat := [17]
def clDoing : List Nat := [15]
def clText : List Nat := [4]
theorem cst_Sum : ∀ c ∈ clSum, cstl c "HookSwings$Sum" := by
  intro c hc
  simp only [clSum, List.mem_cons, List.not_mem_nil, or_false] at hc
  rcases hc with rfl | rfl | rfl | rfl | rfl | rfl
  · exact ⟨_, rfl, Or.inl q924⟩
  · exact ⟨_, rfl, Or.inl q975⟩
  · exact ⟨_, rfl, Or.inl q969⟩
  · exact ⟨_, rfl, Or.inl q932⟩
  · exact ⟨_, rfl, Or.inl q961⟩
  · exact ⟨_, rfl, Or.inl q981⟩
theorem cst_Ask : ∀ c ∈ clAsk, cstl c "HookSwings$Asked" := by
  intro c hc
  simp only [clAsk, List.mem_cons, List.not_mem_nil, or_false] at hc
  rcases hc with rfl | rfl | rfl
  · exact ⟨_, rfl, Or.inl q992⟩
  · exact ⟨_, rfl, Or.inl q953⟩
  · exact ⟨_, rfl, Or.inl q942⟩
theorem cst_Obj : ∀ c ∈ clObj, cstl c "java/lang/Object" := by
  intro c hc
  simp only [clObj, List.mem_cons, List.not_mem_nil, or_false] at hc
  rcases hc with rfl | rfl | rfl | rfl | rfl | rfl | rfl | rfl | rfl | rfl | rfl
  · exact ⟨_, rfl, Or.inl q2026⟩
  · exact ⟨_, rfl, Or.inl q2027⟩
  · exact ⟨_, rfl, Or.inl q2028⟩
  · exact ⟨_, rfl, Or.inl q2029⟩
  · exact ⟨_, rfl, Or.inl q2030⟩
  · exact ⟨_, rfl, Or.inl q2031⟩
  · exact ⟨_, rfl, Or.inl q2032⟩
  · exact ⟨_, rfl, Or.inl q2033⟩
  · exact ⟨_, rfl, Or.inl q2034⟩
  · exact ⟨_, rfl, Or.inl q2036⟩
  · exact ⟨_, rfl, Or.inl q2035⟩
theorem cst_Int : ∀ c ∈ clInt, cstl c "java/lang/Integer" := by
  intro c hc
  simp only [clInt, List.mem_cons, List.not_mem_nil, or_false] at hc
  subst hc
  exact ⟨_, rfl, Or.inr rfl⟩
theorem cst_Doing : ∀ c ∈ clDoing, cstl c "HookSwings$Doing" := by
  intro c hc
  simp only [clDoing, List.mem_cons, List.not_mem_nil, or_false] at hc
  subst hc
  exact ⟨_, rfl, Or.inr rfl⟩
theorem cst_Text : ∀ c ∈ clText, cstl c "HookSwings$Text" := by
  intro c hc
  simp only [clText, List.mem_cons, List.not_mem_nil, or_false] at hc
  subst hc
  exact ⟨_, rfl, Or.inr rfl⟩
abbrev TySum : Type := Nat → Nat → Option Nat → Wd → Option (Int64 × Wd)
abbrev TyAsk : Type := Nat → Nat → Option Nat → Wd → Option (Int32 × Wd)
/-- the call of an object's own method, by its class -/
def dSum (sf : TySum) (a : Nat) (v : Option Nat) (w : Wd) : Option (Int64 × Wd) := (cls w a).bind fun ci => sf ci a v w
def dAsk (sf : TyAsk) (a : Nat) (v : Option Nat) (w : Wd) : Option (Int32 × Wd) := (cls w a).bind fun ci => sf ci a v w
/-- what the functions by class stand for -/
def HsSum (l : Launch) (K : Kx) (F L : Nat) (sf : TySum) : Prop := ∀ (ci a : Nat) (v : Option Nat) (w : Wd) (r : Int64 × Wd), sf ci a v w = some r →
  (ci = 6 ∧ Ct l K F L yX6_of (ws_ yX6_of cX6_of 10 (some .long)) [.ref a, va_rf v] w (rvJ r.1) r.2) ∨ (ci = 7 ∧ Ct l K F L yX7_of (ws_ yX7_of cX7_of 2 (some .long)) [.ref a, va_rf v] w (rvJ r.1) r.2) ∨ (ci = 8 ∧ Ct l K F L yX8_of (ws_ yX8_of cX8_of 2 (some .long)) [.ref a, va_rf v] w (rvJ r.1) r.2) ∨
  (ci = 12 ∧ Ct l K F L yX12_of (ws_ yX12_of cX12_of 2 (some .long)) [.ref a, va_rf v] w (rvJ r.1) r.2) ∨ (ci = 13 ∧ Ct l K F L yX13_of (ws_ yX13_of cX13_of 2 (some .long)) [.ref a, va_rf v] w (rvJ r.1) r.2) ∨ (ci = 14 ∧ Ct l K F L yX14_of (ws_ yX14_of cX14_of 2 (some .long)) [.ref a, va_rf v] w (rvJ r.1) r.2)
def HsAsk (l : Launch) (K : Kx) (F L : Nat) (sf : TyAsk) : Prop := ∀ (ci a : Nat) (v : Option Nat) (w : Wd) (r : Int32 × Wd), sf ci a v w = some r →
  (ci = 9 ∧ Ct l K F L yX9_is (ws_ yX9_is cX9_is 2 (some .boolean)) [.ref a, va_rf v] w (rvI r.1) r.2) ∨ (ci = 10 ∧ Ct l K F L yX10_is (ws_ yX10_is cX10_is 4 (some .boolean)) [.ref a, va_rf v] w (rvI r.1) r.2) ∨ (ci = 11 ∧ Ct l K F L yX11_is (ws_ yX11_is cX11_is 4 (some .boolean)) [.ref a, va_rf v] w (rvI r.1) r.2)
theorem V_ifSum {β : Type} {y : Fx β} {own : String} {cc : ByteArray} {nL F L F9 L9 : Nat} {w : Wd} {lc : List (Nat × Value)} {rest : List Value} {pc idx : Nat} {sf : TySum} {rr v : Option Nat} {k : Int64 × Wd → Option β} (hk : OkF y own cc nL F L) (hq1 : Cond.methodLink own idx ⟨"HookSwings$Sum", "of", "([I)J"⟩ ∈ lw_all) (hs : HsSum (fl y) (fK y) F9 L9 sf) (hroom : F9 + 1 ≤ F ∧ 29 + L9 ≤ L) (hcat : (rest.map fun v => v.category).sum ≤ 8) (hd : decode cc pc = .ok (.invokeinterface idx 2, 5)) (kk : ∀ r, V y r.2 lc (.long r.1 :: rest) (pc + 5) (k r)) : V y w lc (va_rf v :: va_rf rr :: rest) pc (rr.bind fun a => (cal w (dSum sf a v w)).bind k) := by
  refine V_bind fun a ha => ?_
  subst ha
  refine V_bind fun r hr => ?_
  have hr0 := hr
  obtain ⟨h1, h2⟩ := cal_spec hr
  obtain ⟨ci, hci, h3⟩ := Option.bind_eq_some_iff.mp h1
  have hcr : ∀ f : Option (Int64 × Wd), f = some r → (cal w f).bind k = k r := fun f hf => by subst hf; simp [cal, h2]
  rcases hs ci a v w r h3 with ⟨rfl, hC⟩ | ⟨rfl, hC⟩ | ⟨rfl, hC⟩ | ⟨rfl, hC⟩ | ⟨rfl, hC⟩ | ⟨rfl, hC⟩
  · have h9 : V y w lc (va_rf v :: va_rf (some a) :: rest) pc ((cal w (dSum sf a v w)).bind k) := V_invF (rv := rvJ) (av := [va_rf v]) (n := 1) (rest := rest) (C := RX6) (T := TX6) (N9 := 3) (a := a) (ci := 6) (x := ⟨"HookSwings$Sum", "of", "([I)J"⟩) (yc := yX6_of) (b9 := cX6_of) (m9 := 10) (r9 := (some (.long))) (F9 := F9) (L9 := L9) hk rfl hci (fun r9 hr9 => by rw [h1] at hr9; cases hr9; exact hC) hq1 q925 q927 q147 q929 q923 q922 q928 q926 q924 ⟨by decide, by decide, by decide +kernel⟩ rfl ⟨hroom.1, by have := hroom.2; omega⟩ rfl hcat hd kk
    rw [hcr _ h1] at h9
    exact h9
  · have h9 : V y w lc (va_rf v :: va_rf (some a) :: rest) pc ((cal w (dSum sf a v w)).bind k) := V_invF (rv := rvJ) (av := [va_rf v]) (n := 1) (rest := rest) (C := RX7) (T := TX7) (N9 := 1) (a := a) (ci := 7) (x := ⟨"HookSwings$Sum", "of", "([I)J"⟩) (yc := yX7_of) (b9 := cX7_of) (m9 := 2) (r9 := (some (.long))) (F9 := F9) (L9 := L9) hk rfl hci (fun r9 hr9 => by rw [h1] at hr9; cases hr9; exact hC) hq1 q976 q978 q149 q980 q923 q922 q979 q977 q975 ⟨by decide, by decide, by decide +kernel⟩ rfl ⟨hroom.1, by have := hroom.2; omega⟩ rfl hcat hd kk
    rw [hcr _ h1] at h9
    exact h9
  · have h9 : V y w lc (va_rf v :: va_rf (some a) :: rest) pc ((cal w (dSum sf a v w)).bind k) := V_invF (rv := rvJ) (av := [va_rf v]) (n := 1) (rest := rest) (C := RX8) (T := TX8) (N9 := 1) (a := a) (ci := 8) (x := ⟨"HookSwings$Sum", "of", "([I)J"⟩) (yc := yX8_of) (b9 := cX8_of) (m9 := 2) (r9 := (some (.long))) (F9 := F9) (L9 := L9) hk rfl hci (fun r9 hr9 => by rw [h1] at hr9; cases hr9; exact hC) hq1 q970 q972 q150 q974 q923 q922 q973 q971 q969 ⟨by decide, by decide, by decide +kernel⟩ rfl ⟨hroom.1, by have := hroom.2; omega⟩ rfl hcat hd kk
    rw [hcr _ h1] at h9
    exact h9
  · have h9 : V y w lc (va_rf v :: va_rf (some a) :: rest) pc ((cal w (dSum sf a v w)).bind k) := V_invF (rv := rvJ) (av := [va_rf v]) (n := 1) (rest := rest) (C := RX12) (T := TX12) (N9 := 3) (a := a) (ci := 12) (x := ⟨"HookSwings$Sum", "of", "([I)J"⟩) (yc := yX12_of) (b9 := cX12_of) (m9 := 2) (r9 := (some (.long))) (F9 := F9) (L9 := L9) hk rfl hci (fun r9 hr9 => by rw [h1] at hr9; cases hr9; exact hC) hq1 q933 q935 q157 q937 q923 q922 q936 q934 q932 ⟨by decide, by decide, by decide +kernel⟩ rfl ⟨hroom.1, by have := hroom.2; omega⟩ rfl hcat hd kk
    rw [hcr _ h1] at h9
    exact h9
  · have h9 : V y w lc (va_rf v :: va_rf (some a) :: rest) pc ((cal w (dSum sf a v w)).bind k) := V_invF (rv := rvJ) (av := [va_rf v]) (n := 1) (rest := rest) (C := RX13) (T := TX13) (N9 := 1) (a := a) (ci := 13) (x := ⟨"HookSwings$Sum", "of", "([I)J"⟩) (yc := yX13_of) (b9 := cX13_of) (m9 := 2) (r9 := (some (.long))) (F9 := F9) (L9 := L9) hk rfl hci (fun r9 hr9 => by rw [h1] at hr9; cases hr9; exact hC) hq1 q962 q964 q158 q966 q923 q922 q965 q963 q961 ⟨by decide, by decide, by decide +kernel⟩ rfl ⟨hroom.1, by have := hroom.2; omega⟩ rfl hcat hd kk
    rw [hcr _ h1] at h9
    exact h9
  · have h9 : V y w lc (va_rf v :: va_rf (some a) :: rest) pc ((cal w (dSum sf a v w)).bind k) := V_invF (rv := rvJ) (av := [va_rf v]) (n := 1) (rest := rest) (C := RX14) (T := TX14) (N9 := 1) (a := a) (ci := 14) (x := ⟨"HookSwings$Sum", "of", "([I)J"⟩) (yc := yX14_of) (b9 := cX14_of) (m9 := 2) (r9 := (some (.long))) (F9 := F9) (L9 := L9) hk rfl hci (fun r9 hr9 => by rw [h1] at hr9; cases hr9; exact hC) hq1 q982 q984 q159 q986 q923 q922 q985 q983 q981 ⟨by decide, by decide, by decide +kernel⟩ rfl ⟨hroom.1, by have := hroom.2; omega⟩ rfl hcat hd kk
    rw [hcr _ h1] at h9
    exact h9
theorem V_ifAsk {β : Type} {y : Fx β} {own : String} {cc : ByteArray} {nL F L F9 L9 : Nat} {w : Wd} {lc : List (Nat × Value)} {rest : List Value} {pc idx : Nat} {sf : TyAsk} {rr v : Option Nat} {k : Int32 × Wd → Option β} (hk : OkF y own cc nL F L) (hq1 : Cond.methodLink own idx ⟨"HookSwings$Asked", "is", "([I)Z"⟩ ∈ lw_all) (hs : HsAsk (fl y) (fK y) F9 L9 sf) (hroom : F9 + 1 ≤ F ∧ 29 + L9 ≤ L) (hcat : (rest.map fun v => v.category).sum ≤ 8) (hd : decode cc pc = .ok (.invokeinterface idx 2, 5)) (kk : ∀ r, V y r.2 lc (.int r.1 :: rest) (pc + 5) (k r)) : V y w lc (va_rf v :: va_rf rr :: rest) pc (rr.bind fun a => (cal w (dAsk sf a v w)).bind k) := by
  refine V_bind fun a ha => ?_
  subst ha
  refine V_bind fun r hr => ?_
  have hr0 := hr
  obtain ⟨h1, h2⟩ := cal_spec hr
  obtain ⟨ci, hci, h3⟩ := Option.bind_eq_some_iff.mp h1
  have hcr : ∀ f : Option (Int32 × Wd), f = some r → (cal w f).bind k = k r := fun f hf => by subst hf; simp [cal, h2]
  rcases hs ci a v w r h3 with ⟨rfl, hC⟩ | ⟨rfl, hC⟩ | ⟨rfl, hC⟩
  · have h9 : V y w lc (va_rf v :: va_rf (some a) :: rest) pc ((cal w (dAsk sf a v w)).bind k) := V_invF (rv := rvI) (av := [va_rf v]) (n := 1) (rest := rest) (C := RX9) (T := TX9) (N9 := 1) (a := a) (ci := 9) (x := ⟨"HookSwings$Asked", "is", "([I)Z"⟩) (yc := yX9_is) (b9 := cX9_is) (m9 := 2) (r9 := (some (.boolean))) (F9 := F9) (L9 := L9) hk rfl hci (fun r9 hr9 => by rw [h1] at hr9; cases hr9; exact hC) hq1 q993 q995 q151 q997 q941 q940 q996 q994 q992 ⟨by decide, by decide, by decide +kernel⟩ rfl ⟨hroom.1, by have := hroom.2; omega⟩ rfl hcat hd kk
    rw [hcr _ h1] at h9
    exact h9
  · have h9 : V y w lc (va_rf v :: va_rf (some a) :: rest) pc ((cal w (dAsk sf a v w)).bind k) := V_invF (rv := rvI) (av := [va_rf v]) (n := 1) (rest := rest) (C := RX10) (T := TX10) (N9 := 3) (a := a) (ci := 10) (x := ⟨"HookSwings$Asked", "is", "([I)Z"⟩) (yc := yX10_is) (b9 := cX10_is) (m9 := 4) (r9 := (some (.boolean))) (F9 := F9) (L9 := L9) hk rfl hci (fun r9 hr9 => by rw [h1] at hr9; cases hr9; exact hC) hq1 q954 q956 q152 q958 q941 q940 q957 q955 q953 ⟨by decide, by decide, by decide +kernel⟩ rfl ⟨hroom.1, by have := hroom.2; omega⟩ rfl hcat hd kk
    rw [hcr _ h1] at h9
    exact h9
  · have h9 : V y w lc (va_rf v :: va_rf (some a) :: rest) pc ((cal w (dAsk sf a v w)).bind k) := V_invF (rv := rvI) (av := [va_rf v]) (n := 1) (rest := rest) (C := RX11) (T := TX11) (N9 := 2) (a := a) (ci := 11) (x := ⟨"HookSwings$Asked", "is", "([I)Z"⟩) (yc := yX11_is) (b9 := cX11_is) (m9 := 4) (r9 := (some (.boolean))) (F9 := F9) (L9 := L9) hk rfl hci (fun r9 hr9 => by rw [h1] at hr9; cases hr9; exact hC) hq1 q943 q945 q156 q947 q941 q940 q946 q944 q942 ⟨by decide, by decide, by decide +kernel⟩ rfl ⟨hroom.1, by have := hroom.2; omega⟩ rfl hcat hd kk
    rw [hcr _ h1] at h9
    exact h9
