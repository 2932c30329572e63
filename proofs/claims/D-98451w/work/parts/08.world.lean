/-! ===== the abstract world: cells by labels ===== -/
/-- of Wrong's fields its own two alone -/
def TX5w : u_T := fun k => match k with
  | 0 => ("HookSwings$Wrong", "fault", "I", true)
  | 1 => ("HookSwings$Wrong", "place", "I", true)
  | _ => ("java/lang/Throwable", "backtrace", "Ljava/lang/Object;", false)
def tyX5w : Nat → FieldType := fun k => match k with
  | 0 => .int
  | 1 => .int
  | _ => .object "java/lang/Object"
theorem nmX5w : ∀ a, a < 3 → ∀ b, b < 3 → a ≠ b → (TX5w a).2.1 ≠ (TX5w b).2.1 := by decide +kernel
theorem tyX5w_ok : ∀ k, k < 3 → parseFieldDescriptor (TX5w k).2.2.1 = some (tyX5w k) := by decide +kernel
theorem in_X5w : ∀ w ∈ u_ws RX5 TX5w 3, w ∈ lw_all := lw_in (u_ws RX5 TX5w 3) [531, 533, 496] (by decide +kernel) (by decide +kernel)
def vwCl : List vw_C := [(RX0, TX0, 22), (RX1, TX1, 7), (RX2, TX2, 37), (RX3, TX3, 8), (RX4, TX4, 3), (RX5, TX5w, 3), (RX6, TX6, 3), (RX7, TX7, 1), (RX8, TX8, 1), (RX9, TX9, 1), (RX10, TX10, 3), (RX11, TX11, 2), (RX12, TX12, 3), (RX13, TX13, 1), (RX14, TX14, 1), (RX15, TX15, 7), (RJ2, TJ2, 3), (RJ15, TJ15, 1)]
/-- String's two fields, as its methods read them -/
def TStr : u_T := fun k => match k with
  | 0 => ("java/lang/String", "value", "[B", true)
  | _ => ("java/lang/String", "coder", "B", true)
def vwAll : List vw_C := vwCl ++ [("java/lang/String", TStr, 2)]
abbrev Cel : Type := (FieldType × vp_A) ⊕ (Nat × List Value)
/-- a world: cells by labels, the next label, the slots used -/
abbrev Wd : Type := (Nat → Option Cel) × Nat × Nat
abbrev wnx (w : Wd) : Nat := w.2.1
abbrev wsl (w : Wd) : Nat := w.2.2
def nOld : Nat := 400
/-- the context of a run: class numbers and slots, array classes, addresses of labels, the start -/
abbrev Kx : Type := va_G × (FieldType → ClassId) × (Nat → Nat) × State
abbrev kD (K : Kx) : va_G := K.1
abbrev kA (K : Kx) : FieldType → ClassId := K.2.1
abbrev kL (K : Kx) : Nat → Nat := K.2.2.1
abbrev kS (K : Kx) : State := K.2.2.2
def cv (al : Nat → Nat) (v : Value) : Value := match v with
  | .ref k => .ref (al k)
  | v => v
abbrev cvs (K : Kx) (st : List Value) : List Value := st.map (cv (kL K))
def cAr (al : Nat → Nat) (x : vp_A) : vp_A := (x.1, match x.2 with
  | .inl f => .inl f
  | .inr (.inl f) => .inr (.inl f)
  | .inr (.inr (.inl f)) => .inr (.inr (.inl f))
  | .inr (.inr (.inr (.inl f))) => .inr (.inr (.inr (.inl f)))
  | .inr (.inr (.inr (.inr f))) => .inr (.inr (.inr (.inr (fun j => (f j).map al)))))
def cE (K : Kx) (e : Cel) : va_E := match e with
  | .inl (ty, x) => .inl (kA K ty, cAr (kL K) x)
  | .inr (ci, fs) => .inr (ci, fs.map (cv (kL K)))
def vAr (al : Nat → Nat) (x : vp_A) (j : Nat) : Value := match x.2 with
  | .inl f => .int (f j)
  | .inr (.inl f) => .long (f j)
  | .inr (.inr (.inl f)) => .float (f j)
  | .inr (.inr (.inr (.inl f))) => .double (f j)
  | .inr (.inr (.inr (.inr f))) => va_rf ((f j).map al)
def tysL : List FieldType := [.int, .byte, .long, .boolean, .array .int, .object "HookSwings$Text", .object "HookSwings$Sum", .object "java/lang/Object"]
def FldIs (s : State) (C f d : String) (i : Nat) : Prop := ∃ cf kf fi fd, s.fieldFound? C f d = some (cf, kf, fi, fd) ∧ fd.slot = i ∧ fd.isStatic = false
theorem FldIs.moved {u E : State} {C f d : String} {i : Nat} (hvm : u.vm.Alike E.vm) (h : FldIs u C f d i) : FldIs E C f d i := by
  obtain ⟨cf, kf, fi, fd, hi, hs, hs2⟩ := h
  obtain ⟨kf', hi', -⟩ := State.fieldFound?_setVm (s := u) hvm hi
  exact ⟨cf, kf', fi, fd, by simpa only [State.fieldFound?, State.vm_setVm] using hi', hs, hs2⟩
/-- a cell, as far as reading asks -/
def Wk (K : Kx) (q : Nat) (e : Cel) (H : Heap) : Prop := ∃ cell : Cell, H[q]? = some cell ∧ cell.vm ≠ .unknown ∧ cell.vm.isStatics = false ∧ match e with
  | .inl (ty, x) => (kS K).isArrayOf cell ty ∧ cell.slots.size = x.1 ∧ ∀ j, j < x.1 → cell.slots[j]? = some (vAr (kL K) x j)
  | .inr (ci, fs) => ∃ r : vw_C, vwAll[ci]? = some r ∧ (kS K).vm.findClass r.1 = some cell.cls ∧ ∀ j, j < r.2.2 → ∃ i, FldIs (kS K) (r.2.1 j).1 (r.2.1 j).2.1 (r.2.1 j).2.2.1 i ∧ cell.slots[i]? = some (vp_V (fs.map (cv (kL K))) j)
theorem Wk.kept {K : Kx} {q : Nat} {e : Cel} {H H1 : Heap} (h : Wk K q e H) (hq : H1[q]? = H[q]?) : Wk K q e H1 := by
  obtain ⟨cell, h1, h2⟩ := h
  exact ⟨cell, by rw [hq]; exact h1, h2⟩
def tok (e : Cel) : Prop := match e with
  | .inl (ty, _) => ty ∈ tysL
  | .inr (ci, _) => ci < 18
abbrev ktys (K : Kx) : List (ClassId × FieldType) := tysL.map fun ty => (kA K ty, ty)
def Afr (K : Kx) : Nat → Prop := fun q => (kS K).heap.size ≤ q
/-- statics that nobody writes: label 0 the script, 1 NOTHING, 2 its law, 3 its doings, 4 the empty element data, 5 the cache, 6.. its Integers, 262 WORDS, 263.. its texts, 297 SIGNS, 300.. the texts' bytes -/
def statL : List (String × String × String × Value) := [("HookSwings", "NOTHING", "LHookSwings$Text;", .ref 1), ("java/util/ArrayList", "DEFAULTCAPACITY_EMPTY_ELEMENTDATA", "[Ljava/lang/Object;", .ref 4), ("java/lang/Integer$IntegerCache", "cache", "[Ljava/lang/Integer;", .ref 5), ("java/lang/Integer$IntegerCache", "high", "I", .int 127), ("HookSwings$Tokens", "WORDS", "[Ljava/lang/String;", .ref 262), ("java/lang/String", "COMPACT_STRINGS", "Z", .int 1)]
/-- where a static field lies, its class's statics cell in H (the kit's vx_L) -/
def vq_L (C n d : String) (A : Nat → Prop) (U : State) (H : Heap) : Prop := ∃ (c : ClassId) (k : Class) (i : Nat) (f : Field) (a : Nat) (cell : Cell), U.vm.findClass C = some c ∧ U.fieldFound? C n d = some (c, k, i, f) ∧ f.isStatic = true ∧ k.statics = some a ∧ H[a]? = some cell ∧ cell.vm.isStatics = true ∧ cell.cls = c ∧ f.slot < cell.slots.size ∧ k.staticTypes[f.slot]? = some f.type ∧ ¬ A a
theorem vq_L.moved {C n d : String} {A : Nat → Prop} {u U : State} {H : Heap} (hvm : u.vm.Alike U.vm) (h : vq_L C n d A u H) : vq_L C n d A U H := by
  obtain ⟨c, k, i, f, a, cell, h1, h2, h3, h4, h5, h6, h7, h8, h9, h10⟩ := h
  obtain ⟨k', hi', he⟩ := State.fieldFound?_setVm hvm h2
  exact ⟨c, k', i, f, a, cell, by rw [hvm.findClass]; exact h1, hi', h3, by rw [he]; exact h4, h5, h6, h7, h8, by rw [he]; exact h9, h10⟩
theorem vq_L.kept {C n d : String} {A : Nat → Prop} {U : State} {H H1 : Heap} (h : vq_L C n d A U H) (hq : ∀ a : Nat, a < H.size → ¬ A a → H1[a]? = H[a]?) : vq_L C n d A U H1 := by
  obtain ⟨c, k, i, f, a, cell, h1, h2, h3, h4, h5, h6, h7, h8, h9, h10⟩ := h
  exact ⟨c, k, i, f, a, cell, h1, h2, h3, h4, by rw [hq a (Array.getElem?_eq_some_iff.mp h5).1 h10]; exact h5, h6, h7, h8, h9, h10⟩
theorem vq_L.word {C n d : String} {A : Nat → Prop} {s : State} {args : Array Value} (h : vq_L C n d A s s.heap) : (Cond.laysStatic C n d).before args s = true := by
  obtain ⟨c, k, i, f, a, cell, h1, h2, h3, h4, h5, h6, h7, h8, h9, -⟩ := h
  show (Cond.laysStatic C n d).holds args s none s [] = true
  exact Cond.laysStatic_of h1 h2 h3 h4 h5 h6 h7 h8 h9
/-- statics of which it is known only that they hold a reference or null: the label of what they may hold -/
def unkL : List (String × String × String × Nat) := [("jdk/internal/util/Preconditions", "SIOOBE_FORMATTER", "Ljava/util/function/BiFunction;", 398), ("java/lang/Throwable", "UNASSIGNED_STACK", "[Ljava/lang/StackTraceElement;", 397), ("java/lang/Throwable", "SUPPRESSED_SENTINEL", "Ljava/util/List;", 396)]
def IniS (K : Kx) : Prop := (∀ q ∈ statL, va_Z q.1 q.2.1 q.2.2.1 (cv (kL K) q.2.2.2) (Afr K) (kS K) (kS K).heap) ∧ vk_R "HookSwings$Tokens" 53 "<>=#+-*/();" (kL K 297) (kS K) ∧ va_Mi "[Ljava/lang/Object;" (kL K 399) (kS K) ∧ (vq_L "java/lang/Throwable" "UNASSIGNED_STACK" "[Ljava/lang/StackTraceElement;" (Afr K) (kS K) (kS K).heap ∧ vq_L "java/lang/Throwable" "SUPPRESSED_SENTINEL" "Ljava/util/List;" (Afr K) (kS K) (kS K).heap) ∧ (∀ q ∈ unkL, va_Z q.1 q.2.1 q.2.2.1 .null (Afr K) (kS K) (kS K).heap ∨ va_Z q.1 q.2.1 q.2.2.1 (.ref (kL K q.2.2.2)) (Afr K) (kS K) (kS K).heap)
/-- what is known of the start -/
def Ini (K : Kx) : Prop := va_K (kD K) vwCl (ktys K) (kS K) ∧ (∀ k, nOld ≤ k → kL K k = (kS K).heap.size + (k - nOld)) ∧ (∀ k, k < 396 → kL K k < (kS K).heap.size) ∧
  (∃ A0 : Array Value, ∀ w ∈ lw_tbl, w.before A0 (kS K) = true) ∧ (∀ w ∈ lw_all, ∀ args, w.before args (kS K) = true) ∧ IniS K
/-- nobody holds the cell's monitor -/
def MonF (K : Kx) (e : Cel) (q : Nat) (H : Heap) : Prop := ∃ cell : Cell, H[q]? = some cell ∧ cell.monitor.owner = none ∧ cell.monitor.count = 0 ∧ match e with
  | .inl _ => True
  | .inr _ => ∀ kC : Class, (kS K).vm.classes[cell.cls]? = some kC → cell.slots.size = kC.instanceTypes.size
theorem MonF.kept {K : Kx} {e : Cel} {q : Nat} {H H1 : Heap} (h : MonF K e q H) (hq : H1[q]? = H[q]?) : MonF K e q H1 := by
  obtain ⟨c, h1, h2⟩ := h
  exact ⟨c, by rw [hq]; exact h1, h2⟩
/-- the heap holds the world -/
def HP (K : Kx) (w : Wd) (H : Heap) : Prop := H.size + nOld = (kS K).heap.size + wnx w ∧ nOld ≤ wnx w ∧ ∀ k e, w.1 k = some e → (k < wnx w ∧ (k < 396 ∨ nOld ≤ k)) ∧ (k < nOld → Wk K (kL K k) e H) ∧ (nOld ≤ k → tok e ∧ va_at (kD K) vwCl (kL K k, cE K e) H ∧ MonF K e (kL K k) H)
/-- where a run stands: as the start was, but for what resolving has noted; old cells unchanged -/
def EnvK (K : Kx) (U : State) : Prop := (kS K).WarmedH U.vm ∧ (kS K).heap.size ≤ U.heap.size ∧ ∀ q : Nat, q < (kS K).heap.size → U.heap[q]? = (kS K).heap[q]?
theorem vwAll_of {ci : Nat} {r : vw_C} (h : vwCl[ci]? = some r) : vwAll[ci]? = some r := by
  have hl := (List.getElem?_eq_some_iff.mp h).1
  unfold vwAll
  rw [List.getElem?_append_left hl]
  exact h
theorem FldIs.ofLay {s : State} {args : Array Value} {C : String} {T : u_T} {N : Nat} {cC : ClassId} {iS : Nat → Nat} (hts : ∀ w ∈ u_ws C T N, w.before args s = true) (hK : u_Kn s C T N cC iS) {k : Nat} (hk : k < N) : FldIs s (T k).1 (T k).2.1 (T k).2.2.1 (iS k) := by
  obtain ⟨hS, hfc, kC, hkC, hkind⟩ := hK
  obtain ⟨cf, kf, fi, f, hi, hsl⟩ := hS k hk
  exact ⟨cf, kf, fi, f, hi, hsl, (u_facts hfc hkC (u_lays hts (fun w h => h) hk) hi).1⟩
theorem lays_all : ∀ (ci : Nat) (r : vw_C), vwCl[ci]? = some r → ∀ w ∈ u_ws r.1 r.2.1 r.2.2, w ∈ lw_all := by
  intro ci r h
  match ci, h with
  | 0, h => cases h; exact in_X0
  | 1, h => cases h; exact in_X1
  | 2, h => cases h; exact in_X2
  | 3, h => cases h; exact in_X3
  | 4, h => cases h; exact in_X4
  | 5, h => cases h; exact in_X5w
  | 6, h => cases h; exact in_X6
  | 7, h => cases h; exact in_X7
  | 8, h => cases h; exact in_X8
  | 9, h => cases h; exact in_X9
  | 10, h => cases h; exact in_X10
  | 11, h => cases h; exact in_X11
  | 12, h => cases h; exact in_X12
  | 13, h => cases h; exact in_X13
  | 14, h => cases h; exact in_X14
  | 15, h => cases h; exact in_X15
  | 16, h => cases h; exact in_J2
  | 17, h => cases h; exact in_J15
  | n + 18, h => simp [vwCl] at h
theorem isStatics_none {v : VmData} (h : v = .none) : v ≠ .unknown ∧ v.isStatics = false := ⟨by rw [h]; exact fun h => (by cases h), by rw [h]; rfl⟩
theorem arrV_facts (cI : ClassId) (N : Nat) (f : Nat → Value) : (arrV cI N f).vm = .none ∧ (arrV cI N f).slots.size = N ∧ ∀ j, j < N → (arrV cI N f).slots[j]? = some (f j) := ⟨rfl, arrV_size cI N f, fun j h => arrV_read cI f h⟩
theorem vp_cell_arrV (al : Nat → Nat) (cA : ClassId) (x : vp_A) : vp_cell cA (cAr al x) = arrV cA x.1 (vAr al x) := by
  obtain ⟨n, x⟩ := x
  rcases x with f | f | f | f | f <;> rfl
theorem Wk.of {K : Kx} (hI : Ini K) {k : Nat} {e : Cel} {H : Heap} (ht : tok e) (h : va_at (kD K) vwCl (kL K k, cE K e) H) : Wk K (kL K k) e H := by
  rcases e with ⟨ty, x⟩ | ⟨ci, fs⟩
  · have h1 : H[kL K k]? = some (arrV (kA K ty) x.1 (vAr (kL K) x)) := by rw [← vp_cell_arrV]; exact h
    obtain ⟨a1, a2, a3⟩ := arrV_facts (kA K ty) x.1 (vAr (kL K) x)
    obtain ⟨b1, b2⟩ := isStatics_none a1
    refine ⟨_, h1, b1, b2, ?_, a2, a3⟩
    obtain ⟨i, hi⟩ := List.getElem?_of_mem (show ty ∈ tysL from ht)
    have h2 : (ktys K)[i]? = some (kA K ty, ty) := by simp [ktys, hi]
    exact (hI.1.2 i _ h2).1 _ _
  · obtain ⟨r, h1, cell, q1, q2, q3, q4⟩ := h
    obtain ⟨b1, b2⟩ := isStatics_none q3
    have hk := hI.1.1 ci r h1
    refine ⟨cell, q1, b1, b2, r, vwAll_of h1, ?_, fun j hj => ⟨_, FldIs.ofLay (args := #[]) (fun w hw => hI.2.2.2.2.1 w (lays_all ci r h1 w hw) _) hk hj, q4 j hj⟩⟩
    rw [q2]
    exact hk.2.1
theorem HP.wk {K : Kx} (hI : Ini K) {w : Wd} {H : Heap} (h : HP K w H) {k : Nat} {e : Cel} (hk : w.1 k = some e) : Wk K (kL K k) e H := by
  obtain ⟨-, -, h⟩ := h
  obtain ⟨h1, h2, h3⟩ := h k e hk
  rcases Nat.lt_or_ge k nOld with q | q
  · exact h2 q
  · exact Wk.of hI (h3 q).1 (h3 q).2.1
/-- writing at a label -/
def wst (w : Wd) (k : Nat) (e : Cel) : Wd := (fun j => if j = k then some e else w.1 j, w.2.1, w.2.2)
/-- a new cell -/
def wnew (w : Wd) (e : Cel) (sz : Nat) : Wd := (fun j => if j = w.2.1 then some e else w.1 j, w.2.1 + 1, w.2.2 + sz)
theorem kL_inj {K : Kx} (hI : Ini K) {j k : Nat} (hj : j < 396 ∨ nOld ≤ j) (hk : nOld ≤ k) (h : kL K j = kL K k) : j = k := by
  have h1 := hI.2.1 k hk
  rcases hj with q | q
  · have := hI.2.2.1 j q
    omega
  · have := hI.2.1 j q
    omega
theorem HP.set {K : Kx} (hI : Ini K) {w : Wd} {H H1 : Heap} (h : HP K w H) {k : Nat} {e0 e : Cel} (hk : w.1 k = some e0) (hn : nOld ≤ k) (ht : tok e) (hz : H1.size = H.size) (ho : ∀ q : Nat, q ≠ kL K k → H1[q]? = H[q]?) (ha : va_at (kD K) vwCl (kL K k, cE K e) H1) (hm : MonF K e (kL K k) H1) : HP K (wst w k e) H1 := by
  obtain ⟨h1, h2, h3⟩ := h
  refine ⟨by rw [hz]; exact h1, h2, fun j e' hj => ?_⟩
  simp only [wst] at hj
  by_cases hjk : j = k
  · subst hjk
    rw [if_pos rfl] at hj
    cases hj
    exact ⟨(h3 _ _ hk).1, fun q => absurd hn (by omega), fun _ => ⟨ht, ha, hm⟩⟩
  · rw [if_neg hjk] at hj
    obtain ⟨a1, a2, a3⟩ := h3 j e' hj
    have hne : kL K j ≠ kL K k := fun q => hjk (kL_inj hI a1.2 hn q)
    exact ⟨a1, fun q => (a2 q).kept (ho _ hne), fun q => ⟨(a3 q).1, (a3 q).2.1.kept (ho _ hne), (a3 q).2.2.kept (ho _ hne)⟩⟩
theorem va_at_lt {K : Kx} {w : Wd} {H : Heap} (h : HP K w H) {k : Nat} {e : Cel} (hk : w.1 k = some e) (hI : Ini K) : kL K k < H.size := by
  obtain ⟨cell, h1, -⟩ := h.wk hI hk
  exact (Array.getElem?_eq_some_iff.mp h1).1
theorem HP.new {K : Kx} (hI : Ini K) {w : Wd} {H H1 : Heap} (h : HP K w H) {e : Cel} (sz : Nat) (ht : tok e) (hz : H1.size = H.size + 1) (ho : ∀ q : Nat, q < H.size → H1[q]? = H[q]?) (ha : va_at (kD K) vwCl (H.size, cE K e) H1) (hm : MonF K e H.size H1) : HP K (wnew w e sz) H1 := by
  have hw := h
  obtain ⟨h1, h2, h3⟩ := h
  have hL : kL K w.2.1 = H.size := by
    have := hI.2.1 w.2.1 h2
    have h1' : H.size + nOld = (kS K).heap.size + w.2.1 := h1
    have h2' : nOld ≤ w.2.1 := h2
    omega
  refine ⟨?_, Nat.le_succ_of_le h2, fun j e' hj => ?_⟩
  · show H1.size + nOld = (kS K).heap.size + (w.2.1 + 1)
    have h1' : H.size + nOld = (kS K).heap.size + w.2.1 := h1
    omega
  · simp only [wnew] at hj
    by_cases hjk : j = w.2.1
    · subst hjk
      rw [if_pos rfl] at hj
      cases hj
      refine ⟨⟨Nat.lt_succ_self _, Or.inr h2⟩, fun q => absurd (show nOld ≤ w.2.1 from h2) (by omega), fun _ => ⟨ht, ?_⟩⟩
      rw [hL]
      exact ⟨ha, hm⟩
    · rw [if_neg hjk] at hj
      obtain ⟨a1, a2, a3⟩ := h3 j e' hj
      have hne := ho _ (va_at_lt hw hj hI)
      exact ⟨⟨Nat.lt_succ_of_lt a1.1, a1.2⟩, fun q => (a2 q).kept hne, fun q => ⟨(a3 q).1, (a3 q).2.1.kept hne, (a3 q).2.2.kept hne⟩⟩
theorem wnx_addr {K : Kx} (hI : Ini K) {w : Wd} {H : Heap} (h : HP K w H) : kL K (wnx w) = H.size := by
  obtain ⟨h1, h2, h3⟩ := h
  have := hI.2.1 (wnx w) h2
  omega
