/-! ===== the judgement: the machine at a frame refines a computation ===== -/
abbrev Cx : Type := Program × Launch × Env × Room × State × MethodId × Array Value × List Frame × Method × Code
abbrev Fx (β : Type) : Type := Kx × Cx × Nat × (β → State → Prop) × (β → Wd) × Wd
abbrev fK {β : Type} (y : Fx β) : Kx := y.1
abbrev fp {β : Type} (y : Fx β) : Program := y.2.1.1
abbrev fl {β : Type} (y : Fx β) : Launch := y.2.1.2.1
abbrev fe {β : Type} (y : Fx β) : Env := y.2.1.2.2.1
abbrev fR {β : Type} (y : Fx β) : Room := y.2.1.2.2.2.1
abbrev fs {β : Type} (y : Fx β) : State := y.2.1.2.2.2.2.1
abbrev fm {β : Type} (y : Fx β) : MethodId := y.2.1.2.2.2.2.2.1
abbrev fargs {β : Type} (y : Fx β) : Array Value := y.2.1.2.2.2.2.2.2.1
abbrev fbelow {β : Type} (y : Fx β) : List Frame := y.2.1.2.2.2.2.2.2.2.1
abbrev fmeth {β : Type} (y : Fx β) : Method := y.2.1.2.2.2.2.2.2.2.2.1
abbrev fc {β : Type} (y : Fx β) : Code := y.2.1.2.2.2.2.2.2.2.2.2
abbrev fnL {β : Type} (y : Fx β) : Nat := y.2.2.1
abbrev fG {β : Type} (y : Fx β) : β → State → Prop := y.2.2.2.1
abbrev fwo {β : Type} (y : Fx β) : β → Wd := y.2.2.2.2.1
abbrev fw0 {β : Type} (y : Fx β) : Wd := y.2.2.2.2.2
abbrev lcv (K : Kx) (lc : List (Nat × Value)) : List (Nat × Value) := lc.map fun q => (q.1, cv (kL K) q.2)
/-- the machine, for one answer r -/
abbrev WV {β : Type} (y : Fx β) (r : β) (H : Heap) (locs : List Loc) (w : Wd) (g : JFrame) : Prop :=
  W (fp y) (fl y) (fe y) (fR y) (fs y) (fm y) (fargs y) (fbelow y) (fmeth y) (fc y) H locs (wnx w - wnx (fw0 y)) (wsl w - wsl (fw0 y)) (fG y r) g
def Pre9 {β : Type} (y : Fx β) (r : β) (w : Wd) (H : Heap) (locs : List Loc) : Prop :=
  (fR y).cells + wnx (fw0 y) = wnx (fwo y r) ∧ (fR y).slots + wsl (fw0 y) = wsl (fwo y r) ∧ wnx (fw0 y) ≤ wnx w ∧ wsl (fw0 y) ≤ wsl w ∧ HP (fK y) w H ∧ va_S (Afr (fK y)) (fs y).heap H locs
def V {β : Type} (y : Fx β) (w : Wd) (lc : List (Nat × Value)) (st : List Value) (pc : Nat) (comp : Option β) : Prop :=
  ∀ r, comp = some r → (wnx w ≤ wnx (fwo y r) ∧ wsl w ≤ wsl (fwo y r)) ∧ ∀ (H : Heap) (locs : List Loc) (ls : Array Slot), Pre9 y r w H locs → lv_has ls (fnL y) (lcv (fK y) lc) → WV y r H locs w (F0 (fm y) pc ls (cvs (fK y) st))
/-- what is fixed in a method -/
def OkF {β : Type} (y : Fx β) (own : String) (cc : ByteArray) (nL : Nat) (F L : Nat) : Prop :=
  (fp y).tables.exec = Jvm.exec ∧ (fc y).code = cc ∧ (fc y).maxLocals = nL ∧ fnL y = nL ∧ (fs y).vm.findClass own = some (fm y).cls ∧ (∀ w ∈ lw_all, w.before (fargs y) (fs y) = true) ∧ EnvK (fK y) (fs y) ∧ Ini (fK y) ∧ (fR y).frames = F ∧ (fR y).locals = L ∧ (fmeth y).locks = false
theorem cv_cat (al : Nat → Nat) (v : Value) : (cv al v).category = v.category := by cases v <;> rfl
theorem lcv_filter1 (K : Kx) (lc : List (Nat × Value)) (i : Nat) : (lcv K lc).filter (fun q => !(q.1 == i) && !(q.1 + 1 == i && q.2.category == 2)) = lcv K (lc.filter (fun q => !(q.1 == i) && !(q.1 + 1 == i && q.2.category == 2))) := by
  induction lc with
  | nil => rfl
  | cons a t ih =>
    simp only [lcv, List.map_cons, List.filter_cons, cv_cat] at ih ⊢
    split
    · simp only [List.map_cons, ih]
    · exact ih
theorem lcv_filter2 (K : Kx) (lc : List (Nat × Value)) (i : Nat) : (lcv K lc).filter (fun q => !(q.1 == i) && (!(q.1 == i + 1) && !(q.1 + 1 == i && q.2.category == 2))) = lcv K (lc.filter (fun q => !(q.1 == i) && (!(q.1 == i + 1) && !(q.1 + 1 == i && q.2.category == 2)))) := by
  induction lc with
  | nil => rfl
  | cons a t ih =>
    simp only [lcv, List.map_cons, List.filter_cons, cv_cat] at ih ⊢
    split
    · simp only [List.map_cons, ih]
    · exact ih
theorem cv_rf (al : Nat → Nat) (r : Option Nat) : cv al (va_rf r) = va_rf (r.map al) := by cases r <;> rfl
theorem rf_cat (r : Option Nat) : (va_rf r).category = 1 := by cases r <;> rfl
theorem lcv_at {K : Kx} {ls : Array Slot} {nL : Nat} {lc : List (Nat × Value)} (h : lv_has ls nL (lcv K lc)) (k : Nat) {i : Nat} {v : Value} (hk : lc[k]? = some (i, v)) : ls[i]? = some (.val (cv (kL K) v)) := lv_at h k (by rw [lcv, List.getElem?_map, hk]; rfl)
theorem lcv_pick (K : Kx) (lc : List (Nat × Value)) (ks : List Nat) : lv_pick (lcv K lc) ks = lcv K (lv_pick lc ks) := by
  induction ks with
  | nil => rfl
  | cons a t ih =>
    simp only [lv_pick, lcv, List.filterMap_cons, List.getElem?_map] at ih ⊢
    cases lc[a]? with
    | none => exact ih
    | some v => simp only [Option.map_some, List.map_cons]; rw [ih]
section VR
variable {β : Type} {y : Fx β} {own : String} {cc : ByteArray} {nL F L : Nat} {w : Wd} {lc : List (Nat × Value)} {st : List Value} {pc : Nat} {comp : Option β}
theorem V_none : V y w lc st pc none := fun r h => by cases h
theorem V_same {lc' : List (Nat × Value)} {st' : List Value} {pc' : Nat} (hgo : ∀ (r : β) (H : Heap) (locs : List Loc) (ls : Array Slot), lv_has ls (fnL y) (lcv (fK y) lc) → (∀ ls' : Array Slot, lv_has ls' (fnL y) (lcv (fK y) lc') → WV y r H locs w (F0 (fm y) pc' ls' (cvs (fK y) st'))) → WV y r H locs w (F0 (fm y) pc ls (cvs (fK y) st)))
    (kk : V y w lc' st' pc' comp) : V y w lc st pc comp := by
  intro r hr
  obtain ⟨h1, h2⟩ := kk r hr
  exact ⟨h1, fun H locs ls hp hl => hgo r H locs ls hl (fun ls' hl' => h2 H locs ls' hp hl')⟩
theorem V_same2 {c9 : Prop} [Decidable c9] {a b : Option β} {st1 st2 : List Value} {pc1 pc2 : Nat} (hgo : ∀ (r : β) (H : Heap) (locs : List Loc) (ls : Array Slot), lv_has ls (fnL y) (lcv (fK y) lc) → (c9 → WV y r H locs w (F0 (fm y) pc1 ls (cvs (fK y) st1))) → (¬ c9 → WV y r H locs w (F0 (fm y) pc2 ls (cvs (fK y) st2))) → WV y r H locs w (F0 (fm y) pc ls (cvs (fK y) st)))
    (ka : V y w lc st1 pc1 a) (kb : V y w lc st2 pc2 b) : V y w lc st pc (if c9 then a else b) := by
  intro r hr
  by_cases h : c9
  · rw [if_pos h] at hr
    obtain ⟨h1, h2⟩ := ka r hr
    exact ⟨h1, fun H locs ls hp hl => hgo r H locs ls hl (fun _ => h2 H locs ls hp hl) (fun q => absurd h q)⟩
  · rw [if_neg h] at hr
    obtain ⟨h1, h2⟩ := kb r hr
    exact ⟨h1, fun H locs ls hp hl => hgo r H locs ls hl (fun q => absurd q h) (fun _ => h2 H locs ls hp hl)⟩
theorem V_pick {lc' : List (Nat × Value)} (ks : List Nat) (hl' : lv_pick lc ks = lc') (kk : V y w lc' st pc comp) : V y w lc st pc comp := by
  refine V_same (fun r H locs ls hl k => k ls ?_) kk
  exact lv_sub hl ks (by rw [← hl']; exact lcv_pick _ lc ks)
theorem V_bind {α : Type} {f : Option α} {k : α → Option β} (kk : ∀ v, f = some v → V y w lc st pc (k v)) : V y w lc st pc (f.bind k) := by
  intro r hr
  obtain ⟨v, hv, hr⟩ := Option.bind_eq_some_iff.mp hr
  exact kk v hv r hr
theorem V_if {c9 : Prop} [Decidable c9] {a b : Option β} (ka : c9 → V y w lc st pc a) (kb : ¬ c9 → V y w lc st pc b) : V y w lc st pc (if c9 then a else b) := by
  by_cases h : c9
  · rw [if_pos h]; exact ka h
  · rw [if_neg h]; exact kb h

theorem V_iadd (hk : OkF y own cc nL F L) {x z : Int32} (hd : decode cc pc = .ok (.iadd, 1)) (kk : V y w lc (.int (x + z) :: st) (pc + 1) comp) : V y w lc (.int z :: .int x :: st) pc comp := V_same (fun r H locs ls hl k => lv_iadd hk.1 hk.2.1 hd (k ls hl)) kk
theorem V_isub (hk : OkF y own cc nL F L) {x z : Int32} (hd : decode cc pc = .ok (.isub, 1)) (kk : V y w lc (.int (x - z) :: st) (pc + 1) comp) : V y w lc (.int z :: .int x :: st) pc comp := V_same (fun r H locs ls hl k => lv_isub hk.1 hk.2.1 hd (k ls hl)) kk
theorem V_imul (hk : OkF y own cc nL F L) {x z : Int32} (hd : decode cc pc = .ok (.imul, 1)) (kk : V y w lc (.int (x * z) :: st) (pc + 1) comp) : V y w lc (.int z :: .int x :: st) pc comp := V_same (fun r H locs ls hl k => lv_imul hk.1 hk.2.1 hd (k ls hl)) kk
theorem V_iand (hk : OkF y own cc nL F L) {x z : Int32} (hd : decode cc pc = .ok (.iand, 1)) (kk : V y w lc (.int (x &&& z) :: st) (pc + 1) comp) : V y w lc (.int z :: .int x :: st) pc comp := V_same (fun r H locs ls hl k => lv_iand hk.1 hk.2.1 hd (k ls hl)) kk
theorem V_ior (hk : OkF y own cc nL F L) {x z : Int32} (hd : decode cc pc = .ok (.ior, 1)) (kk : V y w lc (.int (x ||| z) :: st) (pc + 1) comp) : V y w lc (.int z :: .int x :: st) pc comp := V_same (fun r H locs ls hl k => lv_ior hk.1 hk.2.1 hd (k ls hl)) kk
theorem V_ishl (hk : OkF y own cc nL F L) {x z : Int32} (hd : decode cc pc = .ok (.ishl, 1)) (kk : V y w lc (.int (x <<< (z &&& 31)) :: st) (pc + 1) comp) : V y w lc (.int z :: .int x :: st) pc comp := V_same (fun r H locs ls hl k => lv_ishl hk.1 hk.2.1 hd (k ls hl)) kk
theorem V_ishr (hk : OkF y own cc nL F L) {x z : Int32} (hd : decode cc pc = .ok (.ishr, 1)) (kk : V y w lc (.int (x >>> (z &&& 31)) :: st) (pc + 1) comp) : V y w lc (.int z :: .int x :: st) pc comp := V_same (fun r H locs ls hl k => lv_ishr hk.1 hk.2.1 hd (k ls hl)) kk
theorem V_iushr (hk : OkF y own cc nL F L) {x z : Int32} (hd : decode cc pc = .ok (.iushr, 1)) (kk : V y w lc (.int ((x.toUInt32 >>> (z.toUInt32 &&& Int32.toUInt32 31)).toInt32) :: st) (pc + 1) comp) : V y w lc (.int z :: .int x :: st) pc comp := V_same (fun r H locs ls hl k => lv_iushr hk.1 hk.2.1 hd rfl (k ls hl)) kk
theorem V_ineg (hk : OkF y own cc nL F L) {x : Int32} (hd : decode cc pc = .ok (.ineg, 1)) (kk : V y w lc (.int (-x) :: st) (pc + 1) comp) : V y w lc (.int x :: st) pc comp := V_same (fun r H locs ls hl k => lv_ineg hk.1 hk.2.1 hd (k ls hl)) kk
theorem V_ladd (hk : OkF y own cc nL F L) {x z : Int64} (hd : decode cc pc = .ok (.ladd, 1)) (kk : V y w lc (.long (x + z) :: st) (pc + 1) comp) : V y w lc (.long z :: .long x :: st) pc comp := V_same (fun r H locs ls hl k => lv_ladd hk.1 hk.2.1 hd (k ls hl)) kk
theorem V_lsub (hk : OkF y own cc nL F L) {x z : Int64} (hd : decode cc pc = .ok (.lsub, 1)) (kk : V y w lc (.long (x - z) :: st) (pc + 1) comp) : V y w lc (.long z :: .long x :: st) pc comp := V_same (fun r H locs ls hl k => lv_lsub hk.1 hk.2.1 hd (k ls hl)) kk
theorem V_lmul (hk : OkF y own cc nL F L) {x z : Int64} (hd : decode cc pc = .ok (.lmul, 1)) (kk : V y w lc (.long (x * z) :: st) (pc + 1) comp) : V y w lc (.long z :: .long x :: st) pc comp := V_same (fun r H locs ls hl k => lv_lmul hk.1 hk.2.1 hd (k ls hl)) kk
theorem V_lor (hk : OkF y own cc nL F L) {x z : Int64} (hd : decode cc pc = .ok (.lor, 1)) (kk : V y w lc (.long (x ||| z) :: st) (pc + 1) comp) : V y w lc (.long z :: .long x :: st) pc comp := V_same (fun r H locs ls hl k => lv_lor hk.1 hk.2.1 hd (k ls hl)) kk
theorem V_lneg (hk : OkF y own cc nL F L) {x : Int64} (hd : decode cc pc = .ok (.lneg, 1)) (kk : V y w lc (.long (-x) :: st) (pc + 1) comp) : V y w lc (.long x :: st) pc comp := V_same (fun r H locs ls hl k => lv_lneg hk.1 hk.2.1 hd (k ls hl)) kk
theorem V_lshl (hk : OkF y own cc nL F L) {x : Int64} {z : Int32} (hd : decode cc pc = .ok (.lshl, 1)) (kk : V y w lc (.long (x <<< (z.toInt64 &&& 63)) :: st) (pc + 1) comp) : V y w lc (.int z :: .long x :: st) pc comp := V_same (fun r H locs ls hl k => lv_lshl hk.1 hk.2.1 hd rfl (k ls hl)) kk
theorem V_lshr (hk : OkF y own cc nL F L) {x : Int64} {z : Int32} (hd : decode cc pc = .ok (.lshr, 1)) (kk : V y w lc (.long (x >>> (z.toInt64 &&& 63)) :: st) (pc + 1) comp) : V y w lc (.int z :: .long x :: st) pc comp := V_same (fun r H locs ls hl k => lv_lshr hk.1 hk.2.1 hd rfl (k ls hl)) kk
theorem V_lcmp (hk : OkF y own cc nL F L) {x z : Int64} (hd : decode cc pc = .ok (.lcmp, 1)) (kk : V y w lc (.int (lg_cmp x z) :: st) (pc + 1) comp) : V y w lc (.long z :: .long x :: st) pc comp := V_same (fun r H locs ls hl k => W.lcmp hk.1 hk.2.1 hd (k ls hl)) kk
theorem V_i2l (hk : OkF y own cc nL F L) {x : Int32} (hd : decode cc pc = .ok (.i2l, 1)) (kk : V y w lc (.long x.toInt64 :: st) (pc + 1) comp) : V y w lc (.int x :: st) pc comp := V_same (fun r H locs ls hl k => lv_i2l hk.1 hk.2.1 hd rfl (k ls hl)) kk
theorem V_l2i (hk : OkF y own cc nL F L) {x : Int64} (hd : decode cc pc = .ok (.l2i, 1)) (kk : V y w lc (.int x.toInt32 :: st) (pc + 1) comp) : V y w lc (.long x :: st) pc comp := V_same (fun r H locs ls hl k => lv_l2i hk.1 hk.2.1 hd rfl (k ls hl)) kk
theorem V_i2c (hk : OkF y own cc nL F L) {x : Int32} (hd : decode cc pc = .ok (.i2c, 1)) (kk : V y w lc (.int (x.toUInt32 % 65536).toInt32 :: st) (pc + 1) comp) : V y w lc (.int x :: st) pc comp := V_same (fun r H locs ls hl k => lv_i2c hk.1 hk.2.1 hd rfl (k ls hl)) kk
theorem V_i2b (hk : OkF y own cc nL F L) {x : Int32} (hd : decode cc pc = .ok (.i2b, 1)) (kk : V y w lc (.int x.toInt8.toInt32 :: st) (pc + 1) comp) : V y w lc (.int x :: st) pc comp := V_same (fun r H locs ls hl k => lv_i2b hk.1 hk.2.1 hd rfl (k ls hl)) kk
theorem V_iconst (hk : OkF y own cc nL F L) {n : Int} {v : Int32} (hd : decode cc pc = .ok (.iconst n, 1)) (hv : Int32.ofInt n = v) (kk : V y w lc (.int v :: st) (pc + 1) comp) : V y w lc (st) pc comp := V_same (fun r H locs ls hl k => lv_iconst hk.1 hk.2.1 hd hv (k ls hl)) kk
theorem V_bipush (hk : OkF y own cc nL F L) {n : Int} {v : Int32} (hd : decode cc pc = .ok (.bipush n, 2)) (hv : (Int8.ofInt n).toInt32 = v) (kk : V y w lc (.int v :: st) (pc + 2) comp) : V y w lc (st) pc comp := V_same (fun r H locs ls hl k => lv_bipush hk.1 hk.2.1 hd hv (k ls hl)) kk
theorem V_sipush (hk : OkF y own cc nL F L) {n : Int} {v : Int32} (hd : decode cc pc = .ok (.sipush n, 3)) (hv : (Int16.ofInt n).toInt32 = v) (kk : V y w lc (.int v :: st) (pc + 3) comp) : V y w lc (st) pc comp := V_same (fun r H locs ls hl k => lv_sipush hk.1 hk.2.1 hd hv (k ls hl)) kk
theorem V_lconst (hk : OkF y own cc nL F L) {n : Fin 2} {v : Int64} (hd : decode cc pc = .ok (.lconst n, 1)) (hv : Int64.ofNat (n : Nat) = v) (kk : V y w lc (.long v :: st) (pc + 1) comp) : V y w lc (st) pc comp := V_same (fun r H locs ls hl k => lv_lconst hk.1 hk.2.1 hd hv (k ls hl)) kk
theorem V_null (hk : OkF y own cc nL F L) (hd : decode cc pc = .ok (.aconst_null, 1)) (kk : V y w lc (va_rf none :: st) (pc + 1) comp) : V y w lc (st) pc comp := V_same (fun r H locs ls hl k => lv_null hk.1 hk.2.1 hd (k ls hl)) kk
theorem V_ldc (hk : OkF y own cc nL F L) {i : Nat} {v : Int32} (hd : decode cc pc = .ok (.ldc i, 2)) (hq : Cond.constant own i v ∈ lw_all) (kk : V y w lc (.int v :: st) (pc + 2) comp) : V y w lc (st) pc comp := V_same (fun r H locs ls hl k => lv_ldc hk.1 hk.2.1 hk.2.2.2.2.1 (hk.2.2.2.2.2.1 _ hq) hd (k ls hl)) kk
theorem V_ldcw (hk : OkF y own cc nL F L) {i : Nat} {v : Int32} (hd : decode cc pc = .ok (.ldc_w i, 3)) (hq : Cond.constant own i v ∈ lw_all) (kk : V y w lc (.int v :: st) (pc + 3) comp) : V y w lc (st) pc comp := V_same (fun r H locs ls hl k => lv_ldcw hk.1 hk.2.1 hk.2.2.2.2.1 (hk.2.2.2.2.2.1 _ hq) hd (k ls hl)) kk
theorem V_ldc2 (hk : OkF y own cc nL F L) {i : Nat} {v : Int64} (hd : decode cc pc = .ok (.ldc2_w i, 3)) (hq : Cond.constantLong own i v ∈ lw_all) (kk : V y w lc (.long v :: st) (pc + 3) comp) : V y w lc (st) pc comp := V_same (fun r H locs ls hl k => lv_ldc2 hk.1 hk.2.1 hk.2.2.2.2.1 (hk.2.2.2.2.2.1 _ hq) hd (k ls hl)) kk
theorem V_pop (hk : OkF y own cc nL F L) {v : Value} (hd : decode cc pc = .ok (.pop, 1)) (hv : v.category = 1) (kk : V y w lc (st) (pc + 1) comp) : V y w lc (v :: st) pc comp := V_same (fun r H locs ls hl k => lv_pop hk.1 hk.2.1 hd (by rw [cv_cat]; exact hv) (k ls hl)) kk
theorem V_dup (hk : OkF y own cc nL F L) {v : Value} (hd : decode cc pc = .ok (.dup, 1)) (hv : v.category = 1) (kk : V y w lc (v :: v :: st) (pc + 1) comp) : V y w lc (v :: st) pc comp := V_same (fun r H locs ls hl k => lv_dup hk.1 hk.2.1 hd (by rw [cv_cat]; exact hv) (k ls hl)) kk
theorem V_dup_x1 (hk : OkF y own cc nL F L) {v u : Value} (hd : decode cc pc = .ok (.dup_x1, 1)) (hv : v.category = 1) (hu : u.category = 1) (kk : V y w lc (v :: u :: v :: st) (pc + 1) comp) : V y w lc (v :: u :: st) pc comp := V_same (fun r H locs ls hl k => lv_dup_x1 hk.1 hk.2.1 hd (by rw [cv_cat]; exact hv) (by rw [cv_cat]; exact hu) (k ls hl)) kk
theorem V_dup2 (hk : OkF y own cc nL F L) {v u : Value} (hd : decode cc pc = .ok (.dup2, 1)) (hv : v.category = 1) (hu : u.category = 1) (kk : V y w lc (v :: u :: v :: u :: st) (pc + 1) comp) : V y w lc (v :: u :: st) pc comp := V_same (fun r H locs ls hl k => lv_dup2_11 hk.1 hk.2.1 hd (by rw [cv_cat]; exact hv) (by rw [cv_cat]; exact hu) (k ls hl)) kk
def idv (x z : Int32) : Option Int32 := if z = 0 then none else some (x / z)
def irm (x z : Int32) : Option Int32 := if z = 0 then none else some (x - x / z * z)
def ldv (x z : Int64) : Option Int64 := if z = 0 then none else some (x / z)
def lrm (x z : Int64) : Option Int64 := if z = 0 then none else some (x - x / z * z)
theorem V_idiv (hk : OkF y own cc nL F L) {x z : Int32} {k : Int32 → Option β} (hd : decode cc pc = .ok (.idiv, 1)) (kk : ∀ v, V y w lc (.int v :: st) (pc + 1) (k v)) : V y w lc (.int z :: .int x :: st) pc ((idv x z).bind k) := by
  refine V_bind fun v hv => ?_
  unfold idv at hv
  split at hv
  · cases hv
  · rename_i h0
    cases hv
    exact V_same (fun r H locs ls hl k => lv_idiv hk.1 hk.2.1 hd h0 (k ls hl)) (kk _)
theorem V_irem (hk : OkF y own cc nL F L) {x z : Int32} {k : Int32 → Option β} (hd : decode cc pc = .ok (.irem, 1)) (kk : ∀ v, V y w lc (.int v :: st) (pc + 1) (k v)) : V y w lc (.int z :: .int x :: st) pc ((irm x z).bind k) := by
  refine V_bind fun v hv => ?_
  unfold irm at hv
  split at hv
  · cases hv
  · rename_i h0
    cases hv
    exact V_same (fun r H locs ls hl k => lv_irem hk.1 hk.2.1 hd h0 (k ls hl)) (kk _)
theorem V_ldiv (hk : OkF y own cc nL F L) {x z : Int64} {k : Int64 → Option β} (hd : decode cc pc = .ok (.ldiv, 1)) (kk : ∀ v, V y w lc (.long v :: st) (pc + 1) (k v)) : V y w lc (.long z :: .long x :: st) pc ((ldv x z).bind k) := by
  refine V_bind fun v hv => ?_
  unfold ldv at hv
  split at hv
  · cases hv
  · rename_i h0
    cases hv
    exact V_same (fun r H locs ls hl k => lv_ldiv hk.1 hk.2.1 hd h0 (k ls hl)) (kk _)
theorem V_lrem (hk : OkF y own cc nL F L) {x z : Int64} {k : Int64 → Option β} (hd : decode cc pc = .ok (.lrem, 1)) (kk : ∀ v, V y w lc (.long v :: st) (pc + 1) (k v)) : V y w lc (.long z :: .long x :: st) pc ((lrm x z).bind k) := by
  refine V_bind fun v hv => ?_
  unfold lrm at hv
  split at hv
  · cases hv
  · rename_i h0
    cases hv
    exact V_same (fun r H locs ls hl k => lv_lrem hk.1 hk.2.1 hd h0 (k ls hl)) (kk _)
theorem V_iload_n (hk : OkF y own cc nL F L) {k : Fin 4} {x : Int32} (hd : decode cc pc = .ok (.iload_n k, 1)) (j : Nat) (hj : lc[j]? = some ((k : Nat), .int x)) (kk : V y w lc (.int x :: st) (pc + 1) comp) : V y w lc st pc comp := V_same (fun r H locs ls hl k => lv_iload_n hk.1 hk.2.1 hd rfl (lcv_at hl j hj) (k ls hl)) kk
theorem V_iload (hk : OkF y own cc nL F L) {i : Nat} {x : Int32} (hd : decode cc pc = .ok (.iload i, 2)) (j : Nat) (hj : lc[j]? = some (i, .int x)) (kk : V y w lc (.int x :: st) (pc + 2) comp) : V y w lc st pc comp := V_same (fun r H locs ls hl k => lv_iload hk.1 hk.2.1 hd (lcv_at hl j hj) (k ls hl)) kk
theorem V_lload_n (hk : OkF y own cc nL F L) {k : Fin 4} {x : Int64} (hd : decode cc pc = .ok (.lload_n k, 1)) (j : Nat) (hj : lc[j]? = some ((k : Nat), .long x)) (kk : V y w lc (.long x :: st) (pc + 1) comp) : V y w lc st pc comp := V_same (fun r H locs ls hl k => lv_lload_n hk.1 hk.2.1 hd rfl (lcv_at hl j hj) (k ls hl)) kk
theorem V_lload (hk : OkF y own cc nL F L) {i : Nat} {x : Int64} (hd : decode cc pc = .ok (.lload i, 2)) (j : Nat) (hj : lc[j]? = some (i, .long x)) (kk : V y w lc (.long x :: st) (pc + 2) comp) : V y w lc st pc comp := V_same (fun r H locs ls hl k => lv_lload hk.1 hk.2.1 hd (lcv_at hl j hj) (k ls hl)) kk
theorem V_aload_n (hk : OkF y own cc nL F L) {k : Fin 4} {x : Option Nat} (hd : decode cc pc = .ok (.aload_n k, 1)) (j : Nat) (hj : lc[j]? = some ((k : Nat), va_rf x)) (kk : V y w lc (va_rf x :: st) (pc + 1) comp) : V y w lc st pc comp := by
  refine V_same (fun r H locs ls hl k => ?_) kk
  have h1 := lcv_at hl j hj
  have h2 := k ls hl
  cases x with
  | none => exact lv_aload_nN hk.1 hk.2.1 hd rfl h1 h2
  | some a => exact lv_aload_n hk.1 hk.2.1 hd rfl h1 h2
theorem V_aload (hk : OkF y own cc nL F L) {i : Nat} {x : Option Nat} (hd : decode cc pc = .ok (.aload i, 2)) (j : Nat) (hj : lc[j]? = some (i, va_rf x)) (kk : V y w lc (va_rf x :: st) (pc + 2) comp) : V y w lc st pc comp := by
  refine V_same (fun r H locs ls hl k => ?_) kk
  have h1 := lcv_at hl j hj
  have h2 := k ls hl
  cases x with
  | none => exact lv_aloadN hk.1 hk.2.1 hd h1 h2
  | some a => exact lv_aload hk.1 hk.2.1 hd h1 h2
theorem V_istore_n (hk : OkF y own cc nL F L) {k9 : Fin 4} {i : Nat} {x : Int32} {lc' : List (Nat × Value)} (hd : decode cc pc = .ok (.istore_n k9, 1)) (hi : (k9 : Nat) = i) (hn : i < nL) (hl : (i, Value.int x) :: lc.filter (fun q => !(q.1 == i) && !(q.1 + 1 == i && q.2.category == 2)) = lc') (kk : V y w lc' st (pc + 1) comp) : V y w lc (.int x :: st) pc comp := by
  subst hl
  exact V_same (fun r H locs ls hl k => lv_istore_n hk.1 hk.2.1 hd hi hl (by rw [hk.2.2.2.1]; exact hn) (by rw [lcv_filter1]; rfl) k) kk
theorem V_istore (hk : OkF y own cc nL F L) {i : Nat} {x : Int32} {lc' : List (Nat × Value)} (hd : decode cc pc = .ok (.istore i, 2)) (hn : i < nL) (hl : (i, Value.int x) :: lc.filter (fun q => !(q.1 == i) && !(q.1 + 1 == i && q.2.category == 2)) = lc') (kk : V y w lc' st (pc + 2) comp) : V y w lc (.int x :: st) pc comp := by
  subst hl
  exact V_same (fun r H locs ls hl k => lv_istore hk.1 hk.2.1 hd hl (by rw [hk.2.2.2.1]; exact hn) (by rw [lcv_filter1]; rfl) k) kk
theorem V_lstore_n (hk : OkF y own cc nL F L) {k9 : Fin 4} {i : Nat} {x : Int64} {lc' : List (Nat × Value)} (hd : decode cc pc = .ok (.lstore_n k9, 1)) (hi : (k9 : Nat) = i) (hn : i + 1 < nL) (hl : (i, Value.long x) :: lc.filter (fun q => !(q.1 == i) && (!(q.1 == i + 1) && !(q.1 + 1 == i && q.2.category == 2))) = lc') (kk : V y w lc' st (pc + 1) comp) : V y w lc (.long x :: st) pc comp := by
  subst hl
  exact V_same (fun r H locs ls hl k => lv_lstore_n hk.1 hk.2.1 hd hi hl (by rw [hk.2.2.2.1]; exact hn) (by rw [lcv_filter2]; rfl) k) kk
theorem V_lstore (hk : OkF y own cc nL F L) {i : Nat} {x : Int64} {lc' : List (Nat × Value)} (hd : decode cc pc = .ok (.lstore i, 2)) (hn : i + 1 < nL) (hl : (i, Value.long x) :: lc.filter (fun q => !(q.1 == i) && (!(q.1 == i + 1) && !(q.1 + 1 == i && q.2.category == 2))) = lc') (kk : V y w lc' st (pc + 2) comp) : V y w lc (.long x :: st) pc comp := by
  subst hl
  exact V_same (fun r H locs ls hl k => lv_lstore hk.1 hk.2.1 hd hl (by rw [hk.2.2.2.1]; exact hn) (by rw [lcv_filter2]; rfl) k) kk
theorem V_astore_n (hk : OkF y own cc nL F L) {k9 : Fin 4} {i : Nat} {x : Option Nat} {lc' : List (Nat × Value)} (hd : decode cc pc = .ok (.astore_n k9, 1)) (hi : (k9 : Nat) = i) (hn : i < nL) (hl : (i, va_rf x) :: lc.filter (fun q => !(q.1 == i) && !(q.1 + 1 == i && q.2.category == 2)) = lc') (kk : V y w lc' st (pc + 1) comp) : V y w lc (va_rf x :: st) pc comp := by
  subst hl
  refine V_same (fun r H locs ls hl k => ?_) kk
  cases x with
  | none => exact lv_astore_nN hk.1 hk.2.1 hd hi hl (by rw [hk.2.2.2.1]; exact hn) (by rw [lcv_filter1]; rfl) k
  | some a => exact lv_astore_n hk.1 hk.2.1 hd hi hl (by rw [hk.2.2.2.1]; exact hn) (by rw [lcv_filter1]; rfl) k
theorem V_astore (hk : OkF y own cc nL F L) {i : Nat} {x : Option Nat} {lc' : List (Nat × Value)} (hd : decode cc pc = .ok (.astore i, 2)) (hn : i < nL) (hl : (i, va_rf x) :: lc.filter (fun q => !(q.1 == i) && !(q.1 + 1 == i && q.2.category == 2)) = lc') (kk : V y w lc' st (pc + 2) comp) : V y w lc (va_rf x :: st) pc comp := by
  subst hl
  refine V_same (fun r H locs ls hl k => ?_) kk
  cases x with
  | none => exact lv_astoreN hk.1 hk.2.1 hd hl (by rw [hk.2.2.2.1]; exact hn) (by rw [lcv_filter1]; rfl) k
  | some a => exact lv_astore hk.1 hk.2.1 hd hl (by rw [hk.2.2.2.1]; exact hn) (by rw [lcv_filter1]; rfl) k
theorem V_iinc (hk : OkF y own cc nL F L) {i : Nat} {n : Int} {x v : Int32} {lc' : List (Nat × Value)} (hd : decode cc pc = .ok (.iinc i n, 3)) (j : Nat) (hj : lc[j]? = some (i, .int x)) (hv : Int32.ofInt n = v) (hn : i < nL) (hl : (i, Value.int (x + v)) :: lc.filter (fun q => !(q.1 == i) && !(q.1 + 1 == i && q.2.category == 2)) = lc') (kk : V y w lc' st (pc + 3) comp) : V y w lc st pc comp := by
  subst hl
  subst hv
  exact V_same (fun r H locs ls hl k => lv_iinc (k := j) hk.1 hk.2.1 hd hl (by rw [lcv, List.getElem?_map, hj]; rfl) rfl (by rw [hk.2.2.2.1]; exact hn) (by rw [lcv_filter1]; rfl) k) kk
theorem V_if_eq (hk : OkF y own cc nL F L) {x : Int32} {off : Int} {tgt : Nat} {a b : Option β} (hd : decode cc pc = .ok (.ifCond .eq off, 3)) (ht : (pc : Int) + off = (tgt : Int)) (ka : V y w lc st tgt a) (kb : V y w lc st (pc + 3) b) : V y w lc (.int x :: st) pc (if x = 0 then a else b) := V_same2 (fun r H locs ls hl ka kb => lv_if_eq hk.1 hk.2.1 hd ht ka kb) ka kb
theorem V_if_ne (hk : OkF y own cc nL F L) {x : Int32} {off : Int} {tgt : Nat} {a b : Option β} (hd : decode cc pc = .ok (.ifCond .ne off, 3)) (ht : (pc : Int) + off = (tgt : Int)) (ka : V y w lc st tgt a) (kb : V y w lc st (pc + 3) b) : V y w lc (.int x :: st) pc (if ¬ x = 0 then a else b) := V_same2 (fun r H locs ls hl ka kb => lv_if_ne hk.1 hk.2.1 hd ht ka (fun q => kb (fun z => z q))) ka kb
theorem V_if_lt (hk : OkF y own cc nL F L) {x : Int32} {off : Int} {tgt : Nat} {a b : Option β} (hd : decode cc pc = .ok (.ifCond .lt off, 3)) (ht : (pc : Int) + off = (tgt : Int)) (ka : V y w lc st tgt a) (kb : V y w lc st (pc + 3) b) : V y w lc (.int x :: st) pc (if x < 0 then a else b) := V_same2 (fun r H locs ls hl ka kb => lv_if_lt hk.1 hk.2.1 hd ht ka kb) ka kb
theorem V_if_ge (hk : OkF y own cc nL F L) {x : Int32} {off : Int} {tgt : Nat} {a b : Option β} (hd : decode cc pc = .ok (.ifCond .ge off, 3)) (ht : (pc : Int) + off = (tgt : Int)) (ka : V y w lc st tgt a) (kb : V y w lc st (pc + 3) b) : V y w lc (.int x :: st) pc (if 0 ≤ x then a else b) := V_same2 (fun r H locs ls hl ka kb => lv_if_ge hk.1 hk.2.1 hd ht ka kb) ka kb
theorem V_if_gt (hk : OkF y own cc nL F L) {x : Int32} {off : Int} {tgt : Nat} {a b : Option β} (hd : decode cc pc = .ok (.ifCond .gt off, 3)) (ht : (pc : Int) + off = (tgt : Int)) (ka : V y w lc st tgt a) (kb : V y w lc st (pc + 3) b) : V y w lc (.int x :: st) pc (if 0 < x then a else b) := V_same2 (fun r H locs ls hl ka kb => lv_if_gt hk.1 hk.2.1 hd ht ka kb) ka kb
theorem V_if_le (hk : OkF y own cc nL F L) {x : Int32} {off : Int} {tgt : Nat} {a b : Option β} (hd : decode cc pc = .ok (.ifCond .le off, 3)) (ht : (pc : Int) + off = (tgt : Int)) (ka : V y w lc st tgt a) (kb : V y w lc st (pc + 3) b) : V y w lc (.int x :: st) pc (if x ≤ 0 then a else b) := V_same2 (fun r H locs ls hl ka kb => lv_if_le hk.1 hk.2.1 hd ht ka kb) ka kb
theorem V_icmp_eq (hk : OkF y own cc nL F L) {x z : Int32} {off : Int} {tgt : Nat} {a b : Option β} (hd : decode cc pc = .ok (.if_icmp .eq off, 3)) (ht : (pc : Int) + off = (tgt : Int)) (ka : V y w lc st tgt a) (kb : V y w lc st (pc + 3) b) : V y w lc (.int z :: .int x :: st) pc (if x = z then a else b) := V_same2 (fun r H locs ls hl ka kb => lv_icmp_eq hk.1 hk.2.1 hd ht ka kb) ka kb
theorem V_icmp_ne (hk : OkF y own cc nL F L) {x z : Int32} {off : Int} {tgt : Nat} {a b : Option β} (hd : decode cc pc = .ok (.if_icmp .ne off, 3)) (ht : (pc : Int) + off = (tgt : Int)) (ka : V y w lc st tgt a) (kb : V y w lc st (pc + 3) b) : V y w lc (.int z :: .int x :: st) pc (if ¬ x = z then a else b) := V_same2 (fun r H locs ls hl ka kb => lv_icmp_ne hk.1 hk.2.1 hd ht ka (fun q => kb (fun z => z q))) ka kb
theorem V_icmp_lt (hk : OkF y own cc nL F L) {x z : Int32} {off : Int} {tgt : Nat} {a b : Option β} (hd : decode cc pc = .ok (.if_icmp .lt off, 3)) (ht : (pc : Int) + off = (tgt : Int)) (ka : V y w lc st tgt a) (kb : V y w lc st (pc + 3) b) : V y w lc (.int z :: .int x :: st) pc (if x < z then a else b) := V_same2 (fun r H locs ls hl ka kb => lv_icmp_lt hk.1 hk.2.1 hd ht ka kb) ka kb
theorem V_icmp_ge (hk : OkF y own cc nL F L) {x z : Int32} {off : Int} {tgt : Nat} {a b : Option β} (hd : decode cc pc = .ok (.if_icmp .ge off, 3)) (ht : (pc : Int) + off = (tgt : Int)) (ka : V y w lc st tgt a) (kb : V y w lc st (pc + 3) b) : V y w lc (.int z :: .int x :: st) pc (if z ≤ x then a else b) := V_same2 (fun r H locs ls hl ka kb => lv_icmp_ge hk.1 hk.2.1 hd ht ka kb) ka kb
theorem V_icmp_gt (hk : OkF y own cc nL F L) {x z : Int32} {off : Int} {tgt : Nat} {a b : Option β} (hd : decode cc pc = .ok (.if_icmp .gt off, 3)) (ht : (pc : Int) + off = (tgt : Int)) (ka : V y w lc st tgt a) (kb : V y w lc st (pc + 3) b) : V y w lc (.int z :: .int x :: st) pc (if z < x then a else b) := V_same2 (fun r H locs ls hl ka kb => lv_icmp_gt hk.1 hk.2.1 hd ht ka kb) ka kb
theorem V_icmp_le (hk : OkF y own cc nL F L) {x z : Int32} {off : Int} {tgt : Nat} {a b : Option β} (hd : decode cc pc = .ok (.if_icmp .le off, 3)) (ht : (pc : Int) + off = (tgt : Int)) (ka : V y w lc st tgt a) (kb : V y w lc st (pc + 3) b) : V y w lc (.int z :: .int x :: st) pc (if x ≤ z then a else b) := V_same2 (fun r H locs ls hl ka kb => lv_icmp_le hk.1 hk.2.1 hd ht ka kb) ka kb
theorem V_goto (hk : OkF y own cc nL F L) {off : Int} {tgt : Nat} (hd : decode cc pc = .ok (.goto off, 3)) (ht : (pc : Int) + off = (tgt : Int)) (kk : V y w lc st tgt comp) : V y w lc st pc comp := V_same (fun r H locs ls hl k => lv_goto hk.1 hk.2.1 hd ht (k ls hl)) kk
theorem V_ifnull (hk : OkF y own cc nL F L) {x : Option Nat} {off : Int} {tgt : Nat} {a b : Option β} (hd : decode cc pc = .ok (.ifnull off, 3)) (ht : (pc : Int) + off = (tgt : Int)) (ka : V y w lc st tgt a) (kb : V y w lc st (pc + 3) b) : V y w lc (va_rf x :: st) pc (if x = none then a else b) := by
  refine V_same2 (fun r H locs ls hl ka kb => ?_) ka kb
  cases x with
  | none => exact lv_ifnullN hk.1 hk.2.1 hd ht (ka rfl)
  | some q => exact lv_ifnull hk.1 hk.2.1 hd (kb (by simp))
theorem V_ifnonnull (hk : OkF y own cc nL F L) {x : Option Nat} {off : Int} {tgt : Nat} {a b : Option β} (hd : decode cc pc = .ok (.ifnonnull off, 3)) (ht : (pc : Int) + off = (tgt : Int)) (ka : V y w lc st tgt a) (kb : V y w lc st (pc + 3) b) : V y w lc (va_rf x :: st) pc (if ¬ x = none then a else b) := by
  refine V_same2 (fun r H locs ls hl ka kb => ?_) ka kb
  cases x with
  | none => exact lv_ifnonnullN hk.1 hk.2.1 hd (kb (by simp))
  | some q => exact lv_ifnonnull hk.1 hk.2.1 hd ht (ka (by simp))
theorem V_tblOut (hk : OkF y own cc nL F L) {x : Int32} {dflt lo hi : Int} {offs : Array Int} {len tgt : Nat} (hd : decode cc pc = .ok (.tableswitch dflt lo hi offs, len)) (h : x.toInt < lo ∨ hi < x.toInt) (ht : (pc : Int) + dflt = (tgt : Int)) (kk : V y w lc st tgt comp) : V y w lc (.int x :: st) pc comp := V_same (fun r H locs ls hl k => lv_tableOut hk.1 hk.2.1 hd h ht (k ls hl)) kk
theorem V_tblIn (hk : OkF y own cc nL F L) {x : Int32} {dflt lo hi off : Int} {offs : Array Int} {len tgt : Nat} (v : Int32) (hx : x = v) (hd : decode cc pc = .ok (.tableswitch dflt lo hi offs, len)) (h1 : ¬ v.toInt < lo) (h2 : ¬ hi < v.toInt) (ho : offs[(v.toInt - lo).toNat]? = some off) (ht : (pc : Int) + off = (tgt : Int)) (kk : V y w lc st tgt comp) : V y w lc (.int x :: st) pc comp := by
  subst hx
  exact V_same (fun r H locs ls hl k => lv_tableIn hk.1 hk.2.1 hd h1 h2 ho ht (k ls hl)) kk
theorem V_lookup (hk : OkF y own cc nL F L) {x : Int32} {dflt off : Int} {ps : Array (Int × Int)} {len tgt : Nat} (hd : decode cc pc = .ok (.lookupswitch dflt ps, len)) (hp : (ps.toList.zip (ps.toList.drop 1)).all (fun (a, next) => a.1 < next.1) = true) (ho : Op.lookupswitch.offset ps.toList dflt x.toInt = off) (ht : (pc : Int) + off = (tgt : Int)) (kk : V y w lc st tgt comp) : V y w lc (.int x :: st) pc comp := V_same (fun r H locs ls hl k => lv_lookup hk.1 hk.2.1 hd hp ho ht (k ls hl)) kk
end VR
