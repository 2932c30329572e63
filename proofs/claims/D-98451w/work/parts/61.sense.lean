/-! ===== what the laws of a text say: a code run on two stacks, and trees against it ===== -/
def cutF (a lo hi : Int32) : Int32 := if lo ≤ a then (if a ≤ hi then a else hi) else lo
def clipF (x : Int64) : Int64 := if lg_cmp x 1000000 ≤ 0 then (if 0 ≤ lg_cmp x (-1000000) then x else -1000000) else 1000000
def twoF (o : Int32) (x y : Int64) : Int64 := if o = 6 then clipF (x + y) else if o = 7 then clipF (x - y) else if o = 8 then clipF (x * y) else if ¬ lg_cmp y 0 = 0 then clipF (x / y) else 0
def askF (o : Int32) (x y : Int64) : Int32 :=
  if ¬ o = 10 then (if ¬ o = 11 then (if ¬ o = 12 then (if ¬ o = 13 then (if ¬ o = 14 then (if lg_cmp x y = 0 then 0 else 1) else (if ¬ lg_cmp x y = 0 then 0 else 1)) else (if lg_cmp x y < 0 then 0 else 1)) else (if lg_cmp x y ≤ 0 then 0 else 1)) else (if 0 < lg_cmp x y then 0 else 1)) else (if 0 ≤ lg_cmp x y then 0 else 1)
abbrev Sta : Type := List Int64 × List Int32
/-- one step of a code -/
def stp (nv : Nat → Int32) (ag : Nat → Nat → Int32) (o v : Int32) (st : Sta) : Option Sta :=
  if 2 < o then
    (if ¬ o = 3 then
      (if ¬ o = 4 then
        (if ¬ o = 5 then
          (if 10 ≤ o then
            (if 20 ≤ o then
              (if ¬ o = 20 then (match st.2 with
                | b :: a :: T => some (st.1, (if ¬ o = 21 then (if ¬ a = 0 then 1 else if b = 0 then 0 else 1) else (if a = 0 then 0 else if b = 0 then 0 else 1)) :: T)
                | _ => none)
              else (match st.2 with
                | a :: T => some (st.1, (if ¬ a = 0 then 0 else 1) :: T)
                | _ => none))
            else (match st.1 with
              | y :: x :: S => some (S, askF o x y :: st.2)
              | _ => none))
          else (match st.1 with
            | y :: x :: S => some (twoF o x y :: S, st.2)
            | _ => none))
        else (match st.1 with
          | x :: S => some ((if 0 ≤ lg_cmp x 0 then x else -x) :: S, st.2)
          | _ => none))
      else (match st.1 with
        | x :: S => some (-x :: S, st.2)
        | _ => none))
    else (match st.1, st.2 with
      | y :: x :: S, b :: T => some ((if ¬ b = 0 then x else y) :: S, T)
      | _, _ => none))
  else (if ¬ o = 0 then
      (if ¬ o = 1 then (if 10 ≤ v.toInt ∧ v.toInt ≤ 99 ∧ v.toInt.toNat % 10 < 5 then some ((ag (v.toInt.toNat / 10) (v.toInt.toNat % 10)).toInt64 :: st.1, st.2) else none)
      else (if 0 ≤ v.toInt ∧ v.toInt < 8 then some ((nv v.toInt.toNat).toInt64 :: st.1, st.2) else none))
    else some (v.toInt64 :: st.1, st.2))
abbrev Cod : Type := List (Int32 × Int32)
def runC (nv : Nat → Int32) (ag : Nat → Nat → Int32) : Cod → Sta → Option Sta
  | [], st => some st
  | p :: c, st => (stp nv ag p.1 p.2 st).bind (runC nv ag c)
theorem runC_app (nv : Nat → Int32) (ag : Nat → Nat → Int32) (c c' : Cod) (st : Sta) : runC nv ag (c ++ c') st = (runC nv ag c st).bind (runC nv ag c') := by
  induction c generalizing st with
  | nil => rfl
  | cons p c ih =>
    show (stp nv ag p.1 p.2 st).bind (runC nv ag (c ++ c')) = ((stp nv ag p.1 p.2 st).bind (runC nv ag c)).bind (runC nv ag c')
    cases stp nv ag p.1 p.2 st with
    | none => rfl
    | some s => exact ih s
theorem runC_1 (nv : Nat → Int32) (ag : Nat → Nat → Int32) (o v : Int32) (st : Sta) : runC nv ag [(o, v)] st = stp nv ag o v st := by
  show (stp nv ag o v st).bind (fun s => some s) = _
  cases stp nv ag o v st <;> rfl
/-- a stretch of the model's code: c steps from i on -/
def segL (tx : Nat → Int32) (b : Nat) : Nat → Nat → Cod
  | _, 0 => []
  | i, c + 1 => (tx (b + 2 * i), tx (b + 2 * i + 1)) :: segL tx b (i + 1) c
theorem segL_app (tx : Nat → Int32) (b : Nat) (i c c' : Nat) : segL tx b i (c + c') = segL tx b i c ++ segL tx b (i + c) c' := by
  induction c generalizing i with
  | zero => rw [Nat.zero_add]; rfl
  | succ c ih =>
    rw [show c + 1 + c' = (c + c') + 1 by omega]
    show _ :: segL tx b (i + 1) (c + c') = _ :: (segL tx b (i + 1) c ++ segL tx b (i + (c + 1)) c')
    rw [ih, show i + 1 + c = i + (c + 1) by omega]
theorem segL_congr {tx tx' : Nat → Int32} {b i c : Nat} (h : ∀ j, b + 2 * i ≤ j → j < b + 2 * (i + c) → tx' j = tx j) : segL tx' b i c = segL tx b i c := by
  induction c generalizing i with
  | zero => rfl
  | succ c ih =>
    show _ :: _ = _ :: _
    rw [h _ (by omega) (by omega), h (b + 2 * i + 1) (by omega) (by omega), ih (fun j h1 h2 => h j (by omega) (by omega))]
/-- the first clause of a sort, of q from k on -/
def fclA (tx : Nat → Int32) (b : Nat) (s : Int32) : Nat → Nat → Option Nat
  | 0, _ => none
  | q + 1, k => if tx (b + 1 + 6 * k) = s then some k else fclA tx b s q (k + 1)
def fcl (tx : Nat → Int32) (t : Nat) (s : Int32) : Option Nat := fclA tx (753 * t) s (tx (753 * t)).toInt.toNat 0
/-- of a text or none -/
def clsF (tx : Nat → Int32) (t s : Int32) : Option Nat := if t = -1 then none else fcl tx t.toInt.toNat s
def codF (tx : Nat → Int32) (t k : Nat) : Cod := segL tx (753 * t + 145) (tx (753 * t + 1 + 6 * k + 1)).toInt.toNat ((tx (753 * t + 1 + 6 * k + 2)).toInt.toNat - (tx (753 * t + 1 + 6 * k + 1)).toInt.toNat)
def clV (tx : Nat → Int32) (t k : Nat) (nv : Nat → Int32) (ag : Nat → Nat → Int32) : Int64 := match runC nv ag (codF tx t k) ([], []) with
  | some (v :: _, _) => v
  | _ => 0
/-- what a law says, within bounds -/
def sayF (tx : Nat → Int32) (t s wo lo hi : Int32) (nv : Nat → Int32) (ag : Nat → Nat → Int32) : Int32 := match clsF tx t s with
  | none => wo
  | some k => cutF (clV tx t.toInt.toNat k nv ag).toInt32 lo hi
/-- the command of a hand -/
def cmdF (tx : Nat → Int32) (t : Int32) (nv : Nat → Int32) (ag : Nat → Nat → Int32) : Int32 :=
  let v := match clsF tx t 2 with
    | none => nv 4
    | some k => (clV tx t.toInt.toNat k nv ag).toInt32
  if v ≤ 0 then (if 0 ≤ v then 0 else -1) else 1
/-- the names that a law of the sort k may name -/
def nmOk (k j : Nat) : Prop := (k < 3 ∧ j < 7) ∨ (k = 3 ∧ j = 7) ∨ (k = 4 ∧ 5 ≤ j ∧ j ≤ 7)
def kindOk (k : Nat) (N nv : Nat → Int32) (ag : Nat → Nat → Int32) : Prop := (∀ j, nmOk k j → N j = nv j ∧ bd (N j) (-1000000) 1000000) ∧ (k < 3 → ∀ q j, 1 ≤ q → q ≤ 9 → j < 5 → N (3 + 5 * q + j) = ag q j ∧ bd (N (3 + 5 * q + j)) (-1000000) 1000000)
def bdJ (v : Int64) : Prop := -1000000 ≤ v.toInt ∧ v.toInt ≤ 1000000
/-- no name of tenths gone by in a code -/
def noAgo (code : Cod) : Prop := ∀ x, x ∈ code → 2 < x.1 ∨ x.1 = 0 ∨ x.1 = 1
/-- the tree at r, of cells below m as they lie in d, says what the code says; e: its depth -/
def SumT (e k : Nat) (d : Nat → Option Cel) (m r : Nat) (code : Cod) : Prop := 554 ≤ r ∧ r < m ∧ (∃ ci fs, d r = some (.inr (ci, fs)) ∧ ci ∈ clSum ∧ (3 ≤ k → noAgo code)) ∧
  ∀ (e' : Nat) (μ : Mu) (z : Zt) (nv : Nat → Int32) (ag : Nat → Nat → Int32), e ≤ e' → (∀ q, q < m → z.2.2.1 q = d q) → kindOk k (μ 518) nv ag → ∃ v, bdJ v ∧ dSum (ev9 e').1 r (some 518) (E μ z) = some (v, E μ z) ∧ ∀ S T, runC nv ag code (S, T) = some (v :: S, T)
def AskT (e k : Nat) (d : Nat → Option Cel) (m r : Nat) (code : Cod) : Prop := 554 ≤ r ∧ r < m ∧ (∃ ci fs, d r = some (.inr (ci, fs)) ∧ ci ∈ clAsk ∧ (3 ≤ k → noAgo code)) ∧
  ∀ (e' : Nat) (μ : Mu) (z : Zt) (nv : Nat → Int32) (ag : Nat → Nat → Int32), e ≤ e' → (∀ q, q < m → z.2.2.1 q = d q) → kindOk k (μ 518) nv ag → ∃ b : Int32, (b = 0 ∨ b = 1) ∧ dAsk (ev9 e').2 r (some 518) (E μ z) = some (b, E μ z) ∧ ∀ S T, runC nv ag code (S, T) = some (S, b :: T)
theorem SumT.ext {e k : Nat} {d d' : Nat → Option Cel} {m m' r : Nat} {code : Cod} (hm : m ≤ m') (hd : ∀ q, q < m → d' q = d q) (h : SumT e k d m r code) : SumT e k d' m' r code := by
  obtain ⟨h0, h1, ⟨ci, fs, h2, h3⟩, h4⟩ := h
  exact ⟨h0, by omega, ⟨ci, fs, by rw [hd r h1]; exact h2, h3⟩, fun e' μ z nv ag he hz hk => h4 e' μ z nv ag he (fun q hq => (hz q (by omega)).trans (hd q hq)) hk⟩
theorem AskT.ext {e k : Nat} {d d' : Nat → Option Cel} {m m' r : Nat} {code : Cod} (hm : m ≤ m') (hd : ∀ q, q < m → d' q = d q) (h : AskT e k d m r code) : AskT e k d' m' r code := by
  obtain ⟨h0, h1, ⟨ci, fs, h2, h3⟩, h4⟩ := h
  exact ⟨h0, by omega, ⟨ci, fs, by rw [hd r h1]; exact h2, h3⟩, fun e' μ z nv ag he hz hk => h4 e' μ z nv ag he (fun q hq => (hz q (by omega)).trans (hd q hq)) hk⟩
theorem SumT.deep {e e' k : Nat} {d : Nat → Option Cel} {m r : Nat} {code : Cod} (he : e ≤ e') (h : SumT e k d m r code) : SumT e' k d m r code :=
  ⟨h.1, h.2.1, h.2.2.1, fun e2 μ z nv ag h2 => h.2.2.2 e2 μ z nv ag (Nat.le_trans he h2)⟩
theorem AskT.deep {e e' k : Nat} {d : Nat → Option Cel} {m r : Nat} {code : Cod} (he : e ≤ e') (h : AskT e k d m r code) : AskT e' k d m r code :=
  ⟨h.1, h.2.1, h.2.2.1, fun e2 μ z nv ag h2 => h.2.2.2 e2 μ z nv ag (Nat.le_trans he h2)⟩
/-- the law of the sort s of a text: its tree and its clause, or neither -/
def LawT (d : Nat → Option Cel) (m : Nat) (f : Nat → Option Nat) (tx : Nat → Int32) (t s : Nat) : Prop :=
  (f s = none ∧ fcl tx t (Int32.ofNat s) = none) ∨ ∃ r k : Nat, f s = some r ∧ fcl tx t (Int32.ofNat s) = some k ∧ k < 24 ∧ (∃ x1 x2 : Nat, (tx (753 * t + 1 + 6 * k + 1)).toInt = (x1 : Int) ∧ (tx (753 * t + 1 + 6 * k + 2)).toInt = (x2 : Int) ∧ x1 ≤ x2 ∧ x2 ≤ 302) ∧ SumT EVD s d m r (codF tx t k)
/-- a list of the JDK's: its content -/
def LstT (d : Nat → Option Cel) (m l : Nat) (n : Nat) (f : Nat → Option Nat) : Prop := ∃ (mc : Int32) (la len : Nat), (l < 400 ∨ 554 ≤ l) ∧ (la < 400 ∨ 554 ≤ la) ∧ l < m ∧ la < m ∧ n ≤ len ∧ len < 1000 ∧ d l = some (.inr (16, [.int mc, .ref la, .int (Int32.ofNat n)])) ∧ d la = some (.inl (.object "java/lang/Object", len, .inr (.inr (.inr (.inr f)))))
/-- the doings of a text against its clauses: g k doings ahead of the clause k -/
def DoiT (d : Nat → Option Cel) (m l : Nat) (tx : Nat → Int32) (t nc : Nat) : Prop := ∃ (g : Nat → Nat) (f : Nat → Option Nat), LstT d m l (g nc) f ∧ g 0 = 0 ∧ ∀ k, k < nc → bd (tx (753 * t + 1 + 6 * k)) 0 11 ∧
  ((tx (753 * t + 1 + 6 * k)).toInt < 5 → g (k + 1) = g k) ∧ (5 ≤ (tx (753 * t + 1 + 6 * k)).toInt → g (k + 1) = g k + 1 ∧ ∃ (q : Nat) (a b c e h : Int32), f (g k) = some q ∧ 554 ≤ q ∧ q < m ∧ d q = some (.inr (15, [.int (200 + tx (753 * t + 1 + 6 * k)), .int a, .int b, .int c, .int e, .int h, .int (Int32.ofNat k)])) ∧
    ((tx (753 * t + 1 + 6 * k)).toInt ≤ 10 → a = tx (753 * t + 1 + 6 * k + 1)) ∧ ((tx (753 * t + 1 + 6 * k)).toInt = 5 → b = tx (753 * t + 1 + 6 * k + 2) ∧ c = tx (753 * t + 1 + 6 * k + 3) ∧ e = tx (753 * t + 1 + 6 * k + 4) ∧ h = tx (753 * t + 1 + 6 * k + 5)) ∧
    ((tx (753 * t + 1 + 6 * k)).toInt = 6 → bd a (-1) 1) ∧ ((tx (753 * t + 1 + 6 * k)).toInt = 7 → bd a 1 60) ∧ ((tx (753 * t + 1 + 6 * k)).toInt = 10 → bd a 0 7))
/-- one text: of the dynamic cells below m, its label, the model's texts, its number -/
def TT (d : Nat → Option Cel) (m y : Nat) (tx : Nat → Int32) (t : Nat) : Prop := 554 ≤ y ∧ y < m ∧ ∃ (la dl : Nat) (cl : Int32) (f : Nat → Option Nat) (nc : Nat), d y = some (.inr (4, [.ref la, .int cl, .ref dl])) ∧ 554 ≤ la ∧ la < m ∧ d la = some (.inl (.object "HookSwings$Sum", 5, .inr (.inr (.inr (.inr f))))) ∧
  (tx (753 * t)).toInt = (nc : Int) ∧ nc ≤ 24 ∧ (∀ s, s < 5 → LawT d m f tx t s) ∧ DoiT d m dl tx t nc
theorem LawT.ext {d d' : Nat → Option Cel} {m m' : Nat} {f : Nat → Option Nat} {tx : Nat → Int32} {t s : Nat} (hm : m ≤ m') (hd : ∀ q, q < m → d' q = d q) (h : LawT d m f tx t s) : LawT d' m' f tx t s := by
  rcases h with h | ⟨r, k, h1, h2, h3, h4, h5⟩
  · exact Or.inl h
  · exact Or.inr ⟨r, k, h1, h2, h3, h4, h5.ext hm hd⟩
theorem LstT.ext {d d' : Nat → Option Cel} {m m' l n : Nat} {f : Nat → Option Nat} (hm : m ≤ m') (hd : ∀ q, q < m → d' q = d q) (h : LstT d m l n f) : LstT d' m' l n f := by
  obtain ⟨mc, la, len, h1, h2, h3, h4, h5, h6, h7, h8⟩ := h
  exact ⟨mc, la, len, h1, h2, by omega, by omega, h5, h6, by rw [hd _ h3]; exact h7, by rw [hd _ h4]; exact h8⟩
theorem TT.ext {d d' : Nat → Option Cel} {m m' y : Nat} {tx : Nat → Int32} {t : Nat} (hm : m ≤ m') (hd : ∀ q, q < m → d' q = d q) (h : TT d m y tx t) : TT d' m' y tx t := by
  obtain ⟨h1, h2, la, dl, cl, f, nc, h3, h4, h5, h6, h7, h8, h9, g, f2, h10, h11, h12⟩ := h
  refine ⟨h1, by omega, la, dl, cl, f, nc, by rw [hd _ h2]; exact h3, h4, by omega, by rw [hd _ h5]; exact h6, h7, h8, fun s hs => (h9 s hs).ext hm hd, g, f2, h10.ext hm hd, h11, fun k hk => ?_⟩
  obtain ⟨a1, a2, a3⟩ := h12 k hk
  refine ⟨a1, a2, fun a4 => ?_⟩
  obtain ⟨a5, q, a, b, c, e, h, b1, b2, b3, b4, b5⟩ := a3 a4
  exact ⟨a5, q, a, b, c, e, h, b1, b2, by omega, by rw [hd _ b3]; exact b4, b5⟩
/-- the codes of one law say the same under names that agree where it may name them -/
theorem SumT.val {e k : Nat} {d : Nat → Option Cel} {m r : Nat} {code : Cod} {N nv nv' : Nat → Int32} {ag ag' : Nat → Nat → Int32} {z : Zt} (h : SumT e k d m r code) (hz : ∀ q, q < m → z.2.2.1 q = d q) (h1 : kindOk k N nv ag) (h2 : kindOk k N nv' ag') : ∀ S T, runC nv ag code (S, T) = runC nv' ag' code (S, T) := by
  obtain ⟨v, -, a1, a2⟩ := h.2.2.2 e (fun _ => N) z nv ag (Nat.le_refl _) hz h1
  obtain ⟨v', -, b1, b2⟩ := h.2.2.2 e (fun _ => N) z nv' ag' (Nat.le_refl _) hz h2
  rw [a1] at b1
  have : v = v' := by
    have := Option.some.inj b1
    exact congrArg Prod.fst this
  intro S T
  rw [a2, b2, this]
