/-! THE SYSTEM's catalogue as functions of its state, in the code's own order -/
set_option maxRecDepth 100000
theorem rA_id (r : RS) (j : Nat) : rA r j (r.1 j) = r := by
  unfold rA
  refine Prod.ext ?_ rfl
  funext i
  show va_up r.1 j (r.1 j) i = r.1 i
  by_cases h : i = j
  · subst h
    rw [va_up_self]
  · rw [va_up_ne _ _ h]
theorem kSet_id {κ : KS} {k : Nat} {r : RS} (hk : κ.1 k = some r) : kSet κ k r = κ := by
  unfold kSet
  refine Prod.ext ?_ rfl
  funext i
  show va_up κ.1 k (some r) i = κ.1 i
  by_cases h : i = k
  · subst h
    rw [va_up_self, hk]
  · rw [va_up_ne _ _ h]
/-- a record's keys, where there is none, are taken from O -/
def fKs (O : Nat → Int32) (i : Nat) (r : RS) : RS := rA r 1 (upd (r.1 1) i (if r.1 1 i = -1 then O i else r.1 1 i))
def fKr (O : Nat → Int32) : Nat → RS → RS
  | 0, r => r
  | i + 1, r => fKs O i (fKr O i r)
def fill (O : Nat → Int32) (r : RS) : RS := fKr O 3 r
def rPut (r : RS) (n : Nat) (v t : Int32) : RS := rA (rA r 2 (upd (r.1 2) n v)) 3 (upd (r.1 3) n t)
/-- the only record with a key -/
def kFn (κ : KS) (q : Nat) (v : Int32) : Nat → Int32
  | 0 => -1
  | n + 1 => match κ.1 n with
    | none => kFn κ q v n
    | some r => if r.1 1 q = v then (if kFn κ q v n = -1 then nI n else -2) else kFn κ q v n
def kFd (κ : KS) (q : Nat) (v : Int32) : Int32 := if v = -1 then -1 else kFn κ q v 80
/-- x: the loader's state (ranks 0, rules 1, order 2) -/
def kMt (κ : KS) (x : MS) (O : Nat → Int32) : Nat → Int32
  | 0 => -1
  | n + 1 => if kMt κ x O n = -1 then kFd κ (tN (x.2 2 n)) (O (tN (x.2 2 n))) else kMt κ x O n
def kRep (x : MS) (r : RS) (f : Nat) (t : Int32) : Int32 := if r.1 2 f = -1 then 1 else if x.2 1 f = 2 then 1 else if x.2 1 f = 1 then (if x.2 0 (tN t) < x.2 0 (tN (r.1 3 f)) then 0 else 1) else 0
def lFs (x : MS) (F : Nat → Int32) (t : Int32) (i : Nat) (r : RS) : RS := if F i = -1 then r else if r.1 4 i = 0 then (if kRep x r i t = 0 then r else rPut r i (F i) t) else r
def lFn (x : MS) (F : Nat → Int32) (t : Int32) : Nat → RS → RS
  | 0, r => r
  | i + 1, r => lFs x F t i (lFn x F t i r)
def kLay (x : MS) (O F : Nat → Int32) (t : Int32) (r : RS) : RS := lFn x F t 4 (fill O r)
def r3 : Nat → Int32 := upd (upd (upd (fun _ => 0) 0 (-1)) 1 (-1)) 2 (-1)
def r4 : Nat → Int32 := upd (upd (upd (upd (fun _ => 0) 0 (-1)) 1 (-1)) 2 (-1)) 3 (-1)
/-- a new record -/
def rNew : RS := (fun j => if j = 1 then r3 else if j = 4 then (fun _ => 0) else r4, 0)
def kCnt (κ : KS) : Nat → Int32
  | 0 => 0
  | n + 1 => kCnt κ n + (match κ.1 n with
    | none => 0
    | some _ => 1)
abbrev mx0 (v : Int32) : Int32 := if 0 < v then v else 0
def rVk (r : RS) : Nat → Int32
  | 0 => 0
  | i + 1 => rVk r i + mx0 (r.1 1 i)
def rVf (r : RS) : Nat → Int32
  | 0 => rVk r 3
  | i + 1 => rVf r i + mx0 (r.1 2 i)
def kSum (κ : KS) : Nat → Int32
  | 0 => 0
  | n + 1 => match κ.1 n with
    | none => kSum κ n
    | some r => kSum κ n + (rVf r 4 * nI (n + 1) + r.2)
abbrev kHas (κ : KS) (x : Int32) : Prop := ¬ x < 0 ∧ ¬ 80 ≤ x ∧ (κ.1 (tN x)).isSome = true
def kZero : KS := (fun _ => none, fun _ => 0)
/-- a load is done: its number n, batch b, source t, keys O, fields F -/
def kLoad (x : MS) (n : Nat) (b t : Int32) (O F : Nat → Int32) (κ : KS) : KS :=
  if x.2 5 (tN b) = 0 then
    (if kMt κ x O 3 = -1 then kH (kSet κ n (kLay x O F t rNew)) n (nI n)
     else if kMt κ x O 3 = -2 then kH κ n (kMt κ x O 3)
     else match κ.1 (tN (kMt κ x O 3)) with
       | none => κ
       | some r => kH (kSet κ (tN (kMt κ x O 3)) (kLay x O F t r)) n (kMt κ x O 3))
  else kH κ n (-1)
def kProt (n : Nat) (f : Nat) (z : Int32) (κ : KS) : KS := match κ.1 n with
  | none => κ
  | some r => kSet κ n (rA r 4 (upd (r.1 4) f z))
def kHold (n : Nat) (κ : KS) : KS := match κ.1 n with
  | none => κ
  | some r => kSet κ n (rV r (r.2 + 1))
def gFs (ra : RS) (i : Nat) (r : RS) : RS := if r.1 2 i = -1 then (if ra.1 2 i = -1 then r else rPut r i (ra.1 2 i) (ra.1 3 i)) else r
def gFn (ra : RS) : Nat → RS → RS
  | 0, r => r
  | i + 1, r => gFs ra i (gFn ra i r)
def kJoin (a b : Nat) (κ : KS) : KS := match κ.1 a with
  | none => κ
  | some ra => match κ.1 b with
    | none => κ
    | some rb => kDel (kSet κ b (gFn ra 4 (fill (ra.1 1) (rV rb (rb.2 + ra.2))))) a
theorem kFn_range (κ : KS) (q : Nat) (v : Int32) : ∀ n, n ≤ 80 → kFn κ q v n = -1 ∨ kFn κ q v n = -2 ∨ ∃ j r, j < 80 ∧ κ.1 j = some r ∧ kFn κ q v n = nI j := by
  intro n
  induction n with
  | zero => exact fun _ => Or.inl rfl
  | succ n ih =>
    intro hn
    unfold kFn
    cases hk : κ.1 n with
    | none => exact ih (by omega)
    | some r =>
      dsimp only
      split
      · split
        · exact Or.inr (Or.inr ⟨n, r, by omega, hk, rfl⟩)
        · exact Or.inr (Or.inl rfl)
      · exact ih (by omega)
theorem kMt_range (κ : KS) (x : MS) (O : Nat → Int32) : ∀ n, kMt κ x O n = -1 ∨ kMt κ x O n = -2 ∨ ∃ j r, j < 80 ∧ κ.1 j = some r ∧ kMt κ x O n = nI j := by
  intro n
  induction n with
  | zero => exact Or.inl rfl
  | succ n ih =>
    unfold kMt
    split
    · unfold kFd
      split
      · exact Or.inl rfl
      · exact kFn_range κ _ _ 80 (Nat.le_refl _)
    · exact ih
theorem kMt_st {κ : KS} {x : MS} {O : Nat → Int32} {n : Nat} (h : ¬ kMt κ x O n = -1) : ∀ m, kMt κ x O (n + m) = kMt κ x O n := by
  intro m
  induction m with
  | zero => rfl
  | succ m ih =>
    show (if kMt κ x O (n + m) = -1 then _ else kMt κ x O (n + m)) = _
    rw [ih, if_neg h]
