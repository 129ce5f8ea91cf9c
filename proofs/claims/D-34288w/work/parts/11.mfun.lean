/-! THE REFERENCE as functions of its state, method by method, in the code's own order -/
set_option maxRecDepth 100000
abbrev inR (x a b : Int32) : Prop := a ≤ x ∧ x ≤ b
theorem inR_in {x y : Int32} {n : Nat} (h : inR x 0 y) (hn : n < 1000) (hy : y = nI n) : vp_in x (n + 1) := by
  subst hy
  rw [vp_in_iff]
  obtain ⟨h1, h2⟩ := h
  rw [Int32.le_iff_toInt_le, Int32.toInt_zero] at h1
  rw [Int32.le_iff_toInt_le, nI_toInt (by omega)] at h2
  omega
theorem vp_nat {x : Int32} {n : Nat} (h : vp_in x n) (hn : n < 1000) : x = nI (tN x) ∧ tN x < n := by
  obtain ⟨j, hj, rfl⟩ := vp_in_of h (by omega)
  rw [show tN (nI j) = j from nI_clamp (by omega)]
  exact ⟨rfl, hj⟩
theorem tN_nI {n : Nat} (h : n < 2 ^ 31) : tN (nI n) = n := nI_clamp h
theorem inR_b {x : Int32} {b n : Nat} (h : inR x 0 (nI b - 1)) (hb : b ≤ n) (hn : n < 1000) : vp_in x n ∧ tN x < b := by
  obtain ⟨h1, h2⟩ := h
  cases b with
  | zero =>
    have h3 : (0 : Int32) ≤ nI 0 - 1 := Int32.le_trans h1 h2
    exact absurd h3 (by decide)
  | succ k =>
    rw [nI_pred] at h2
    have h3 := inR_in ⟨h1, h2⟩ (by omega) rfl
    have h4 := vp_nat h3 (by omega)
    refine ⟨?_, h4.2⟩
    rw [h4.1]
    exact vp_in_nI (by omega) (by omega)
def mD1 : Nat → MS → MS
  | 0, σ => σ
  | n + 1, σ => sU (mD1 n σ) 3 n (-1)
def mD2 : Nat → MS → MS
  | 0, σ => σ
  | n + 1, σ => sU (mD2 n σ) 4 n (-1)
def mDraft (σ : MS) : MS := mD2 4 (mD1 3 σ)
def mI1 : Nat → MS → MS
  | 0, σ => σ
  | n + 1, σ => sU (mI1 n σ) 0 n (nI n)
def mI2 : Nat → MS → MS
  | 0, σ => σ
  | n + 1, σ => sU (mI2 n σ) 1 n 1
def mI3 : Nat → MS → MS
  | 0, σ => σ
  | n + 1, σ => sU (mI3 n σ) 2 n (nI n)
def mInit (σ : MS) : MS := mDraft (mI3 3 (mI2 4 (mI1 5 σ)))
def mSetRank (σ : MS) (a b : Int32) : Int32 × MS := if inR a 0 4 then (if inR b 0 9 then (if σ.1 7 ≤ 0 then (σ.2 0 (tN a), sU (sS σ 24 0) 0 (tN a) b) else (0, sS σ 24 3)) else (0, sS σ 24 2)) else (0, sS σ 24 1)
def mSetRule (σ : MS) (a b : Int32) : Int32 × MS := if inR a 0 3 then (if inR b 0 2 then (if σ.1 7 ≤ 0 then (σ.2 1 (tN a), sU (sS σ 24 0) 1 (tN a) b) else (0, sS σ 24 3)) else (0, sS σ 24 2)) else (0, sS σ 24 1)
abbrev okO (a b d : Int32) : Prop := inR a 0 2 ∧ inR b 0 2 ∧ inR d 0 2 ∧ ¬ a = b ∧ ¬ a = d ∧ ¬ b = d
def mSetOrder (σ : MS) (a b d : Int32) : MS := if okO a b d then (if σ.1 7 ≤ 0 then sU (sU (sU (sS σ 24 0) 2 0 a) 2 1 b) 2 2 d else sS σ 24 2) else sS σ 24 1
def mMK (n : Nat) : Nat → MS → MS
  | 0, σ => σ
  | k + 1, σ => sU (mMK n k σ) 19 (3 * n + k) ((mMK n k σ).2 10 (3 * n + k))
def mMFs (n k : Nat) (σ : MS) : MS := sU (sU (sU σ 20 (4 * n + k) (σ.2 11 (4 * n + k))) 21 (4 * n + k) (if σ.2 11 (4 * n + k) = -1 then -1 else σ.2 9 n)) 22 (4 * n + k) 0
def mMF (n : Nat) : Nat → MS → MS
  | 0, σ => σ
  | k + 1, σ => mMFs n k (mMF n k σ)
def mMake (σ : MS) (n : Nat) : MS := mMF n 4 (mMK n 3 (sU (sU σ 18 n 1) 23 n 0))
def mLKs (n r k : Nat) (σ : MS) : MS := sU σ 19 (3 * r + k) (if σ.2 19 (3 * r + k) = -1 then σ.2 10 (3 * n + k) else σ.2 19 (3 * r + k))
def mLK (n r : Nat) : Nat → MS → MS
  | 0, σ => σ
  | k + 1, σ => mLKs n r k (mLK n r k σ)
def mComes (n r k : Nat) (σ : MS) : Int32 := if σ.2 1 k = 2 then 1 else if σ.2 1 k = 1 then (if σ.2 21 (4 * r + k) = -1 then 1 else if σ.2 0 (tN (σ.2 9 n)) < σ.2 0 (tN (σ.2 21 (4 * r + k))) then 0 else 1) else 0
def mLFu (n r k : Nat) (σ : MS) : MS := sU (sU σ 20 (4 * r + k) (σ.2 11 (4 * n + k))) 21 (4 * r + k) (σ.2 9 n)
def mLFs (n r k : Nat) (σ : MS) : MS := if σ.2 11 (4 * n + k) = -1 then σ else if σ.2 22 (4 * r + k) = 0 then (if σ.2 20 (4 * r + k) = -1 then mLFu n r k σ else if mComes n r k σ = 0 then σ else mLFu n r k σ) else σ
def mLF (n r : Nat) : Nat → MS → MS
  | 0, σ => σ
  | k + 1, σ => mLFs n r k (mLF n r k σ)
def mLay (σ : MS) (n r : Nat) : MS := mLF n r 4 (mLK n r 3 σ)
/-- how many records ahead of n have the value v at key q, and the last of them -/
def mFn (σ : MS) (q : Nat) (v : Int32) : Nat → Int32 × Int32
  | 0 => (0, -1)
  | n + 1 => if σ.2 18 n = 0 then mFn σ q v n else if σ.2 19 (3 * n + q) = v then ((mFn σ q v n).1 + 1, nI n) else mFn σ q v n
def mFd (σ : MS) (q : Nat) (v : Int32) : Int32 × Int32 := if v = -1 then (0, -1) else mFn σ q v 80
/-- the search from key k on, f keys left -/
def mMt (σ : MS) (n : Nat) : Nat → Nat → Int32
  | _, 0 => -1
  | k, f + 1 => if (mFd σ (tN (σ.2 2 k)) (σ.2 10 (3 * n + tN (σ.2 2 k)))).1 ≤ 0 then mMt σ n (k + 1) f else if (mFd σ (tN (σ.2 2 k)) (σ.2 10 (3 * n + tN (σ.2 2 k)))).1 = 1 then (mFd σ (tN (σ.2 2 k)) (σ.2 10 (3 * n + tN (σ.2 2 k)))).2 else -2
def mMatch (σ : MS) (n : Nat) : Int32 := mMt σ n 0 3
theorem mFn_range (σ : MS) (q : Nat) (v : Int32) : ∀ n, n ≤ 80 → (mFn σ q v n).2 = -1 ∨ ∃ j, j < 80 ∧ (mFn σ q v n).2 = nI j := by
  intro n
  induction n with
  | zero => exact fun _ => Or.inl rfl
  | succ n ih =>
    intro hn
    unfold mFn
    split
    · exact ih (by omega)
    · split
      · exact Or.inr ⟨n, by omega, rfl⟩
      · exact ih (by omega)
theorem mMt_range (σ : MS) (n : Nat) : ∀ f k, mMt σ n k f = -1 ∨ mMt σ n k f = -2 ∨ ∃ j, j < 80 ∧ mMt σ n k f = nI j := by
  intro f
  induction f with
  | zero => exact fun _ => Or.inl rfl
  | succ f ih =>
    intro k
    unfold mMt
    split
    · exact ih (k + 1)
    · split
      · unfold mFd
        split
        · exact Or.inl rfl
        · rcases mFn_range σ (tN (σ.2 2 k)) (σ.2 10 (3 * n + tN (σ.2 2 k))) 80 (Nat.le_refl _) with h | ⟨j, h1, h2⟩
          · exact Or.inl h
          · exact Or.inr (Or.inr ⟨j, h1, h2⟩)
      · exact Or.inr (Or.inl rfl)
def mDoLoad (σ : MS) (n : Nat) : MS := if σ.2 6 (tN (σ.2 8 n)) = 0 then (if mMatch σ n = -1 then sU (mMake σ n) 12 n (nI n) else if mMatch σ n = -2 then sU σ 12 n (mMatch σ n) else mLay (sU σ 12 n (mMatch σ n)) n (tN (mMatch σ n))) else sU σ 12 n (-1)
def mGKs (a b k : Nat) (σ : MS) : MS := sU σ 19 (3 * b + k) (if σ.2 19 (3 * b + k) = -1 then σ.2 19 (3 * a + k) else σ.2 19 (3 * b + k))
def mGK (a b : Nat) : Nat → MS → MS
  | 0, σ => σ
  | k + 1, σ => mGKs a b k (mGK a b k σ)
def mGFs (a b k : Nat) (σ : MS) : MS := if σ.2 20 (4 * b + k) = -1 then sU (sU σ 20 (4 * b + k) (σ.2 20 (4 * a + k))) 21 (4 * b + k) (σ.2 21 (4 * a + k)) else σ
def mGF (a b : Nat) : Nat → MS → MS
  | 0, σ => σ
  | k + 1, σ => mGFs a b k (mGF a b k σ)
def mMerge (σ : MS) (a b : Nat) : MS := sU (mGF a b 4 (mGK a b 3 (sU σ 23 b (σ.2 23 b + σ.2 23 a)))) 18 a 0
def mPerf (σ : MS) (t : Nat) : MS := if σ.2 15 t = 0 then mDoLoad σ (tN (σ.2 16 t)) else if σ.2 18 (tN (σ.2 16 t)) = 0 then σ else if σ.2 15 t = 3 then sU σ 23 (tN (σ.2 16 t)) (σ.2 23 (tN (σ.2 16 t)) + 1) else if σ.2 15 t = 4 then (if σ.2 18 (tN (σ.2 17 t)) = 0 then σ else mMerge σ (tN (σ.2 16 t)) (tN (σ.2 17 t))) else sU σ 22 (4 * tN (σ.2 16 t) + tN (σ.2 17 t)) (if σ.2 15 t = 1 then 1 else 0)
/-- what is put down of a new deed at the place d -/
def mNote (σ : MS) (d : Nat) (k a b : Int32) : MS := sS (sU (sU (sU σ 15 d k) 16 d a) 17 d b) 14 (nI (d + 1))
def mAdd (σ : MS) (d : Nat) (k a b : Int32) : MS := mPerf (mNote σ d k a b) d
def mNo : Nat → MS → MS
  | 0, σ => σ
  | n + 1, σ => sU (mNo n σ) 18 n 0
def mRun : Nat → MS → MS
  | 0, σ => σ
  | n + 1, σ => mPerf (mRun n σ) n
def mAnew (σ : MS) (d : Nat) : MS := mRun d (mNo 80 σ)
def mBegin (σ : MS) (b : Nat) : Int32 × MS := if σ.1 5 = 10 then (0, sS σ 24 1) else (nI b, sS (sU (sS σ 24 0) 6 b 0) 5 (nI (b + 1)))
def mKey (σ : MS) (a b : Int32) : Int32 × MS := if inR a 0 2 then (if inR b (-1) 49 then (σ.2 3 (tN a), sU (sS σ 24 0) 3 (tN a) b) else (0, sS σ 24 2)) else (0, sS σ 24 1)
def mField (σ : MS) (a b : Int32) : Int32 × MS := if inR a 0 3 then (if inR b (-1) 99 then (σ.2 4 (tN a), sU (sS σ 24 0) 4 (tN a) b) else (0, sS σ 24 2)) else (0, sS σ 24 1)
def mP1 (n : Nat) : Nat → MS → MS
  | 0, σ => σ
  | k + 1, σ => sU (mP1 n k σ) 10 (3 * n + k) ((mP1 n k σ).2 3 k)
def mP2 (n : Nat) : Nat → MS → MS
  | 0, σ => σ
  | k + 1, σ => sU (mP2 n k σ) 11 (4 * n + k) ((mP2 n k σ).2 4 k)
/-- the load put down -/
def mPut (σ : MS) (s : Int32) (n b : Nat) : MS := mDraft (mP2 n 4 (mP1 n 3 (sU (sU (sS (sS σ 24 0) 7 (nI (n + 1))) 8 n (nI (b - 1))) 9 n s)))
def mLoad (σ : MS) (s : Int32) (n b d : Nat) : Int32 × MS := if inR s 0 4 then (if σ.1 5 = 0 then (0, sS σ 24 2) else if σ.1 7 = 80 then (0, sS σ 24 2) else ((mAdd (mPut σ s n b) d 0 (nI n) 0).2 12 n, mAdd (mPut σ s n b) d 0 (nI n) 0)) else (0, sS σ 24 1)
abbrev mRec (σ : MS) (x : Int32) : Prop := inR x 0 79 ∧ ¬ σ.2 18 (tN x) = 0
def mProtect (σ : MS) (r f z : Int32) (d : Nat) : Int32 × MS := if mRec σ r then (if inR f 0 3 then (if σ.1 13 = 100 then (0, sS σ 24 2) else (σ.2 22 (4 * tN r + tN f), mAdd (sS (sS σ 24 0) 13 (σ.1 13 + 1)) d (if z = 0 then 2 else 1) r f)) else (0, sS σ 24 1)) else (0, sS σ 24 1)
def mHold (σ : MS) (r : Int32) (d : Nat) : Int32 × MS := if mRec σ r then (if σ.1 13 = 100 then (0, sS σ 24 2) else ((mAdd (sS (sS σ 24 0) 13 (σ.1 13 + 1)) d 3 r 0).2 23 (tN r), mAdd (sS (sS σ 24 0) 13 (σ.1 13 + 1)) d 3 r 0)) else (0, sS σ 24 1)
def mJoin (σ : MS) (r o : Int32) (d : Nat) : Int32 × MS := if mRec σ r then (if mRec σ o then (if r = o then (0, sS σ 24 2) else if σ.1 13 = 100 then (0, sS σ 24 3) else ((mAdd (sS (sS σ 24 0) 13 (σ.1 13 + 1)) d 4 r o).2 23 (tN o), mAdd (sS (sS σ 24 0) 13 (σ.1 13 + 1)) d 4 r o)) else (0, sS σ 24 1)) else (0, sS σ 24 1)
def mMany (σ : MS) : Nat → Int32
  | 0 => 0
  | n + 1 => mMany σ n + (if σ.2 18 n = 0 then 0 else 1)
def mUndo (σ : MS) (b z : Int32) (d : Nat) : Int32 × MS := if inR b 0 (σ.1 5 - 1) then (if σ.2 6 (tN b) = z then (0, sS σ 24 2) else (mMany (mAnew (sU (sS σ 24 0) 6 (tN b) z) d) 80, mAnew (sU (sS σ 24 0) 6 (tN b) z) d)) else (0, sS σ 24 1)
def mIsUndone (σ : MS) (b : Int32) : Int32 × MS := if inR b 0 (σ.1 5 - 1) then (if σ.2 6 (tN b) = 0 then (0, sS σ 24 0) else (1, sS σ 24 0)) else (0, sS σ 24 1)
def mHit (σ : MS) (n : Int32) : Int32 × MS := if inR n 0 (σ.1 7 - 1) then (σ.2 12 (tN n), sS σ 24 0) else (0, sS σ 24 1)
def mKeyOf (σ : MS) (r k : Int32) : Int32 × MS := if mRec σ r then (if inR k 0 2 then (σ.2 19 (3 * tN r + tN k), sS σ 24 0) else (0, sS σ 24 1)) else (0, sS σ 24 1)
def mFieldOf (σ : MS) (r k : Int32) : Int32 × MS := if mRec σ r then (if inR k 0 3 then (σ.2 20 (4 * tN r + tN k), sS σ 24 0) else (0, sS σ 24 1)) else (0, sS σ 24 1)
def mSourceOf (σ : MS) (r k : Int32) : Int32 × MS := if mRec σ r then (if inR k 0 3 then (σ.2 21 (4 * tN r + tN k), sS σ 24 0) else (0, sS σ 24 1)) else (0, sS σ 24 1)
def mHoldings (σ : MS) (r : Int32) : Int32 × MS := if mRec σ r then (σ.2 23 (tN r), sS σ 24 0) else (0, sS σ 24 1)
def mOwnK (σ : MS) (r : Nat) : Nat → Int32
  | 0 => 0
  | k + 1 => mOwnK σ r k + (if σ.2 19 (3 * r + k) = -1 then 0 else σ.2 19 (3 * r + k))
def mOwnF (σ : MS) (r : Nat) : Nat → Int32
  | 0 => mOwnK σ r 3
  | k + 1 => mOwnF σ r k + (if σ.2 20 (4 * r + k) = -1 then 0 else σ.2 20 (4 * r + k))
def mSum (σ : MS) : Nat → Int32
  | 0 => 0
  | n + 1 => mSum σ n + (if σ.2 18 n = 0 then 0 else mOwnF σ n 4 * nI (1 + n) + σ.2 23 n)
/-! what stays true of the state: what is used as an index is in range -/
def wS (σ : MS) : Prop := ∀ j, σ.2 21 j = -1 ∨ vp_in (σ.2 21 j) 5
def wL (σ : MS) : Prop := ∀ j, vp_in (σ.2 9 j) 5 ∧ vp_in (σ.2 8 j) 10
def wO (σ : MS) : Prop := ∀ k, vp_in (σ.2 2 k) 3
def wE (σ : MS) : Prop := ∀ j, vp_in (σ.2 16 j) 80 ∧ vp_in (σ.2 17 j) 80 ∧ (¬ σ.2 15 j = 0 → ¬ σ.2 15 j = 3 → ¬ σ.2 15 j = 4 → vp_in (σ.2 17 j) 4)
def wF (σ : MS) : Prop := wS σ ∧ wL σ ∧ wO σ ∧ wE σ
theorem sU_o {σ : MS} {k i j : Nat} {x : Int32} (h : j ≠ k) : (sU σ k i x).2 j = σ.2 j := va_up_ne _ _ h
theorem sU_k {σ : MS} {k i : Nat} {x : Int32} : (sU σ k i x).2 k = upd (σ.2 k) i x := va_up_self _ _ _
theorem sU_1 {σ : MS} {k i : Nat} {x : Int32} : (sU σ k i x).1 = σ.1 := rfl
theorem sS_2 {σ : MS} {k : Nat} {x : Int32} : (sS σ k x).2 = σ.2 := rfl
theorem sS_k {σ : MS} {k : Nat} {x : Int32} : (sS σ k x).1 k = x := va_up_self _ _ _
theorem sS_o {σ : MS} {k j : Nat} {x : Int32} (h : j ≠ k) : (sS σ k x).1 j = σ.1 j := va_up_ne _ _ h
