/-! THE REFERENCE: what its steps leave as it was -/
set_option maxRecDepth 100000
/-- all but the catalogue's arrays and the hits stays -/
def kp (σ τ : MS) : Prop := τ.1 = σ.1 ∧ ∀ j, j ≠ 12 → j < 18 ∨ 23 < j → τ.2 j = σ.2 j
theorem kp.rf (σ : MS) : kp σ σ := ⟨rfl, fun _ _ _ => rfl⟩
theorem kp.tr {a b d : MS} (h : kp a b) (g : kp b d) : kp a d := ⟨g.1.trans h.1, fun j h1 h2 => (g.2 j h1 h2).trans (h.2 j h1 h2)⟩
theorem kp.up {σ τ : MS} (h : kp σ τ) {k i : Nat} {x : Int32} (hk : k = 12 ∨ (18 ≤ k ∧ k ≤ 23)) : kp σ (sU τ k i x) := ⟨h.1, fun j h1 h2 => (sU_o (by omega)).trans (h.2 j h1 h2)⟩
theorem kp_MK (n : Nat) (σ : MS) : ∀ k, kp σ (mMK n k σ)
  | 0 => kp.rf σ
  | k + 1 => (kp_MK n σ k).up (by omega)
theorem kp_MF (n : Nat) (σ : MS) : ∀ k, kp σ (mMF n k σ)
  | 0 => kp.rf σ
  | k + 1 => (((kp_MF n σ k).up (by omega)).up (by omega)).up (by omega)
theorem kp_Make (σ : MS) (n : Nat) : kp σ (mMake σ n) := ((((kp.rf σ).up (by omega)).up (by omega)).tr (kp_MK n _ 3)).tr (kp_MF n _ 4)
theorem kp_LK (n r : Nat) (σ : MS) : ∀ k, kp σ (mLK n r k σ)
  | 0 => kp.rf σ
  | k + 1 => (kp_LK n r σ k).up (by omega)
theorem kp_LFs (n r k : Nat) {σ τ : MS} (h : kp σ τ) : kp σ (mLFs n r k τ) := by
  unfold mLFs mLFu
  split
  · exact h
  · split
    · split
      · exact (h.up (by omega)).up (by omega)
      · split
        · exact h
        · exact (h.up (by omega)).up (by omega)
    · exact h
theorem kp_LF (n r : Nat) (σ : MS) : ∀ k, kp σ (mLF n r k σ)
  | 0 => kp.rf σ
  | k + 1 => kp_LFs n r k (kp_LF n r σ k)
theorem kp_Lay (σ : MS) (n r : Nat) : kp σ (mLay σ n r) := (kp_LK n r σ 3).tr (kp_LF n r _ 4)
theorem kp_DoLoad (σ : MS) (n : Nat) : kp σ (mDoLoad σ n) := by
  unfold mDoLoad
  split
  · split
    · exact (kp_Make σ n).up (by omega)
    · split
      · exact (kp.rf σ).up (by omega)
      · exact ((kp.rf σ).up (by omega)).tr (kp_Lay _ n _)
  · exact (kp.rf σ).up (by omega)
theorem kp_GK (a b : Nat) (σ : MS) : ∀ k, kp σ (mGK a b k σ)
  | 0 => kp.rf σ
  | k + 1 => (kp_GK a b σ k).up (by omega)
theorem kp_GFs (a b k : Nat) {σ τ : MS} (h : kp σ τ) : kp σ (mGFs a b k τ) := by
  unfold mGFs
  split
  · exact (h.up (by omega)).up (by omega)
  · exact h
theorem kp_GF (a b : Nat) (σ : MS) : ∀ k, kp σ (mGF a b k σ)
  | 0 => kp.rf σ
  | k + 1 => kp_GFs a b k (kp_GF a b σ k)
theorem kp_Merge (σ : MS) (a b : Nat) : kp σ (mMerge σ a b) := ((((kp.rf σ).up (by omega)).tr (kp_GK a b _ 3)).tr (kp_GF a b _ 4)).up (by omega)
theorem kp_Perf (σ : MS) (t : Nat) : kp σ (mPerf σ t) := by
  unfold mPerf
  split
  · exact kp_DoLoad σ _
  · split
    · exact kp.rf σ
    · split
      · exact (kp.rf σ).up (by omega)
      · split
        · split
          · exact kp.rf σ
          · exact kp_Merge σ _ _
        · exact (kp.rf σ).up (by omega)
theorem kp_No (σ : MS) : ∀ k, kp σ (mNo k σ)
  | 0 => kp.rf σ
  | k + 1 => (kp_No σ k).up (by omega)
theorem kp_Run (σ : MS) : ∀ k, kp σ (mRun k σ)
  | 0 => kp.rf σ
  | k + 1 => (kp_Run σ k).tr (kp_Perf _ k)
theorem kp_Anew (σ : MS) (d : Nat) : kp σ (mAnew σ d) := (kp_No σ 80).tr (kp_Run _ d)
/-! the sources stay in range -/
theorem wS.up {σ : MS} (h : wS σ) {k i : Nat} {x : Int32} (hk : k ≠ 21) : wS (sU σ k i x) := fun j => by rw [sU_o (Ne.symm hk)]; exact h j
theorem wS.up21 {σ : MS} (h : wS σ) {i : Nat} {x : Int32} (hx : x = -1 ∨ vp_in x 5) : wS (sU σ 21 i x) := fun j => by
  rw [sU_k]
  by_cases e : j = i
  · subst e
    rw [pk_us]
    exact hx
  · rw [pk_un e]
    exact h j
theorem kp.L {σ τ : MS} (h : kp σ τ) (hL : wL σ) : wL τ := fun j => by rw [h.2 9 (by omega) (by omega), h.2 8 (by omega) (by omega)]; exact hL j
theorem kp.O {σ τ : MS} (h : kp σ τ) (hL : wO σ) : wO τ := fun j => by rw [h.2 2 (by omega) (by omega)]; exact hL j
theorem kp.E {σ τ : MS} (h : kp σ τ) (hL : wE σ) : wE τ := fun j => by rw [h.2 15 (by omega) (by omega), h.2 16 (by omega) (by omega), h.2 17 (by omega) (by omega)]; exact hL j
theorem wS_MK (n : Nat) {σ : MS} (h : wS σ) : ∀ k, wS (mMK n k σ)
  | 0 => h
  | k + 1 => (wS_MK n h k).up (by decide)
theorem wS_MF (n : Nat) {σ : MS} (h : wS σ) (hL : wL σ) : ∀ k, wS (mMF n k σ)
  | 0 => h
  | k + 1 => by
    refine (((wS_MF n h hL k).up (by decide)).up21 ?_).up (by decide)
    split
    · exact Or.inl rfl
    · exact Or.inr (((kp_MF n σ k).L hL) n).1
theorem wS_Make {σ : MS} (h : wS σ) (hL : wL σ) (n : Nat) : wS (mMake σ n) := wS_MF n (wS_MK n ((h.up (by decide)).up (by decide)) 3) (((((kp.rf σ).up (by omega)).up (by omega)).tr (kp_MK n _ 3)).L hL) 4
theorem wS_LK (n r : Nat) {σ : MS} (h : wS σ) : ∀ k, wS (mLK n r k σ)
  | 0 => h
  | k + 1 => (wS_LK n r h k).up (by decide)
theorem wS_LFs (n r k : Nat) {σ : MS} (h : wS σ) (hL : wL σ) : wS (mLFs n r k σ) := by
  have hu : wS (mLFu n r k σ) := (h.up (by decide)).up21 (Or.inr (hL n).1)
  unfold mLFs
  split
  · exact h
  · split
    · split
      · exact hu
      · split
        · exact h
        · exact hu
    · exact h
theorem wS_LF (n r : Nat) {σ : MS} (h : wS σ) (hL : wL σ) : ∀ k, wS (mLF n r k σ)
  | 0 => h
  | k + 1 => wS_LFs n r k (wS_LF n r h hL k) ((kp_LF n r σ k).L hL)
theorem wS_Lay {σ : MS} (h : wS σ) (hL : wL σ) (n r : Nat) : wS (mLay σ n r) := wS_LF n r (wS_LK n r h 3) ((kp_LK n r σ 3).L hL) 4
theorem wS_DoLoad {σ : MS} (h : wS σ) (hL : wL σ) (n : Nat) : wS (mDoLoad σ n) := by
  unfold mDoLoad
  split
  · split
    · exact (wS_Make h hL n).up (by decide)
    · split
      · exact h.up (by decide)
      · exact wS_Lay (h.up (by decide)) (((kp.rf σ).up (by omega)).L hL) n _
  · exact h.up (by decide)
theorem wS_GK (a b : Nat) {σ : MS} (h : wS σ) : ∀ k, wS (mGK a b k σ)
  | 0 => h
  | k + 1 => (wS_GK a b h k).up (by decide)
theorem wS_GF (a b : Nat) {σ : MS} (h : wS σ) : ∀ k, wS (mGF a b k σ)
  | 0 => h
  | k + 1 => by
    have h1 := wS_GF a b h k
    show wS (mGFs a b k (mGF a b k σ))
    unfold mGFs
    split
    · exact (h1.up (by decide)).up21 (h1 _)
    · exact h1
theorem wS_Merge {σ : MS} (h : wS σ) (a b : Nat) : wS (mMerge σ a b) := (wS_GF a b (wS_GK a b (h.up (by decide)) 3) 4).up (by decide)
theorem wS_Perf {σ : MS} (h : wS σ) (hL : wL σ) (t : Nat) : wS (mPerf σ t) := by
  unfold mPerf
  split
  · exact wS_DoLoad h hL _
  · split
    · exact h
    · split
      · exact h.up (by decide)
      · split
        · split
          · exact h
          · exact wS_Merge h _ _
        · exact h.up (by decide)
theorem wF_Perf {σ : MS} (h : wF σ) (t : Nat) : wF (mPerf σ t) := ⟨wS_Perf h.1 h.2.1 t, (kp_Perf σ t).L h.2.1, (kp_Perf σ t).O h.2.2.1, (kp_Perf σ t).E h.2.2.2⟩
theorem wF_No {σ : MS} (h : wF σ) : ∀ k, wF (mNo k σ)
  | 0 => h
  | k + 1 => ⟨(wF_No h k).1.up (by decide), (kp_No σ (k + 1)).L h.2.1, (kp_No σ (k + 1)).O h.2.2.1, (kp_No σ (k + 1)).E h.2.2.2⟩
theorem wF_Run {σ : MS} (h : wF σ) : ∀ k, wF (mRun k σ)
  | 0 => h
  | k + 1 => wF_Perf (wF_Run h k) k
theorem wF_Anew {σ : MS} (h : wF σ) (d : Nat) : wF (mAnew σ d) := wF_Run (wF_No h 80) d
theorem wF_note {σ : MS} (h : wF σ) {d : Nat} {k a b : Int32} (ha : vp_in a 80) (hb : vp_in b 80) (hk : ¬ k = 0 → ¬ k = 3 → ¬ k = 4 → vp_in b 4) : wF (mNote σ d k a b) := by
  refine ⟨h.1, h.2.1, h.2.2.1, fun j => ?_⟩
  show vp_in (upd (σ.2 16) d a j) 80 ∧ vp_in (upd (σ.2 17) d b j) 80 ∧ (¬ upd (σ.2 15) d k j = 0 → ¬ upd (σ.2 15) d k j = 3 → ¬ upd (σ.2 15) d k j = 4 → vp_in (upd (σ.2 17) d b j) 4)
  by_cases e : j = d
  · subst e
    rw [pk_us, pk_us, pk_us]
    exact ⟨ha, hb, hk⟩
  · rw [pk_un e, pk_un e, pk_un e]
    exact h.2.2.2 j
theorem mD1_1 (σ : MS) : ∀ k, (mD1 k σ).1 = σ.1
  | 0 => rfl
  | k + 1 => mD1_1 σ k
theorem mD2_1 (σ : MS) : ∀ k, (mD2 k σ).1 = σ.1
  | 0 => rfl
  | k + 1 => mD2_1 σ k
theorem mP1_1 (n : Nat) (σ : MS) : ∀ k, (mP1 n k σ).1 = σ.1
  | 0 => rfl
  | k + 1 => mP1_1 n σ k
theorem mP2_1 (n : Nat) (σ : MS) : ∀ k, (mP2 n k σ).1 = σ.1
  | 0 => rfl
  | k + 1 => mP2_1 n σ k
theorem mD1_o {j : Nat} (hj : j ≠ 3) (σ : MS) : ∀ k, (mD1 k σ).2 j = σ.2 j
  | 0 => rfl
  | k + 1 => (sU_o hj).trans (mD1_o hj σ k)
theorem mD2_o {j : Nat} (hj : j ≠ 4) (σ : MS) : ∀ k, (mD2 k σ).2 j = σ.2 j
  | 0 => rfl
  | k + 1 => (sU_o hj).trans (mD2_o hj σ k)
theorem mP1_o {n j : Nat} (hj : j ≠ 10) (σ : MS) : ∀ k, (mP1 n k σ).2 j = σ.2 j
  | 0 => rfl
  | k + 1 => (sU_o hj).trans (mP1_o hj σ k)
theorem mP2_o {n j : Nat} (hj : j ≠ 11) (σ : MS) : ∀ k, (mP2 n k σ).2 j = σ.2 j
  | 0 => rfl
  | k + 1 => (sU_o hj).trans (mP2_o hj σ k)
theorem mDraft_1 (σ : MS) : (mDraft σ).1 = σ.1 := (mD2_1 _ 4).trans (mD1_1 σ 3)
theorem mDraft_o {j : Nat} (h3 : j ≠ 3) (h4 : j ≠ 4) (σ : MS) : (mDraft σ).2 j = σ.2 j := (mD2_o h4 _ 4).trans (mD1_o h3 σ 3)
theorem mPut_1 (σ : MS) (s : Int32) (n b : Nat) : (mPut σ s n b).1 = (sS (sS σ 24 0) 7 (nI (n + 1))).1 := (mDraft_1 _).trans ((mP2_1 n _ 4).trans (mP1_1 n _ 3))
theorem mPut_14 (σ : MS) (s : Int32) (n b : Nat) : (mPut σ s n b).1 14 = σ.1 14 := by rw [mPut_1]; rfl
theorem mPut_o {j : Nat} (h3 : j ≠ 3) (h4 : j ≠ 4) (h10 : j ≠ 10) (h11 : j ≠ 11) (σ : MS) (s : Int32) (n b : Nat) : (mPut σ s n b).2 j = (sU (sU (sS (sS σ 24 0) 7 (nI (n + 1))) 8 n (nI (b - 1))) 9 n s).2 j := (mDraft_o h3 h4 _).trans ((mP2_o h11 _ 4).trans (mP1_o h10 _ 3))
theorem wF_put {σ : MS} (h : wF σ) {s : Int32} {n b : Nat} (hs : vp_in s 5) (hb : b ≤ 10) : wF (mPut σ s n b) := by
  refine ⟨fun j => ?_, fun j => ?_, fun j => ?_, fun j => ?_⟩
  · rw [mPut_o (by omega) (by omega) (by omega) (by omega)]
    exact h.1 j
  · rw [mPut_o (by omega) (by omega) (by omega) (by omega), mPut_o (by omega) (by omega) (by omega) (by omega)]
    show vp_in (upd (σ.2 9) n s j) 5 ∧ vp_in (upd (σ.2 8) n (nI (b - 1)) j) 10
    by_cases e : j = n
    · subst e
      rw [pk_us, pk_us]
      exact ⟨hs, vp_in_nI (by omega) (by omega)⟩
    · rw [pk_un e, pk_un e]
      exact h.2.1 j
  · rw [mPut_o (by omega) (by omega) (by omega) (by omega)]
    exact h.2.2.1 j
  · rw [mPut_o (by omega) (by omega) (by omega) (by omega), mPut_o (by omega) (by omega) (by omega) (by omega), mPut_o (by omega) (by omega) (by omega) (by omega)]
    exact h.2.2.2 j
theorem nI_neq {a b : Nat} (h : ¬ nI a = nI b) : a ≠ b := fun e => h (by rw [e])
