/-! THE LAW, plain: a record made, records merged, the search; one event done on both sides -/
set_option maxRecDepth 100000
theorem r3_v (k : Nat) : r3 k = if k < 3 then -1 else 0 := by
  unfold r3
  by_cases h2 : k = 2
  · subst h2
    rw [pk_us, if_pos (by omega)]
  rw [pk_un h2]
  by_cases h1 : k = 1
  · subst h1
    rw [pk_us, if_pos (by omega)]
  rw [pk_un h1]
  by_cases h0 : k = 0
  · subst h0
    rw [pk_us, if_pos (by omega)]
  rw [pk_un h0, if_neg (by omega)]
theorem r4_v (k : Nat) : r4 k = if k < 4 then -1 else 0 := by
  unfold r4
  by_cases h3 : k = 3
  · subst h3
    rw [pk_us, if_pos (by omega)]
  rw [pk_un h3]
  by_cases h2 : k = 2
  · subst h2
    rw [pk_us, if_pos (by omega)]
  rw [pk_un h2]
  by_cases h1 : k = 1
  · subst h1
    rw [pk_us, if_pos (by omega)]
  rw [pk_un h1]
  by_cases h0 : k = 0
  · subst h0
    rw [pk_us, if_pos (by omega)]
  rw [pk_un h0, if_neg (by omega)]
theorem okV_r3 (k : Nat) : okV (r3 k) := by
  rw [r3_v]
  split
  · exact Or.inl rfl
  · exact Or.inr (by decide)
theorem okV_r4 (k : Nat) : okV (r4 k) := by
  rw [r4_v]
  split
  · exact Or.inl rfl
  · exact Or.inr (by decide)
theorem rW.New : rW rNew := ⟨fun k => okV_r3 k, fun k => okV_r4 k, fun _ => Iff.rfl, fun _ => Or.inl rfl⟩
theorem rW.fkr {r : RS} {O : Nat → Int32} (h : rW r) (hO : ∀ k, okV (O k)) : ∀ i, rW (fKr O i r)
  | 0 => h
  | i + 1 => by
    have ih := rW.fkr h hO i
    show rW (fKs O i (fKr O i r))
    unfold fKs
    refine ih.k ?_
    split
    · exact hO i
    · exact ih.1 i
theorem rW.lfs {r : RS} {x : MS} {F : Nat → Int32} {u : Int32} (h : rW r) (hF : ∀ k, okV (F k)) (hu : ¬ u = -1) (i : Nat) : rW (lFs x F u i r) := by
  unfold lFs
  split
  · exact h
  · rename_i h1
    split
    · split
      · exact h
      · exact h.put (hF i) ⟨fun e => absurd e hu, fun e => absurd e h1⟩
    · exact h
theorem rW.lfn {r : RS} {x : MS} {F : Nat → Int32} {u : Int32} (h : rW r) (hF : ∀ k, okV (F k)) (hu : ¬ u = -1) : ∀ i, rW (lFn x F u i r)
  | 0 => h
  | i + 1 => (rW.lfn h hF hu i).lfs hF hu i
theorem rW.lay {r : RS} {x : MS} {O F : Nat → Int32} {u : Int32} (h : rW r) (hO : ∀ k, okV (O k)) (hF : ∀ k, okV (F k)) (hu : ¬ u = -1) : rW (kLay x O F u r) := (h.fkr hO 3).lfn hF hu 4
theorem fKr_k (O : Nat → Int32) (r : RS) : ∀ m k, (fKr O m r).1 1 k = if k < m then (if r.1 1 k = -1 then O k else r.1 1 k) else r.1 1 k
  | 0, k => (if_neg (by omega)).symm
  | m + 1, k => by
    have ih := fKr_k O r m
    have e1 : (fKr O (m + 1) r).1 1 = upd ((fKr O m r).1 1) m (if (fKr O m r).1 1 m = -1 then O m else (fKr O m r).1 1 m) := rA_s
    rw [e1]
    by_cases e : k = m
    · subst e
      rw [pk_us, ih k, if_neg (Nat.lt_irrefl k), if_pos (Nat.lt_succ_self k)]
    · rw [pk_un e, ih k]
      by_cases hk : k < m
      · rw [if_pos hk, if_pos (show k < m + 1 by omega)]
      · rw [if_neg hk, if_neg (show ¬ k < m + 1 by omega)]
theorem lFn_new {x : MS} {F : Nat → Int32} {u : Int32} {r : RS} (h2 : ∀ k, k < 4 → r.1 2 k = -1) (h3 : ∀ k, k < 4 → r.1 3 k = -1) (h4 : ∀ k, r.1 4 k = 0) : ∀ m, m ≤ 4 → (∀ k, k < 4 → (lFn x F u m r).1 2 k = (if k < m then F k else -1) ∧ (lFn x F u m r).1 3 k = (if k < m then (if F k = -1 then -1 else u) else -1)) ∧ (lFn x F u m r).1 4 = r.1 4 ∧ (lFn x F u m r).1 1 = r.1 1 ∧ (lFn x F u m r).2 = r.2
  | 0, _ => ⟨fun k hk => ⟨by rw [if_neg (show ¬ k < 0 by omega)]; exact h2 k hk, by rw [if_neg (show ¬ k < 0 by omega)]; exact h3 k hk⟩, rfl, rfl, rfl⟩
  | m + 1, hm => by
    obtain ⟨i1, i2, i3, i4⟩ := lFn_new h2 h3 h4 m (by omega)
    show (∀ k, k < 4 → (lFs x F u m (lFn x F u m r)).1 2 k = _ ∧ (lFs x F u m (lFn x F u m r)).1 3 k = _) ∧ (lFs x F u m (lFn x F u m r)).1 4 = _ ∧ (lFs x F u m (lFn x F u m r)).1 1 = _ ∧ (lFs x F u m (lFn x F u m r)).2 = _
    generalize lFn x F u m r = q at i1 i2 i3 i4 ⊢
    unfold lFs
    by_cases h1 : F m = -1
    · rw [if_pos h1]
      refine ⟨fun k hk => ?_, i2, i3, i4⟩
      obtain ⟨j1, j2⟩ := i1 k hk
      rw [j1, j2]
      by_cases e : k = m
      · subst e
        rw [if_neg (Nat.lt_irrefl k), if_neg (Nat.lt_irrefl k), if_pos (Nat.lt_succ_self k), if_pos (Nat.lt_succ_self k), if_pos h1, h1]
        exact ⟨rfl, rfl⟩
      · by_cases hk2 : k < m
        · rw [if_pos hk2, if_pos hk2, if_pos (show k < m + 1 by omega), if_pos (show k < m + 1 by omega)]
          exact ⟨rfl, rfl⟩
        · rw [if_neg hk2, if_neg hk2, if_neg (show ¬ k < m + 1 by omega), if_neg (show ¬ k < m + 1 by omega)]
          exact ⟨rfl, rfl⟩
    · have e4 : q.1 4 m = 0 := by rw [i2]; exact h4 m
      have e2 : q.1 2 m = -1 := by
        rw [(i1 m (by omega)).1, if_neg (Nat.lt_irrefl m)]
      rw [if_neg h1, if_pos e4, if_neg (show ¬ kRep x q m u = 0 by unfold kRep; rw [if_pos e2]; decide)]
      have p1 : (rPut q m (F m) u).1 1 = q.1 1 := (rA_o (by decide)).trans (rA_o (by decide))
      have p2 : (rPut q m (F m) u).1 2 = upd (q.1 2) m (F m) := (rA_o (by decide)).trans rA_s
      have p3 : (rPut q m (F m) u).1 3 = upd (q.1 3) m u := rA_s
      have p4 : (rPut q m (F m) u).1 4 = q.1 4 := (rA_o (by decide)).trans (rA_o (by decide))
      refine ⟨fun k hk => ?_, p4.trans i2, p1.trans i3, i4⟩
      rw [p2, p3]
      by_cases e : k = m
      · subst e
        rw [pk_us, pk_us, if_pos (Nat.lt_succ_self k), if_pos (Nat.lt_succ_self k), if_neg h1]
        exact ⟨rfl, rfl⟩
      · obtain ⟨j1, j2⟩ := i1 k hk
        rw [pk_un e, pk_un e, j1, j2]
        by_cases hk2 : k < m
        · rw [if_pos hk2, if_pos hk2, if_pos (show k < m + 1 by omega), if_pos (show k < m + 1 by omega)]
          exact ⟨rfl, rfl⟩
        · rw [if_neg hk2, if_neg hk2, if_neg (show ¬ k < m + 1 by omega), if_neg (show ¬ k < m + 1 by omega)]
          exact ⟨rfl, rfl⟩
theorem kLay_new {x : MS} {O F : Nat → Int32} {u : Int32} : (∀ k, k < 3 → (kLay x O F u rNew).1 1 k = O k) ∧ (∀ k, k < 4 → (kLay x O F u rNew).1 2 k = F k ∧ (kLay x O F u rNew).1 3 k = (if F k = -1 then -1 else u) ∧ (kLay x O F u rNew).1 4 k = 0) ∧ (kLay x O F u rNew).2 = 0 := by
  obtain ⟨f2, f3, f4, f5⟩ := fKr_2 O rNew 3
  have n2 : rNew.1 2 = r4 := rfl
  have n3 : rNew.1 3 = r4 := rfl
  have n1 : rNew.1 1 = r3 := rfl
  obtain ⟨a1, a2, a3, a4⟩ := lFn_new (x := x) (F := F) (u := u) (r := fill O rNew) (fun k hk => by show (fKr O 3 rNew).1 2 k = -1; rw [f2, n2, r4_v, if_pos hk]) (fun k hk => by show (fKr O 3 rNew).1 3 k = -1; rw [f3, n3, r4_v, if_pos hk]) (fun k => by show (fKr O 3 rNew).1 4 k = 0; rw [f4]; rfl) 4 (Nat.le_refl _)
  refine ⟨fun k hk => ?_, fun k hk => ⟨?_, ?_, ?_⟩, a4.trans f5⟩
  · refine (congrFun a3 k).trans ?_
    show (fKr O 3 rNew).1 1 k = O k
    rw [fKr_k, if_pos hk, n1, r3_v, if_pos hk, if_pos rfl]
  · exact (a1 k hk).1.trans (if_pos hk)
  · exact (a1 k hk).2.trans (if_pos hk)
  · refine (congrFun a2 k).trans ?_
    show (fKr O 3 rNew).1 4 k = 0
    rw [f4]
    rfl
theorem mMK_r (n : Nat) (σ : MS) : ∀ k, k ≤ 3 → (∀ i, i < k → (mMK n k σ).2 19 (3 * n + i) = σ.2 10 (3 * n + i)) ∧ (∀ g, g ≠ 19 → (mMK n k σ).2 g = σ.2 g) ∧ ∀ i, i ≠ n → ag σ (mMK n k σ) i
  | 0, _ => ⟨fun i hi => absurd hi (Nat.not_lt_zero i), fun _ _ => rfl, fun i _ => ag.rf σ i⟩
  | k + 1, hk => by
    obtain ⟨h1, h2, h3⟩ := mMK_r n σ k (by omega)
    have h10 := h2 10 (by decide)
    show (∀ i, i < k + 1 → (sU (mMK n k σ) 19 (3 * n + k) ((mMK n k σ).2 10 (3 * n + k))).2 19 (3 * n + i) = _) ∧ (∀ g, g ≠ 19 → (sU (mMK n k σ) 19 (3 * n + k) ((mMK n k σ).2 10 (3 * n + k))).2 g = _) ∧ ∀ i, i ≠ n → ag σ (sU (mMK n k σ) 19 (3 * n + k) ((mMK n k σ).2 10 (3 * n + k))) i
    refine ⟨fun i hi => ?_, fun g hg => (sU_o hg).trans (h2 g hg), fun i hi => (h3 i hi).k hi (by omega)⟩
    by_cases e : i = k
    · subst e
      rw [sU_eq, h10]
    · rw [sU_ne (by omega)]
      exact h1 i (by omega)
theorem mMF_r (n : Nat) (σ : MS) : ∀ k, k ≤ 4 → (∀ i, i < k → (mMF n k σ).2 20 (4 * n + i) = σ.2 11 (4 * n + i) ∧ (mMF n k σ).2 21 (4 * n + i) = (if σ.2 11 (4 * n + i) = -1 then -1 else σ.2 9 n) ∧ (mMF n k σ).2 22 (4 * n + i) = 0) ∧ (∀ g, g < 20 ∨ 22 < g → (mMF n k σ).2 g = σ.2 g) ∧ (∀ i, i ≠ n → ag σ (mMF n k σ) i) ∧ (zK σ → zK (mMF n k σ))
  | 0, _ => ⟨fun i hi => absurd hi (Nat.not_lt_zero i), fun _ _ => rfl, fun i _ => ag.rf σ i, fun h => h⟩
  | k + 1, hk => by
    obtain ⟨h1, h2, h3, h4⟩ := mMF_r n σ k (by omega)
    have h11 := h2 11 (by decide)
    have h9 := h2 9 (by decide)
    show (∀ i, i < k + 1 → (mMFs n k (mMF n k σ)).2 20 (4 * n + i) = _ ∧ (mMFs n k (mMF n k σ)).2 21 (4 * n + i) = _ ∧ (mMFs n k (mMF n k σ)).2 22 (4 * n + i) = _) ∧ (∀ g, g < 20 ∨ 22 < g → (mMFs n k (mMF n k σ)).2 g = _) ∧ (∀ i, i ≠ n → ag σ (mMFs n k (mMF n k σ)) i) ∧ (zK σ → zK (mMFs n k (mMF n k σ)))
    generalize mMF n k σ = τ at h1 h2 h3 h4 h11 h9 ⊢
    unfold mMFs
    refine ⟨fun i hi => ?_, fun g hg => ((sU_o (by omega)).trans ((sU_o (by omega)).trans (sU_o (by omega)))).trans (h2 g hg), fun i hi => (((h3 i hi).f (by omega) hi (by omega)).f (by omega) hi (by omega)).f (by omega) hi (by omega), fun h => (((h4 h).up (by decide)).up (by decide)).up22 (Or.inl rfl)⟩
    by_cases e : i = k
    · subst e
      refine ⟨?_, ?_, sU_eq⟩
      · rw [sU_ne (by omega), sU_ne (by omega), sU_eq, h11]
      · rw [sU_ne (by omega), sU_eq, h11, h9]
    · obtain ⟨j1, j2, j3⟩ := h1 i (by omega)
      refine ⟨?_, ?_, ?_⟩
      · rw [sU_ne (by omega), sU_ne (by omega), sU_ne (by omega)]
        exact j1
      · rw [sU_ne (by omega), sU_ne (by omega), sU_ne (by omega)]
        exact j2
      · rw [sU_ne (by omega), sU_ne (by omega), sU_ne (by omega)]
        exact j3
theorem make_I {κ : KS} {σ x : MS} {n : Nat} {O F : Nat → Int32} {u : Int32} (h : cR κ σ) (e10 : ∀ k, k < 3 → σ.2 10 (3 * n + k) = O k) (e11 : ∀ k, k < 4 → σ.2 11 (4 * n + k) = F k) (e9 : σ.2 9 n = u) (hO : ∀ k, okV (O k)) (hF : ∀ k, okV (F k)) (hu : ¬ u = -1) : rI κ n (σ.2 12) (mMake σ n) (kLay x O F u rNew) := by
  have hz0 : zK (sU (sU σ 18 n 1) 23 n 0) := (h.2.up (by decide)).up (by decide)
  have ha0 : ∀ i, i ≠ n → ag σ (sU (sU σ 18 n 1) 23 n 0) i := fun i e => ((ag.rf σ i).h (by omega) e).h (by omega) e
  have hg0 : ∀ g, g ≠ 18 → g ≠ 23 → (sU (sU σ 18 n 1) 23 n 0).2 g = σ.2 g := fun g e1 e2 => (sU_o e2).trans (sU_o e1)
  have h18 : (sU (sU σ 18 n 1) 23 n 0).2 18 n = 1 := (congrFun (sU_o (by decide)) n).trans sU_eq
  have h23 : (sU (sU σ 18 n 1) 23 n 0).2 23 n = 0 := sU_eq
  unfold mMake
  generalize sU (sU σ 18 n 1) 23 n 0 = σ0 at hz0 ha0 hg0 h18 h23 ⊢
  obtain ⟨k1, k2, k3⟩ := mMK_r n σ0 3 (Nat.le_refl _)
  have hz1 : zK (mMK n 3 σ0) := fun i => by rw [k2 22 (by decide)]; exact hz0 i
  generalize mMK n 3 σ0 = σ1 at k1 k2 k3 hz1 ⊢
  obtain ⟨f1, f2, f3, f4⟩ := mMF_r n σ1 4 (Nat.le_refl _)
  have hz2 := f4 hz1
  generalize mMF n 4 σ1 = σ2 at f1 f2 f3 hz2 ⊢
  obtain ⟨l1, l2, l3⟩ := kLay_new (x := x) (O := O) (F := F) (u := u)
  have g11 : σ1.2 11 = σ.2 11 := (k2 11 (by decide)).trans (hg0 11 (by decide) (by decide))
  have g9 : σ1.2 9 = σ.2 9 := (k2 9 (by decide)).trans (hg0 9 (by decide) (by decide))
  refine ⟨fun i hi e => (h.1 i hi).mv rfl (((ha0 i e).tr (k3 i e)).tr (f3 i e)), ⟨?_, ?_, hz2⟩, ⟨fun k hk => ?_, fun k hk => ?_, ?_⟩, rW.New.lay hO hF hu⟩
  · rw [f2 18 (by decide), k2 18 (by decide)]
    exact h18
  · rw [f2 12 (by decide), k2 12 (by decide)]
    exact hg0 12 (by decide) (by decide)
  · rw [f2 19 (by decide), k1 k hk, hg0 10 (by decide) (by decide), l1 k hk]
    exact e10 k hk
  · obtain ⟨a1, a2, a3⟩ := f1 k hk
    obtain ⟨b1, b2, b3⟩ := l2 k hk
    rw [a1, a2, a3, b1, b2, b3, g11, g9, e11 k hk, e9]
    exact ⟨rfl, rfl, rfl⟩
  · rw [f2 23 (by decide), k2 23 (by decide), h23, l3]
/-! records merged -/
theorem rI.gk {κ : KS} {τ : MS} {a j k : Nat} {g : Nat → Int32} {r ra : RS} (h : rI κ j g τ r) (ha : rR τ a ra) (hwa : rW ra) (hk : k < 3) : rI κ j g (mGKs a j k τ) (fKs (ra.1 1) k r) := by
  unfold mGKs fKs
  rw [h.2.2.1.1 k hk, ha.1 k hk]
  refine h.k hk ?_
  split
  · exact hwa.1 k
  · exact h.2.2.2.1 k
theorem rI.gf {κ : KS} {τ : MS} {a j k : Nat} {g : Nat → Int32} {r ra : RS} (h : rI κ j g τ r) (ha : rR τ a ra) (hwa : rW ra) (haj : a ≠ j) (hk : k < 4) : rI κ j g (mGFs a j k τ) (gFs ra k r) := by
  obtain ⟨j1, j2, -⟩ := h.2.2.1.2.1 k hk
  obtain ⟨a1, a2, -⟩ := ha.2.1 k hk
  unfold mGFs gFs
  rw [j1, a1, a2]
  by_cases h1 : r.1 2 k = -1
  · rw [if_pos h1, if_pos h1]
    by_cases h2 : ra.1 2 k = -1
    · rw [if_pos h2]
      have e3 : ra.1 3 k = -1 := (hwa.2.2.1 k).mpr h2
      have e4 : r.1 3 k = -1 := (h.2.2.2.2.2.1 k).mpr h1
      rw [h2, e3, sU_id (f := 20) (j1.trans h1), sU_id (j2.trans e4)]
      exact h
    · rw [if_neg h2]
      exact h.put hk (hwa.2.1 k) (hwa.2.2.1 k)
  · rw [if_neg h1, if_neg h1]
    exact h
theorem ag_GKs {a j k i : Nat} {σ τ : MS} (h : ag σ τ i) (hi : i ≠ j) (hk : k < 3) : ag σ (mGKs a j k τ) i := h.k hi hk
theorem ag_GFs {a j k i : Nat} {σ τ : MS} (h : ag σ τ i) (hi : i ≠ j) (hk : k < 4) : ag σ (mGFs a j k τ) i := by
  unfold mGFs
  split
  · exact (h.f (by omega) hi hk).f (by omega) hi hk
  · exact h
theorem gk_I {κ : KS} {σ : MS} {a j : Nat} {g : Nat → Int32} {r ra : RS} (h : rI κ j g σ r) (ha : rR σ a ra) (hwa : rW ra) (haj : a ≠ j) : ∀ k, k ≤ 3 → rI κ j g (mGK a j k σ) (fKr (ra.1 1) k r) ∧ ag σ (mGK a j k σ) a
  | 0, _ => ⟨h, ag.rf σ a⟩
  | k + 1, hk => by
    obtain ⟨i1, i2⟩ := gk_I h ha hwa haj k (by omega)
    exact ⟨i1.gk (ha.mv i2) hwa (by omega), ag_GKs i2 haj (by omega)⟩
theorem gf_I {κ : KS} {σ : MS} {a j : Nat} {g : Nat → Int32} {r ra : RS} (h : rI κ j g σ r) (ha : rR σ a ra) (hwa : rW ra) (haj : a ≠ j) : ∀ k, k ≤ 4 → rI κ j g (mGF a j k σ) (gFn ra k r) ∧ ag σ (mGF a j k σ) a
  | 0, _ => ⟨h, ag.rf σ a⟩
  | k + 1, hk => by
    obtain ⟨i1, i2⟩ := gf_I h ha hwa haj k (by omega)
    exact ⟨i1.gf (ha.mv i2) hwa haj (by omega), ag_GFs i2 haj (by omega)⟩
theorem cR.del {κ : KS} {σ : MS} {a : Nat} (h : cR κ σ) : cR (kDel κ a) (sU σ 18 a 0) := by
  refine ⟨fun i hi => ?_, h.2.up (by decide)⟩
  by_cases e : i = a
  · subst e
    refine ⟨fun _ => sU_eq, fun r hr => ?_⟩
    have hr : va_up κ.1 i none i = some r := hr
    rw [va_up_self] at hr
    cases hr
  · exact (h.1 i hi).mv (va_up_ne _ _ e) ((ag.rf σ i).h (by omega) e)
theorem join_R {κ : KS} {σ : MS} {a b : Nat} {ra rb : RS} (h : cR κ σ) (ha : a < 80) (hb : b < 80) (hab : a ≠ b) (hra : κ.1 a = some ra) (hrb : κ.1 b = some rb) : cR (kDel (kSet κ b (gFn ra 4 (fill (ra.1 1) (rV rb (rb.2 + ra.2))))) a) (mMerge σ a b) ∧ (mMerge σ a b).2 12 = σ.2 12 := by
  have h0 := h.opn hb hrb
  obtain ⟨h18, hR, hW⟩ := (h.1 a ha).2 ra hra
  unfold mMerge
  rw [h0.2.2.1.2.2, hR.2.2]
  have h1 := h0.h (v := rb.2 + ra.2)
  have a1 : ag σ (sU σ 23 b (rb.2 + ra.2)) a := (ag.rf σ a).h (by omega) hab
  obtain ⟨h2, a2⟩ := gk_I h1 (hR.mv a1) hW hab 3 (Nat.le_refl _)
  obtain ⟨h3, a3⟩ := gf_I h2 ((hR.mv a1).mv a2) hW hab 4 (Nat.le_refl _)
  exact ⟨h3.cls.del, (sU_o (by decide)).trans h3.2.1.2.1⟩
/-! the search -/
theorem mFn_s (σ : MS) (q : Nat) (v : Int32) (n : Nat) : mFn σ q v (n + 1) = if σ.2 18 n = 0 then mFn σ q v n else if σ.2 19 (3 * n + q) = v then ((mFn σ q v n).1 + 1, nI n) else mFn σ q v n := rfl
/-- m records have the key; the system's answer is f, the reference's last one is w -/
def fOk (m : Nat) (w f : Int32) : Prop := (m = 0 ∧ f = -1) ∨ (m = 1 ∧ ∃ j, j < 80 ∧ w = nI j ∧ f = nI j) ∨ (2 ≤ m ∧ f = -2)
theorem nI_m1 {n : Nat} (hn : n < 80) : ¬ nI n = -1 := fun e => by
  have h := congrArg Int32.toInt e
  rw [nI_toInt (by omega)] at h
  have h2 : (-1 : Int32).toInt = -1 := by decide
  omega
theorem mFn_k {κ : KS} {σ : MS} {q : Nat} {v : Int32} (h : cR κ σ) (hq : q < 3) : ∀ n, n ≤ 80 → ∃ m, m ≤ n ∧ (mFn σ q v n).1 = nI m ∧ fOk m (mFn σ q v n).2 (kFn κ q v n)
  | 0, _ => ⟨0, Nat.le_refl _, nI_0.symm, Or.inl ⟨rfl, rfl⟩⟩
  | n + 1, hn => by
    obtain ⟨m, hm, e1, e2⟩ := mFn_k (v := v) h hq n (by omega)
    rw [mFn_s]
    unfold kFn
    cases hk : κ.1 n with
    | none =>
      rw [if_pos ((h.1 n (by omega)).1 hk)]
      exact ⟨m, by omega, e1, e2⟩
    | some r =>
      obtain ⟨h18, hR, -⟩ := (h.1 n (by omega)).2 r hk
      dsimp only
      rw [if_neg (show ¬ σ.2 18 n = 0 by rw [h18]; decide), hR.1 q hq]
      by_cases hv : r.1 1 q = v
      · rw [if_pos hv, if_pos hv]
        refine ⟨m + 1, by omega, ?_, ?_⟩
        · show (mFn σ q v n).1 + 1 = nI (m + 1)
          rw [e1]
          exact nI_1 m
        · show fOk (m + 1) (nI n) _
          rcases e2 with ⟨rfl, g⟩ | ⟨rfl, j, hj, -, g⟩ | ⟨hm2, g⟩
          · rw [if_pos g]
            exact Or.inr (Or.inl ⟨rfl, n, by omega, rfl, rfl⟩)
          · rw [if_neg (by rw [g]; exact nI_m1 hj)]
            exact Or.inr (Or.inr ⟨by omega, rfl⟩)
          · rw [if_neg (by rw [g]; decide)]
            exact Or.inr (Or.inr ⟨by omega, rfl⟩)
      · rw [if_neg hv, if_neg hv]
        exact ⟨m, by omega, e1, e2⟩
theorem mFd_k {κ : KS} {σ : MS} {q : Nat} (v : Int32) (h : cR κ σ) (hq : q < 3) : ∃ m, m ≤ 80 ∧ (mFd σ q v).1 = nI m ∧ fOk m (mFd σ q v).2 (kFd κ q v) := by
  unfold mFd kFd
  by_cases hv : v = -1
  · rw [if_pos hv, if_pos hv]
    exact ⟨0, by omega, nI_0.symm, Or.inl ⟨rfl, rfl⟩⟩
  · rw [if_neg hv, if_neg hv]
    exact mFn_k h hq 80 (Nat.le_refl _)
theorem mMt_s (σ : MS) (n k f : Nat) : mMt σ n k (f + 1) = if (mFd σ (tN (σ.2 2 k)) (σ.2 10 (3 * n + tN (σ.2 2 k)))).1 ≤ 0 then mMt σ n (k + 1) f else if (mFd σ (tN (σ.2 2 k)) (σ.2 10 (3 * n + tN (σ.2 2 k)))).1 = 1 then (mFd σ (tN (σ.2 2 k)) (σ.2 10 (3 * n + tN (σ.2 2 k)))).2 else -2 := rfl
theorem mMt_k {κ : KS} {σ x : MS} {n : Nat} {O : Nat → Int32} (h : cR κ σ) (h2 : σ.2 2 = x.2 2) (hO : wO x) (e10 : ∀ k, k < 3 → σ.2 10 (3 * n + k) = O k) : ∀ f k, kMt κ x O k = -1 → mMt σ n k f = kMt κ x O (k + f)
  | 0, k, h0 => h0.symm
  | f + 1, k, h0 => by
    have hq := (vp_nat (hO k) (by decide)).2
    rw [mMt_s, h2, e10 _ hq]
    have hk1 : kMt κ x O (k + 1) = kFd κ (tN (x.2 2 k)) (O (tN (x.2 2 k))) := if_pos h0
    obtain ⟨m, hm, e1, e2⟩ := mFd_k (O (tN (x.2 2 k))) h hq
    rw [e1, show k + (f + 1) = k + 1 + f by omega]
    rcases e2 with ⟨rfl, g⟩ | ⟨rfl, j, hj, g1, g2⟩ | ⟨hm2, g⟩
    · rw [if_pos (show nI 0 ≤ 0 by decide)]
      exact mMt_k h h2 hO e10 f (k + 1) (hk1.trans g)
    · rw [if_neg (nI_nle (by omega) (by omega)), if_pos (show nI 1 = 1 by decide), g1, kMt_st (show ¬ kMt κ x O (k + 1) = -1 by rw [hk1, g2]; exact nI_m1 hj), hk1, g2]
    · rw [if_neg (nI_nle (by omega) (by omega)), if_neg (show ¬ nI m = 1 from fun e => absurd ((nI_eq (by omega) (by omega)).mp (show nI m = nI 1 from e)) (by omega)), kMt_st (show ¬ kMt κ x O (k + 1) = -1 by rw [hk1, g]; decide), hk1, g]
theorem mMatch_k {κ : KS} {σ x : MS} {n : Nat} {O : Nat → Int32} (h : cR κ σ) (h2 : σ.2 2 = x.2 2) (hO : wO x) (e10 : ∀ k, k < 3 → σ.2 10 (3 * n + k) = O k) : mMatch σ n = kMt κ x O 3 := mMt_k h h2 hO e10 3 0 rfl
