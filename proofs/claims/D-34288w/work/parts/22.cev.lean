/-! events in the world, and small facts of the catalogue -/
set_option maxRecDepth 100000
/-- event i is a load: object ea 0, its keys ea 1, its fields ea 2 -/
def dAt (ac : Nat → ClassId) (i : Nat) (ea : Nat → Nat) (n : Nat) (bt u : Int32) (O F : Nat → Int32) (lo : Nat) (G : GM) : Prop := G (2, i, 0) = some (ea 0, .inr (3, [.int (nI n), .int bt, .int u, .ref (ea 1), .ref (ea 2), .ref lo])) ∧ G (2, i, 1) = some (ea 1, .inl (ac 0, 3, .inl O)) ∧ G (2, i, 2) = some (ea 2, .inl (ac 0, 4, .inl F))
def pAt (i eo n f : Nat) (z : Int32) (G : GM) : Prop := G (2, i, 0) = some (eo, .inr (5, [.int (nI n), .int (nI f), .int z]))
def hAt (i eo n : Nat) (G : GM) : Prop := G (2, i, 0) = some (eo, .inr (6, [.int (nI n)]))
def jAt (i eo a b : Nat) (G : GM) : Prop := G (2, i, 0) = some (eo, .inr (7, [.int (nI a), .int (nI b)]))
theorem cput_2 {ac : Nat → ClassId} {t lo : Nat} {ad : Nat → Nat → Nat} {κ : KS} {G : GM} (ht : 3 ≤ t) (i j : Nat) : cput ac t lo ad κ G (2, i, j) = G (2, i, j) := cput_n (by show (2 : Nat) ≠ t; omega)
theorem cput_e {ac : Nat → ClassId} {t lo : Nat} {ad : Nat → Nat → Nat} {κ : KS} {G : GM} (ht : 3 ≤ t) {i j : Nat} {q : Nat × va_E} (h : G (2, i, j) = some q) : cput ac t lo ad κ G (2, i, j) = some q := (cput_2 ht i j).trans h
theorem kHas_y {κ : KS} {n : Nat} (hn : n < 80) (h : kHas κ (nI n)) : ∃ r, κ.1 n = some r := by
  have q := h.2.2
  rw [tN_nI (by omega)] at q
  exact Option.isSome_iff_exists.mp q
theorem kHas_n {κ : KS} {n : Nat} (hn : n < 80) (h : ¬ kHas κ (nI n)) : κ.1 n = none := by
  cases hk : κ.1 n with
  | none => rfl
  | some r => exact absurd ⟨nI_pos (by omega), nI_ge (b := 80) hn (by decide), by rw [tN_nI (by omega), hk]; rfl⟩ h
theorem kHas_i {κ : KS} {n : Nat} (hn : n < 80) : kHas κ (nI n) ↔ (κ.1 n).isSome = true := by
  constructor
  · intro h
    obtain ⟨r, hr⟩ := kHas_y hn h
    rw [hr]; rfl
  · intro h
    exact ⟨nI_pos (by omega), nI_ge (b := 80) hn (by decide), by rw [tN_nI (by omega)]; exact h⟩
/-- where a record has a field, it has a source in range -/
def rOk (r : RS) : Prop := ∀ f, r.1 2 f = -1 ∨ vp_in (r.1 3 f) 5
theorem rOk.put {r : RS} (h : rOk r) {n : Nat} {v u : Int32} (hu : vp_in u 5) : rOk (rPut r n v u) := fun f => by
  show upd (r.1 2) n v f = -1 ∨ vp_in (upd (r.1 3) n u f) 5
  by_cases e : f = n
  · subst e
    rw [pk_us, pk_us]
    exact Or.inr hu
  · rw [pk_un e, pk_un e]
    exact h f
theorem fKr_2 (O : Nat → Int32) (r : RS) : ∀ i, (fKr O i r).1 2 = r.1 2 ∧ (fKr O i r).1 3 = r.1 3 ∧ (fKr O i r).1 4 = r.1 4 ∧ (fKr O i r).2 = r.2
  | 0 => ⟨rfl, rfl, rfl, rfl⟩
  | i + 1 => fKr_2 O r i
theorem rOk.fil {r : RS} (h : rOk r) (O : Nat → Int32) : rOk (fill O r) := fun f => by
  unfold fill
  rw [(fKr_2 O r 3).1, (fKr_2 O r 3).2.1]
  exact h f
theorem rOk.lfs {r : RS} (h : rOk r) (x : MS) (F : Nat → Int32) {u : Int32} (hu : vp_in u 5) (i : Nat) : rOk (lFs x F u i r) := by
  unfold lFs
  split
  · exact h
  · split
    · split
      · exact h
      · exact h.put hu
    · exact h
theorem rOk.lfn {r : RS} (h : rOk r) (x : MS) (F : Nat → Int32) {u : Int32} (hu : vp_in u 5) : ∀ i, rOk (lFn x F u i r)
  | 0 => h
  | i + 1 => (rOk.lfn h x F hu i).lfs x F hu i
theorem rOk.New : rOk rNew := fun f => by
  show r4 f = -1 ∨ vp_in (r4 f) 5
  unfold r4
  by_cases h0 : f = 3
  · subst h0; exact Or.inl rfl
  · rw [pk_un h0]
    by_cases h1 : f = 2
    · subst h1; exact Or.inl rfl
    · rw [pk_un h1]
      by_cases h2 : f = 1
      · subst h2; exact Or.inl rfl
      · rw [pk_un h2]
        by_cases h3 : f = 0
        · subst h3; exact Or.inl rfl
        · rw [pk_un h3]
          exact Or.inr (vp_in_nI (n := 0) (by decide) (by decide))
theorem rOk.lay {r : RS} (h : rOk r) (x : MS) (O F : Nat → Int32) {u : Int32} (hu : vp_in u 5) : rOk (kLay x O F u r) := (h.fil O).lfn x F hu 4
