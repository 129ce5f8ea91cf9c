/-! THE LOADER's world: its object and arrays over G, its catalogue at 3 -/
set_option maxRecDepth 100000
def lcell (ac : Nat → ClassId) (b : Nat → Nat) (x : MS) (cn k : Nat) : Option (Nat × va_E) := if k < 5 then some (b k, .inl (ac 0, lLen k, .inl (x.2 k))) else if k = 5 then some (b 5, .inl (ac 1, 10, .inl (x.2 5))) else some (b 11, .inr (0, lfs b x.1 cn))
def lop (ac : Nat → ClassId) (b : Nat → Nat) (x : MS) (cn : Nat) (G : GM) : GM := fun y => if y.1 = 1 ∧ y.2.2 = 0 ∧ (y.2.1 < 6 ∨ y.2.1 = 11) then lcell ac b x cn y.2.1 else G y
def LW (ac : Nat → ClassId) (b : Nat → Nat) (x : MS) (ad : Nat → Nat → Nat) (κ : KS) (G : GM) : GM := cput ac 3 (b 11) ad κ (lop ac b x (ad 0 0) G)
section LOP
variable {ac : Nat → ClassId} {b : Nat → Nat} {x : MS} {cn : Nat} {ad : Nat → Nat → Nat} {κ : KS} {G : GM}
theorem lop_n {y : Lb} (h : ¬ (y.1 = 1 ∧ y.2.2 = 0 ∧ (y.2.1 < 6 ∨ y.2.1 = 11))) : lop ac b x cn G y = G y := if_neg h
theorem lop_at : lAt ac b x cn (lop ac b x cn G) := by
  refine ⟨rfl, fun k hk => ?_, rfl⟩
  show (if (1 : Nat) = 1 ∧ (0 : Nat) = 0 ∧ (k < 6 ∨ k = 11) then lcell ac b x cn k else G (1, k, 0)) = _
  rw [if_pos ⟨rfl, rfl, Or.inl (by omega)⟩]
  unfold lcell
  rw [if_pos hk]
theorem LW_at : lAt ac b x (ad 0 0) (LW ac b x ad κ G) := lop_at.c (by decide)
theorem LW_g {y : Lb} (h3 : y.1 ≠ 3) (h : ¬ (y.1 = 1 ∧ y.2.2 = 0 ∧ (y.2.1 < 6 ∨ y.2.1 = 11))) : LW ac b x ad κ G y = G y := (cput_n h3).trans (lop_n h)
theorem cput_gup {t lo : Nat} {y : Lb} {q : Nat × va_E} (h : y.1 ≠ t) : gup (cput ac t lo ad κ G) y q = cput ac t lo ad κ (gup G y q) := by
  funext z
  by_cases e : z = y
  · subst e
    rw [gup_s, cput_n h, gup_s]
  · rw [gup_n _ _ e]
    by_cases ez : z.1 = t
    · unfold cput
      rw [if_pos ez, if_pos ez]
    · rw [cput_n ez, cput_n ez, gup_n _ _ e]
theorem lop_gup {k : Nat} {x' : MS} {cn' : Nat} (hk : k < 6 ∨ k = 11) {q : Nat × va_E} (hq : lcell ac b x' cn' k = some q) (ho : ∀ j, (j < 6 ∨ j = 11) → j ≠ k → lcell ac b x' cn' j = lcell ac b x cn j) : gup (lop ac b x cn G) (1, k, 0) q = lop ac b x' cn' G := by
  funext z
  by_cases e : z = (1, k, 0)
  · subst e
    rw [gup_s]
    show some q = if (1 : Nat) = 1 ∧ (0 : Nat) = 0 ∧ (k < 6 ∨ k = 11) then lcell ac b x' cn' k else G (1, k, 0)
    rw [if_pos ⟨rfl, rfl, hk⟩, hq]
  · rw [gup_n _ _ e]
    unfold lop
    by_cases c : z.1 = 1 ∧ z.2.2 = 0 ∧ (z.2.1 < 6 ∨ z.2.1 = 11)
    · rw [if_pos c, if_pos c]
      refine (ho z.2.1 c.2.2 (fun e2 => e ?_)).symm
      obtain ⟨z1, z2, z3⟩ := z
      obtain ⟨c1, c2, -⟩ := c
      simp only at c1 c2 e2
      rw [c1, c2, e2]
    · rw [if_neg c, if_neg c]
theorem lop_U {k i : Nat} {v : Int32} (hk : k < 5) : gup (lop ac b x cn G) (1, k, 0) (b k, .inl (ac 0, lLen k, .inl (upd (x.2 k) i v))) = lop ac b (sU x k i v) cn G := by
  refine lop_gup (Or.inl (by omega)) ?_ (fun j hj hjk => ?_)
  · unfold lcell
    rw [if_pos hk]
    simp [sU, va_up]
  · unfold lcell
    simp only [sU, va_up, if_neg hjk]
    split
    · rfl
    · split
      · rename_i e5
        rw [if_neg (by omega)]
      · rfl
theorem lop_Z {i : Nat} {v : Int32} : gup (lop ac b x cn G) (1, 5, 0) (b 5, .inl (ac 1, 10, .inl (upd (x.2 5) i v))) = lop ac b (sU x 5 i v) cn G := by
  refine lop_gup (Or.inl (by omega)) ?_ (fun j hj hjk => ?_)
  · unfold lcell
    rw [if_neg (by decide), if_pos rfl]
    simp [sU, va_up]
  · unfold lcell
    simp only [sU, va_up, if_neg hjk]
theorem lfs_S {f : Nat → Int32} {k : Nat} {v : Int32} (hk : k = 6 ∨ k = 7 ∨ k = 8) : (lfs b f cn).set k (.int v) = lfs b (va_up f k v) cn := by
  rcases hk with rfl | rfl | rfl <;> rfl
theorem lop_S {k : Nat} {v : Int32} (hk : k = 6 ∨ k = 7 ∨ k = 8) : gup (lop ac b x cn G) (1, 11, 0) (b 11, .inr (0, (lfs b x.1 cn).set k (.int v))) = lop ac b (sS x k v) cn G := by
  refine lop_gup (Or.inr rfl) ?_ (fun j hj hjk => ?_)
  · rw [lfs_S hk]; rfl
  · unfold lcell
    rcases hj with hj | hj
    · by_cases h5 : j < 5
      · rw [if_pos h5, if_pos h5]; rfl
      · rw [if_neg h5, if_neg h5, if_pos (by omega), if_pos (by omega)]; rfl
    · exact absurd hj hjk
theorem lop_now {cn' : Nat} : gup (lop ac b x cn G) (1, 11, 0) (b 11, .inr (0, (lfs b x.1 cn).set 10 (.ref cn'))) = lop ac b x cn' G := by
  refine lop_gup (Or.inr rfl) rfl (fun j hj hjk => ?_)
  unfold lcell
  rcases hj with hj | hj
  · by_cases h5 : j < 5
    · rw [if_pos h5, if_pos h5]
    · rw [if_neg h5, if_neg h5, if_pos (by omega), if_pos (by omega)]
  · exact absurd hj hjk
theorem LW_U {k i : Nat} {v : Int32} (hk : k < 5) : gup (LW ac b x ad κ G) (1, k, 0) (b k, .inl (ac 0, lLen k, .inl (upd (x.2 k) i v))) = LW ac b (sU x k i v) ad κ G := by
  unfold LW
  rw [cput_gup (show (1 : Nat) ≠ 3 by decide), lop_U hk]
theorem LW_Z {i : Nat} {v : Int32} : gup (LW ac b x ad κ G) (1, 5, 0) (b 5, .inl (ac 1, 10, .inl (upd (x.2 5) i v))) = LW ac b (sU x 5 i v) ad κ G := by
  unfold LW
  rw [cput_gup (show (1 : Nat) ≠ 3 by decide), lop_Z]
theorem LW_S {k : Nat} {v : Int32} (hk : k = 6 ∨ k = 7 ∨ k = 8) : gup (LW ac b x ad κ G) (1, 11, 0) (b 11, .inr (0, (lfs b x.1 (ad 0 0)).set k (.int v))) = LW ac b (sS x k v) ad κ G := by
  unfold LW
  rw [cput_gup (show (1 : Nat) ≠ 3 by decide), lop_S hk]
end LOP
/-! what the loader's methods answer, or which exception comes (1 index, 2 argument, 3 state) -/
abbrev Ex (α : Type) : Type := Except Nat α
def cSetRank (x : MS) (a v : Int32) : Ex (Int32 × MS) := if inR a 0 4 then (if inR v 0 9 then (if x.1 7 = 0 then .ok (x.2 0 (tN a), sU x 0 (tN a) v) else .error 3) else .error 2) else .error 1
def cSetRule (x : MS) (a v : Int32) : Ex (Int32 × MS) := if inR a 0 3 then (if inR v 0 2 then (if x.1 7 = 0 then .ok (x.2 1 (tN a), sU x 1 (tN a) v) else .error 3) else .error 2) else .error 1
def cSetOrder (x : MS) (a v d : Int32) : Ex (Unit × MS) := if okO a v d then (if x.1 7 = 0 then .ok ((), sU (sU (sU x 2 0 a) 2 1 v) 2 2 d) else .error 3) else .error 2
def cBegin (x : MS) : Ex (Int32 × MS) := if 10 ≤ x.1 6 then .error 3 else .ok (x.1 6 + 1 - 1, sS x 6 (x.1 6 + 1))
def cKey (x : MS) (a v : Int32) : Ex (Int32 × MS) := if inR a 0 2 then (if inR v (-1) 49 then .ok (x.2 3 (tN a), sU x 3 (tN a) v) else .error 2) else .error 1
def cField (x : MS) (a v : Int32) : Ex (Int32 × MS) := if inR a 0 3 then (if inR v (-1) 99 then .ok (x.2 4 (tN a), sU x 4 (tN a) v) else .error 2) else .error 1
def cIsUndone (x : MS) (a : Int32) : Ex Int32 := if inR a 0 (x.1 6 - 1) then .ok (x.2 5 (tN a)) else .error 1
def cHit (x : MS) (κ : KS) (a : Int32) : Ex Int32 := if inR a 0 (x.1 7 - 1) then .ok (κ.2 (tN a)) else .error 1
def kR (κ : KS) (a : Int32) : RS := (κ.1 (tN a)).getD rNew
theorem kR_at {κ : KS} {j : Nat} {r : RS} (hj : j < 80) (hk : κ.1 j = some r) : kR κ (nI j) = r := by
  unfold kR
  rw [tN_nI (by omega), hk]
  rfl
def cKeyOf (κ : KS) (a v : Int32) : Ex Int32 := if kHas κ a then (if inR v 0 2 then .ok ((kR κ a).1 1 (tN v)) else .error 1) else .error 1
def cFieldOf (κ : KS) (a v : Int32) : Ex Int32 := if kHas κ a then (if inR v 0 3 then .ok ((kR κ a).1 2 (tN v)) else .error 1) else .error 1
def cSourceOf (κ : KS) (a v : Int32) : Ex Int32 := if kHas κ a then (if inR v 0 3 then .ok ((kR κ a).1 3 (tN v)) else .error 1) else .error 1
def cHoldings (κ : KS) (a : Int32) : Ex Int32 := if kHas κ a then .ok (kR κ a).2 else .error 1
