/-! new things: worlds with a label or some more -/
set_option maxRecDepth 100000
theorem gup_gup (G : GM) (x : Lb) (p q : Nat × va_E) : gup (gup G x p) x q = gup G x q := by
  funext y
  unfold gup
  split <;> rfl
theorem gup_id {G : GM} {x : Lb} {p : Nat × va_E} (h : G x = some p) : gup G x p = G := by
  funext y
  by_cases e : y = x
  · subst e
    rw [gup_s, h]
  · rw [gup_n _ _ e]
theorem gup_cm (G : GM) {x y : Lb} (p q : Nat × va_E) (h : x ≠ y) : gup (gup G x p) y q = gup (gup G y q) x p := by
  funext z
  unfold gup
  by_cases h1 : z = y
  · rw [if_pos h1, if_neg (fun e => h (e.symm.trans h1)), if_pos h1]
  · rw [if_neg h1]
    by_cases h2 : z = x
    · rw [if_pos h2, if_pos h2]
    · rw [if_neg h2, if_neg h2, if_neg h1]
/-- a record just made: its object q at (t, x, 0), its arrays a 1 .. a 4 -/
def recG (ac : Nat → ClassId) (G : GM) (t x q : Nat) (a : Nat → Nat) : GM := gup (gup (gup (gup (gup G (t, x, 1) (a 1, .inl (ac 0, 3, .inl r3))) (t, x, 2) (a 2, .inl (ac 0, 4, .inl r4))) (t, x, 3) (a 3, .inl (ac 0, 4, .inl r4))) (t, x, 4) (a 4, .inl (ac 1, 4, .inl (fun _ => 0)))) (t, x, 0) (q, .inr (4, [.ref (a 1), .ref (a 2), .ref (a 3), .ref (a 4), .int 0]))
/-- a catalogue just made -/
def catG (ac : Nat → ClassId) (G : GM) (t q lo : Nat) (a : Nat → Nat) : GM := gup (gup (gup G (t, 0, 1) (a 1, .inl (ac 4, 80, .inr (.inr (.inr (.inr (fun _ => none))))))) (t, 0, 2) (a 2, .inl (ac 0, 80, .inl (fun _ => 0)))) (t, 0, 0) (q, .inr (1, [.ref (a 1), .ref (a 2), .ref lo]))
def newAd (ad : Nat → Nat → Nat) (n q : Nat) (a : Nat → Nat) : Nat → Nat → Nat := fun y => if y = n + 1 then (fun j => if j = 0 then q else a j) else ad y
def catAd (q : Nat) (a : Nat → Nat) : Nat → Nat → Nat := fun _ j => if j = 0 then q else a j
theorem lb_ne {t x y : Nat} {i j : Nat} (h : x ≠ y ∨ i ≠ j) : ((t, x, i) : Lb) ≠ (t, y, j) := by
  intro e
  have e1 := congrArg (fun z : Lb => z.2.1) e
  have e2 := congrArg (fun z : Lb => z.2.2) e
  rcases h with h | h
  · exact h e1
  · exact h e2
theorem lb_s {t x i j : Nat} (h : i ≠ j) : ((t, x, i) : Lb) ≠ (t, x, j) := lb_ne (Or.inr h)
/-- the new record is in the catalogue -/
theorem recput {ac : Nat → ClassId} {t lo : Nat} {ad : Nat → Nat → Nat} {κ : KS} {G : GM} {n q : Nat} {a : Nat → Nat} {p0 : Nat × va_E} (hk : κ.1 n = none) : gup (recG ac (gup (cput ac t lo ad κ G) (t, n + 1, 0) p0) t (n + 1) q a) (t, 0, 1) (ad 0 1, .inl (ac 4, 80, .inr (.inr (.inr (.inr (va_up (crow ad κ) n (some q))))))) = cput ac t lo (newAd ad n q a) (kSet κ n rNew) G := by
  have h00 : newAd ad n q a 0 = ad 0 := if_neg (by omega)
  have hn1 : ∀ j, newAd ad n q a (n + 1) j = if j = 0 then q else a j := fun j => by unfold newAd; rw [if_pos rfl]
  have hrow : va_up (crow ad κ) n (some q) = crow (newAd ad n q a) (kSet κ n rNew) := by
    funext i
    by_cases h : i = n
    · subst h
      rw [va_up_self, crow_s kSet_at, hn1, if_pos rfl]
    · rw [va_up_ne _ _ h]
      unfold crow
      rw [kSet_n h]
      have e : newAd ad n q a (i + 1) = ad (i + 1) := if_neg (by omega)
      rw [e]
  have hs : ∀ j, cput ac t lo (newAd ad n q a) (kSet κ n rNew) G (t, n + 1, j) = rcell ac (newAd ad n q a) (n + 1) rNew j := fun j => cput_s kSet_at j
  funext y
  by_cases y1 : y = (t, 0, 1)
  · subst y1
    rw [gup_s, cput_r, h00, hrow]
  rw [gup_n _ _ y1]
  unfold recG
  by_cases y2 : y = (t, n + 1, 0)
  · subst y2
    rw [gup_s, hs]
    unfold rcell robj
    simp only [hn1]
    rfl
  rw [gup_n _ _ y2]
  by_cases y3 : y = (t, n + 1, 4)
  · subst y3
    rw [gup_s, hs]
    unfold rcell
    simp only [hn1]
    rfl
  rw [gup_n _ _ y3]
  by_cases y4 : y = (t, n + 1, 3)
  · subst y4
    rw [gup_s, hs]
    unfold rcell
    simp only [hn1]
    rfl
  rw [gup_n _ _ y4]
  by_cases y5 : y = (t, n + 1, 2)
  · subst y5
    rw [gup_s, hs]
    unfold rcell
    simp only [hn1]
    rfl
  rw [gup_n _ _ y5]
  by_cases y6 : y = (t, n + 1, 1)
  · subst y6
    rw [gup_s, hs]
    unfold rcell
    simp only [hn1]
    rfl
  rw [gup_n _ _ y6, gup_n _ _ y2]
  by_cases hc : y.1 = t
  · have e1 : y = (t, y.2.1, y.2.2) := Prod.ext hc rfl
    rw [e1, cput_at, cput_at]
    generalize y.2.1 = u at *
    generalize y.2.2 = j at *
    by_cases h0 : u = 0
    · subst h0
      unfold ccell
      rw [h00, if_pos rfl, if_pos rfl]
      have hj : ¬ j = 1 := fun e => y1 (by rw [e1, e])
      rw [if_neg hj, if_neg hj]
      rfl
    · by_cases h1 : u = n + 1
      · subst h1
        rw [ccell_e hk, ccell_s kSet_at]
        unfold rcell
        by_cases j4 : 4 < j
        · rw [if_neg (by omega), if_pos j4]
        · exfalso
          rcases (show j = 0 ∨ j = 1 ∨ j = 2 ∨ j = 3 ∨ j = 4 by omega) with e | e | e | e | e
          · exact y2 (by rw [e1, e])
          · exact y6 (by rw [e1, e])
          · exact y5 (by rw [e1, e])
          · exact y4 (by rw [e1, e])
          · exact y3 (by rw [e1, e])
      · rw [ccell_setn h0 h1]
        unfold ccell
        rw [if_neg h0, if_neg h0]
        have e : newAd ad n q a u = ad u := if_neg h1
        cases κ.1 (u - 1) with
        | none => rfl
        | some r =>
          unfold rcell robj
          simp only [e]
  · rw [cput_n hc, cput_n hc]
/-- the new catalogue is a catalogue -/
theorem catput {ac : Nat → ClassId} {t lo : Nat} {G : GM} {q : Nat} {a : Nat → Nat} (hG : ∀ x j, G (t, x, j) = none) {p0 : Nat × va_E} : catG ac (gup G (t, 0, 0) p0) t q lo a = cput ac t lo (catAd q a) kZero G := by
  have hrow : crow (catAd q a) kZero = fun _ => none := rfl
  funext y
  unfold catG
  by_cases y2 : y = (t, 0, 0)
  · subst y2
    rw [gup_s, cput_o]
    rfl
  rw [gup_n _ _ y2]
  by_cases y3 : y = (t, 0, 2)
  · subst y3
    rw [gup_s, cput_h]
    rfl
  rw [gup_n _ _ y3]
  by_cases y4 : y = (t, 0, 1)
  · subst y4
    rw [gup_s, cput_r, hrow]
    rfl
  rw [gup_n _ _ y4, gup_n _ _ y2]
  by_cases hc : y.1 = t
  · have e1 : y = (t, y.2.1, y.2.2) := Prod.ext hc rfl
    rw [e1, cput_at, hG]
    unfold ccell
    by_cases h0 : y.2.1 = 0
    · rw [if_pos h0, if_neg (fun e => y2 (by rw [e1, h0, e])), if_neg (fun e => y4 (by rw [e1, h0, e])), if_neg (fun e => y3 (by rw [e1, h0, e]))]
    · rw [if_neg h0]
      rfl
  · rw [cput_n hc]
