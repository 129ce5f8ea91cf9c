/-! what holds of the loader's list of events -/
set_option maxRecDepth 100000
def EV (K : GK) (b : Nat → Nat) (es : List Ev) (G : GM) : Prop := ∃ (m da n : Nat) (f : Nat → Option Nat) (qs : Nat → Nat → Nat), liF K G (b 9) m da es.length n f ∧ (∀ i e, es[i]? = some e → evAt K.2.1 (b 11) i (qs i) e G ∧ f i = some (qs i 0)) ∧ ∀ x : Lb, (4 ≤ x.1 ∨ x.1 = 2 ∧ es.length ≤ x.2.1) → G x = none
/-- one event more: G1 holds what G held and the new event's cells -/
theorem EV.step {K : GK} {b : Nat → Nat} {es : List Ev} {G G1 : GM} {m : Nat} {f : Nat → Option Nat} {qs : Nat → Nat → Nat} {u : Nat × Nat × (Nat → Option Nat)} {q : Nat → Nat} {ev : Ev}
    (h2 : ∀ i e, es[i]? = some e → evAt K.2.1 (b 11) i (qs i) e G ∧ f i = some (qs i 0)) (h3 : ∀ x : Lb, (4 ≤ x.1 ∨ x.1 = 2 ∧ es.length ≤ x.2.1) → G x = none) (hG1 : ∀ x : Lb, x.1 ≠ 2 ∨ x.2.1 ≠ es.length → G1 x = G x) (hev : evAt K.2.1 (b 11) es.length q ev G1) (hu : aPost G1 es.length (q 0) f u) (hc : es.length + 1 ≤ u.2.1) : EV K b (es ++ [ev]) (lput K (b 9) (m + 1) (es.length + 1) u G1) := by
  refine ⟨m + 1, u.1, u.2.1, u.2.2, fun i => if i = es.length then q else qs i, ⟨?_, Or.inr ⟨by omega, gup_s _ _ _⟩, ?_, hu.1, ?_, ?_⟩, fun i e hi => ?_, fun x hx => ?_⟩
  · rw [List.length_append]
    exact (gup_n _ _ (by decide)).trans (gup_s _ _ _)
  · rw [List.length_append]
    exact hc
  · exact (hu.2.2.2.2.gup (by decide)).gup (by decide)
  · exact ((gup_n _ _ (by decide)).trans (gup_n _ _ (by decide))).trans ((hG1 (5, 0, 0) (Or.inl (by decide))).trans (h3 (5, 0, 0) (Or.inl (by decide))))
  · by_cases hl : i = es.length
    · subst hl
      rw [List.getElem?_append_right (Nat.le_refl _), Nat.sub_self] at hi
      cases hi
      dsimp only
      rw [if_pos rfl]
      exact ⟨hev.to (fun j => lput_2), hu.2.2.2.1⟩
    · have hlt : i < es.length := by
        have := (List.getElem?_eq_some_iff.mp hi).1
        rw [List.length_append] at this
        have : i < es.length + 1 := this
        omega
      rw [List.getElem?_append_left hlt] at hi
      dsimp only
      rw [if_neg hl]
      obtain ⟨k1, k2⟩ := h2 i e hi
      exact ⟨(k1.to (fun j => hG1 (2, i, j) (Or.inr hl))).to (fun j => lput_2), (hu.2.2.1 i hlt).trans k2⟩
  · rw [List.length_append] at hx
    have hx : 4 ≤ x.1 ∨ x.1 = 2 ∧ es.length + 1 ≤ x.2.1 := hx
    have e1 : x ≠ (1, 13, 0) := fun e => by rw [e] at hx; rcases hx with g | g; exact absurd g (by decide); exact absurd g.1 (by decide)
    have e2 : x ≠ (1, 12, 0) := fun e => by rw [e] at hx; rcases hx with g | g; exact absurd g (by decide); exact absurd g.1 (by decide)
    refine ((gup_n _ _ e1).trans (gup_n _ _ e2)).trans ((hG1 x ?_).trans (h3 x ?_)) <;> omega
/-- what stays: the reference's cells -/
def g0 (G1 G : GM) : Prop := ∀ x : Lb, x.1 = 0 → G1 x = G x
theorem g0.lput {K : GK} {aL m c : Nat} {u : Nat × Nat × (Nat → Option Nat)} {G1 G : GM} (h : g0 G1 G) : g0 (lput K aL m c u G1) G := fun x hx => by
  have e1 : x ≠ (1, 13, 0) := fun e => by rw [e] at hx; exact absurd hx (by decide)
  have e2 : x ≠ (1, 12, 0) := fun e => by rw [e] at hx; exact absurd hx (by decide)
  exact ((gup_n _ _ e1).trans (gup_n _ _ e2)).trans (h x hx)
theorem g0.gup {G : GM} {x : Lb} {q : Nat × va_E} (hx : x.1 ≠ 0) : g0 (gup G x q) G := fun y hy => gup_n _ _ (fun e => hx (by rw [← e]; exact hy))
theorem liF.new {K : GK} {G : GM} {aL m da c n : Nat} {f : Nat → Option Nat} {x : Lb} {q : Nat × va_E} (h : liF K G aL m da c n f) (h0 : G x = none) (hx : x.1 = 2) : liF K (gup G x q) aL m da c n f :=
  ⟨(gup_n _ _ (fun e => by rw [← e] at hx; exact absurd hx (by decide))).trans h.1, h.2.1.imp id (fun k => ⟨k.1, (gup_n _ _ (fun e => by rw [← e] at hx; exact absurd hx (by decide))).trans k.2⟩), h.2.2.1, h.2.2.2.1, fun i hi z hz => by
    obtain ⟨y, ci, fs, r, h1, h2, h3, h4⟩ := h.2.2.2.2.1 i hi z hz
    exact ⟨y, ci, fs, r, (gup_n _ _ (fun e => by rw [e, h0] at h1; cases h1)).trans h1, h2, h3, h4⟩, (gup_n _ _ (fun e => by rw [← e] at hx; exact absurd hx (by decide))).trans h.2.2.2.2.2⟩
