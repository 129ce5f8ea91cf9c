/-! THE LAW, plain: what holds between the system's state and the reference's, and every call keeps it -/
set_option maxRecDepth 100000
/-- B batches, Ld loads, Ac acts; n calls were made -/
def RL (x : MS) (κ : KS) (es : List Ev) (σ : MS) (B Ld Ac n : Nat) : Prop :=
  (sR x σ ∧ σ.2 3 = x.2 3 ∧ σ.2 4 = x.2 4) ∧
  ((x.1 6 = nI B ∧ x.1 7 = nI Ld ∧ x.1 8 = nI Ac) ∧ σ.1 5 = nI B ∧ σ.1 7 = nI Ld ∧ σ.1 13 = nI Ac ∧ σ.1 14 = nI es.length) ∧
  (B ≤ 10 ∧ Ld ≤ n ∧ Ac ≤ n ∧ es.length ≤ n) ∧
  (nAll es 0 = Ld ∧ (Ld = 0 → es = []) ∧ okL 0 es ∧ ∀ i e, es[i]? = some e → eR e σ i) ∧
  (κ = kAll x es kZero ∧ cR κ σ ∧ hR κ σ Ld) ∧
  (wO x ∧ (∀ i, x.2 5 i = 0 ∨ x.2 5 i = 1) ∧ (∀ i, B ≤ i → x.2 5 i = 0) ∧ (∀ k, okV (x.2 3 k)) ∧ ∀ k, okV (x.2 4 k)) ∧ wF σ
theorem ag.of {σ τ : MS} {j : Nat} (h : ∀ g, 18 ≤ g → g ≤ 23 → τ.2 g = σ.2 g) : ag σ τ j := ⟨by rw [h 18 (by omega) (by omega)], fun k _ => by rw [h 19 (by omega) (by omega)], fun k _ => ⟨by rw [h 20 (by omega) (by omega)], by rw [h 21 (by omega) (by omega)], by rw [h 22 (by omega) (by omega)]⟩, by rw [h 23 (by omega) (by omega)]⟩
theorem cR.mv {κ : KS} {σ τ : MS} (h : cR κ σ) (h2 : ∀ g, 18 ≤ g → g ≤ 23 → τ.2 g = σ.2 g) : cR κ τ := ⟨fun j hj => (h.1 j hj).mv rfl (ag.of h2), fun i => by rw [h2 22 (by omega) (by omega)]; exact h.2 i⟩
theorem wF.mv {σ τ : MS} (h : wF σ) (hO : wO τ) (h2 : ∀ g, 8 ≤ g → τ.2 g = σ.2 g) : wF τ := by
  refine ⟨fun j => ?_, fun j => ?_, hO, fun j => ?_⟩
  · rw [h2 21 (by omega)]
    exact h.1 j
  · rw [h2 8 (by omega), h2 9 (by omega)]
    exact h.2.1 j
  · rw [h2 15 (by omega), h2 16 (by omega), h2 17 (by omega)]
    exact h.2.2.2 j
theorem wO.mv {x y : MS} (h : wO x) (h2 : y.2 2 = x.2 2) : wO y := fun k => by
  rw [h2]
  exact h k
theorem RL.mono {x : MS} {κ : KS} {es : List Ev} {σ : MS} {B Ld Ac n m : Nat} (h : RL x κ es σ B Ld Ac n) (hm : n ≤ m) : RL x κ es σ B Ld Ac m := ⟨h.1, h.2.1, ⟨h.2.2.1.1, by have := h.2.2.1.2.1; omega, by have := h.2.2.1.2.2.1; omega, by have := h.2.2.1.2.2.2; omega⟩, h.2.2.2⟩
/-- the settings and drafts change, alike -/
theorem RL.mv {x : MS} {κ : KS} {es : List Ev} {σ : MS} {B Ld Ac n : Nat} (h : RL x κ es σ B Ld Ac n) {y τ : MS} (hx1 : y.1 = x.1) (hs1 : ∀ g, g ≠ 24 → τ.1 g = σ.1 g) (hκ : kAll y es kZero = kAll x es kZero) (hS : sR y τ ∧ τ.2 3 = y.2 3 ∧ τ.2 4 = y.2 4) (hs2 : ∀ g, 8 ≤ g → τ.2 g = σ.2 g) (hW : wO y ∧ y.2 5 = x.2 5 ∧ (∀ k, okV (y.2 3 k)) ∧ ∀ k, okV (y.2 4 k)) : RL y κ es τ B Ld Ac n := by
  obtain ⟨h1, ⟨⟨a1, a2, a3⟩, a4, a5, a6, a7⟩, h3, ⟨b1, b2, b3, b4⟩, ⟨c1, c2, c3⟩, ⟨d1, d2, d3, d4, d5⟩, h7⟩ := h
  obtain ⟨w1, w2, w3, w4⟩ := hW
  refine ⟨hS, ⟨⟨by rw [hx1]; exact a1, by rw [hx1]; exact a2, by rw [hx1]; exact a3⟩, (hs1 5 (by decide)).trans a4, (hs1 7 (by decide)).trans a5, (hs1 13 (by decide)).trans a6, (hs1 14 (by decide)).trans a7⟩, h3, ⟨b1, b2, b3, fun i e he => (b4 i e he).to (fun g hg => hs2 g (by omega))⟩, ⟨c1.trans hκ.symm, c2.mv (fun g hg _ => hs2 g (by omega)), c3.same (hs2 12 (by decide)) rfl⟩, ⟨w1, ?_, ?_, w3, w4⟩, h7.mv (w1.mv hS.1.2.2.1) hs2⟩
  · rw [w2]
    exact d2
  · rw [w2]
    exact d3
theorem RL.t {x : MS} {κ : KS} {es : List Ev} {σ : MS} {B Ld Ac n : Nat} (h : RL x κ es σ B Ld Ac n) (v : Int32) : RL x κ es (sS σ 24 v) B Ld Ac n := h.mv (y := x) (τ := sS σ 24 v) rfl (fun g hg => sS_o hg) rfl ⟨⟨h.1.1.1, h.1.1.2.1, h.1.1.2.2.1, h.1.1.2.2.2⟩, h.1.2.1, h.1.2.2⟩ (fun _ _ => rfl) ⟨h.2.2.2.2.2.1.1, rfl, h.2.2.2.2.2.1.2.2.2.1, h.2.2.2.2.2.1.2.2.2.2⟩
theorem RL.kI {x : MS} {κ : KS} {es : List Ev} {σ : MS} {B Ld Ac n : Nat} (h : RL x κ es σ B Ld Ac n) : kIv κ Ld := by
  obtain ⟨-, -, -, ⟨b1, -, b3, -⟩, ⟨c1, -, -⟩, -, -⟩ := h
  rw [c1, ← b1]
  exact kIv.all b3 kIv.zero
/-- a record there is: something was loaded -/
theorem RL.pos {x : MS} {κ : KS} {es : List Ev} {σ : MS} {B Ld Ac n : Nat} (h : RL x κ es σ B Ld Ac n) {v : Int32} (g : kHas κ v) : 0 < Ld := by
  obtain ⟨j, hj, hv, hr, -⟩ := kR_R h.2.2.2.2.1.2.1 g
  have := h.kI.lt hr
  omega
/-! the answers of the wrapped calls: r the law's number, the next state, what lies in out -/
abbrev NX : Type := MS × KS × List Ev × Int64
def pX (c : Ex (Int32 × MS)) (x : MS) (κ : KS) (es : List Ev) (cd : Nat → Int32) (r : Int32) (q : NX) : Prop := (∃ y x', c = .ok (y, x') ∧ r = 0 ∧ q = (x', κ, es, y.toInt64)) ∨ (∃ k w, c = .error k ∧ r = cd k ∧ q = (x, κ, es, w))
abbrev eX (x : MS) (c : Ex Int32) : Ex (Int32 × MS) := c.map (fun y => (y, x))
/-- what must come of it: the reference answers r9 and is in the state τ -/
def okN (q : NX) (r r9 : Int32) (τ : MS) (n : Nat) : Prop := τ.1 24 = r ∧ (r = 0 → q.2.2.2 = r9.toInt64) ∧ ∃ B Ld Ac, RL q.1 q.2.1 q.2.2.1 τ B Ld Ac (n + 1)
def okZ (q : NX) (r r9 : Int32) (τ : MS) (n : Nat) : Prop := τ.1 24 = r ∧ (r = 0 → q.2.2.2 = (if r9 = 0 then 0 else 1)) ∧ ∃ B Ld Ac, RL q.1 q.2.1 q.2.2.1 τ B Ld Ac (n + 1)
theorem RL.upE {x : MS} {κ : KS} {es : List Ev} {σ : MS} {B Ld Ac n : Nat} (h : RL x κ es σ B Ld Ac n) (v : Int32) : ∃ B Ld Ac, RL x κ es (sS σ 24 v) B Ld Ac (n + 1) := ⟨B, Ld, Ac, (h.t v).mono (Nat.le_succ n)⟩
theorem x7_0 {x : MS} {κ : KS} {es : List Ev} {σ : MS} {B Ld Ac n : Nat} (h : RL x κ es σ B Ld Ac n) (hn : n < 64) : (σ.1 7 ≤ 0 ↔ x.1 7 = 0) ∧ (x.1 7 = 0 → Ld = 0) := by
  obtain ⟨-, ⟨⟨-, a2, -⟩, -, a5, -, -⟩, h3, -⟩ := h
  rw [a5, a2]
  have hL : Ld ≤ n := h3.2.1
  rcases Nat.eq_zero_or_pos Ld with e | e
  · subst e
    exact ⟨⟨fun _ => rfl, fun _ => by decide⟩, fun _ => rfl⟩
  · exact ⟨⟨fun q => absurd q (nI_nle e (by omega)), fun q => absurd q (nI_ne0 e (by omega))⟩, fun q => absurd q (nI_ne0 e (by omega))⟩
theorem kAll_nil {x y : MS} {es : List Ev} (h : es = []) : kAll y es kZero = kAll x es kZero := by
  subst h
  rw [kAll_nl, kAll_nl]
section OPS
variable {x : MS} {κ : KS} {es : List Ev} {σ : MS} {B Ld Ac n : Nat}
theorem L_setRank (h : RL x κ es σ B Ld Ac n) (hn : n < 64) {a v r r9 : Int32} {u9 : MS} {q : NX} (hw : pX (cSetRank x a v) x κ es nI r q) (hm : (r9, u9) = mSetRank σ a v) : okN q r r9 u9 n := by
  obtain ⟨g1, g2⟩ := x7_0 h hn
  unfold cSetRank at hw
  unfold mSetRank at hm
  by_cases h1 : inR a 0 4
  · rw [if_pos h1] at hw hm
    by_cases h2 : inR v 0 9
    · rw [if_pos h2] at hw hm
      by_cases h3 : x.1 7 = 0
      · rw [if_pos h3] at hw
        rw [if_pos (g1.mpr h3)] at hm
        cases hm
        rcases hw with ⟨y, x', e, rfl, rfl⟩ | ⟨k, w, e, -⟩
        · cases e
          refine ⟨show (sS σ 24 0).1 24 = 0 from sS_k, fun _ => by rw [h.1.1.1], B, Ld, Ac, (h.mv (y := sU x 0 (tN a) v) (τ := sU (sS σ 24 0) 0 (tN a) v) rfl (fun g hg => sS_o hg) (kAll_nil (h.2.2.2.1.2.1 (g2 h3))) ⟨⟨?_, ?_, ?_, ?_⟩, ?_, ?_⟩ (fun g hg => sU_o (by omega)) ⟨h.2.2.2.2.2.1.1.mv (sU_o (by decide)), sU_o (by decide), ?_, ?_⟩).mono (Nat.le_succ n)⟩
          · rw [sU_k, sU_k]
            exact congrArg (fun f => upd f (tN a) v) h.1.1.1
          · rw [sU_o (by decide), sU_o (by decide)]; exact h.1.1.2.1
          · rw [sU_o (by decide), sU_o (by decide)]; exact h.1.1.2.2.1
          · rw [sU_o (by decide), sU_o (by decide)]; exact h.1.1.2.2.2
          · rw [sU_o (by decide), sU_o (by decide)]; exact h.1.2.1
          · rw [sU_o (by decide), sU_o (by decide)]; exact h.1.2.2
          · rw [sU_o (by decide)]; exact h.2.2.2.2.2.1.2.2.2.1
          · rw [sU_o (by decide)]; exact h.2.2.2.2.2.1.2.2.2.2
        · cases e
      · rw [if_neg h3] at hw
        rw [if_neg (fun q => h3 (g1.mp q))] at hm
        cases hm
        rcases hw with ⟨y, x', e, -⟩ | ⟨k, w, e, rfl, rfl⟩
        · cases e
        · cases e
          exact ⟨sS_k, fun e => absurd e (by decide), h.upE 3⟩
    · rw [if_neg h2] at hw hm
      cases hm
      rcases hw with ⟨y, x', e, -⟩ | ⟨k, w, e, rfl, rfl⟩
      · cases e
      · cases e
        exact ⟨sS_k, fun e => absurd e (by decide), h.upE 2⟩
  · rw [if_neg h1] at hw hm
    cases hm
    rcases hw with ⟨y, x', e, -⟩ | ⟨k, w, e, rfl, rfl⟩
    · cases e
    · cases e
      exact ⟨sS_k, fun e => absurd e (by decide), h.upE 1⟩
theorem L_setRule (h : RL x κ es σ B Ld Ac n) (hn : n < 64) {a v r r9 : Int32} {u9 : MS} {q : NX} (hw : pX (cSetRule x a v) x κ es nI r q) (hm : (r9, u9) = mSetRule σ a v) : okN q r r9 u9 n := by
  obtain ⟨g1, g2⟩ := x7_0 h hn
  unfold cSetRule at hw
  unfold mSetRule at hm
  by_cases h1 : inR a 0 3
  · rw [if_pos h1] at hw hm
    by_cases h2 : inR v 0 2
    · rw [if_pos h2] at hw hm
      by_cases h3 : x.1 7 = 0
      · rw [if_pos h3] at hw
        rw [if_pos (g1.mpr h3)] at hm
        cases hm
        rcases hw with ⟨y, x', e, rfl, rfl⟩ | ⟨k, w, e, -⟩
        · cases e
          refine ⟨show (sS σ 24 0).1 24 = 0 from sS_k, fun _ => by rw [h.1.1.2.1], B, Ld, Ac, (h.mv (y := sU x 1 (tN a) v) (τ := sU (sS σ 24 0) 1 (tN a) v) rfl (fun g hg => sS_o hg) (kAll_nil (h.2.2.2.1.2.1 (g2 h3))) ⟨⟨?_, ?_, ?_, ?_⟩, ?_, ?_⟩ (fun g hg => sU_o (by omega)) ⟨h.2.2.2.2.2.1.1.mv (sU_o (by decide)), sU_o (by decide), ?_, ?_⟩).mono (Nat.le_succ n)⟩
          · rw [sU_o (by decide), sU_o (by decide)]; exact h.1.1.1
          · rw [sU_k, sU_k]
            exact congrArg (fun f => upd f (tN a) v) h.1.1.2.1
          · rw [sU_o (by decide), sU_o (by decide)]; exact h.1.1.2.2.1
          · rw [sU_o (by decide), sU_o (by decide)]; exact h.1.1.2.2.2
          · rw [sU_o (by decide), sU_o (by decide)]; exact h.1.2.1
          · rw [sU_o (by decide), sU_o (by decide)]; exact h.1.2.2
          · rw [sU_o (by decide)]; exact h.2.2.2.2.2.1.2.2.2.1
          · rw [sU_o (by decide)]; exact h.2.2.2.2.2.1.2.2.2.2
        · cases e
      · rw [if_neg h3] at hw
        rw [if_neg (fun q => h3 (g1.mp q))] at hm
        cases hm
        rcases hw with ⟨y, x', e, -⟩ | ⟨k, w, e, rfl, rfl⟩
        · cases e
        · cases e
          exact ⟨sS_k, fun e => absurd e (by decide), h.upE 3⟩
    · rw [if_neg h2] at hw hm
      cases hm
      rcases hw with ⟨y, x', e, -⟩ | ⟨k, w, e, rfl, rfl⟩
      · cases e
      · cases e
        exact ⟨sS_k, fun e => absurd e (by decide), h.upE 2⟩
  · rw [if_neg h1] at hw hm
    cases hm
    rcases hw with ⟨y, x', e, -⟩ | ⟨k, w, e, rfl, rfl⟩
    · cases e
    · cases e
      exact ⟨sS_k, fun e => absurd e (by decide), h.upE 1⟩
/-- setOrder: nothing is answered -/
def pO (c : Ex (Unit × MS)) (x : MS) (κ : KS) (es : List Ev) (r : Int32) (q : NX) : Prop := (∃ x' w, c = .ok ((), x') ∧ r = 0 ∧ q = (x', κ, es, w)) ∨ (∃ k w, c = .error k ∧ r = nI (k - 1) ∧ q = (x, κ, es, w))
theorem upd3_in {f : Nat → Int32} {k : Nat} {v : Int32} (h : ∀ i, vp_in (f i) 3) (hv : vp_in v 3) : ∀ i, vp_in (upd f k v i) 3 := fun i => by
  by_cases e : i = k
  · subst e
    rw [pk_us]
    exact hv
  · rw [pk_un e]
    exact h i
theorem L_setOrder (h : RL x κ es σ B Ld Ac n) (hn : n < 64) {a v d r : Int32} {u9 : MS} {q : NX} (hw : pO (cSetOrder x a v d) x κ es r q) (hm : u9 = mSetOrder σ a v d) : u9.1 24 = r ∧ ∃ B Ld Ac, RL q.1 q.2.1 q.2.2.1 u9 B Ld Ac (n + 1) := by
  obtain ⟨g1, g2⟩ := x7_0 h hn
  subst hm
  unfold cSetOrder at hw
  unfold mSetOrder
  by_cases h1 : okO a v d
  · rw [if_pos h1] at hw ⊢
    by_cases h3 : x.1 7 = 0
    · rw [if_pos h3] at hw
      rw [if_pos (g1.mpr h3)]
      rcases hw with ⟨x', w, e, rfl, rfl⟩ | ⟨k, w, e, -⟩
      · cases e
        have hO : wO (sU (sU (sU x 2 0 a) 2 1 v) 2 2 d) := fun i => by
          rw [sU_k, sU_k, sU_k]
          exact upd3_in (upd3_in (upd3_in h.2.2.2.2.2.1.1 (inR_in (n := 2) h1.1 (by decide) rfl)) (inR_in (n := 2) h1.2.1 (by decide) rfl)) (inR_in (n := 2) h1.2.2.1 (by decide) rfl) i
        have e2 : (sU (sU (sU (sS σ 24 0) 2 0 a) 2 1 v) 2 2 d).2 2 = (sU (sU (sU x 2 0 a) 2 1 v) 2 2 d).2 2 := by
          rw [sU_k, sU_k, sU_k, sU_k, sU_k, sU_k]
          exact congrArg (fun f => upd (upd (upd f 0 a) 1 v) 2 d) h.1.1.2.2.1
        have eo : ∀ g, g ≠ 2 → (sU (sU (sU (sS σ 24 0) 2 0 a) 2 1 v) 2 2 d).2 g = σ.2 g := fun g hg => (sU_o hg).trans ((sU_o hg).trans (sU_o hg))
        have ex : ∀ g, g ≠ 2 → (sU (sU (sU x 2 0 a) 2 1 v) 2 2 d).2 g = x.2 g := fun g hg => (sU_o hg).trans ((sU_o hg).trans (sU_o hg))
        refine ⟨show (sS σ 24 0).1 24 = 0 from sS_k, B, Ld, Ac, (h.mv (y := sU (sU (sU x 2 0 a) 2 1 v) 2 2 d) (τ := sU (sU (sU (sS σ 24 0) 2 0 a) 2 1 v) 2 2 d) rfl (fun g hg => sS_o hg) (kAll_nil (h.2.2.2.1.2.1 (g2 h3))) ⟨⟨?_, ?_, e2, ?_⟩, ?_, ?_⟩ (fun g hg => eo g (by omega)) ⟨hO, ex 5 (by decide), ?_, ?_⟩).mono (Nat.le_succ n)⟩
        · rw [eo 0 (by decide), ex 0 (by decide)]; exact h.1.1.1
        · rw [eo 1 (by decide), ex 1 (by decide)]; exact h.1.1.2.1
        · rw [eo 6 (by decide), ex 5 (by decide)]; exact h.1.1.2.2.2
        · rw [eo 3 (by decide), ex 3 (by decide)]; exact h.1.2.1
        · rw [eo 4 (by decide), ex 4 (by decide)]; exact h.1.2.2
        · rw [ex 3 (by decide)]; exact h.2.2.2.2.2.1.2.2.2.1
        · rw [ex 4 (by decide)]; exact h.2.2.2.2.2.1.2.2.2.2
      · cases e
    · rw [if_neg h3] at hw
      rw [if_neg (fun q => h3 (g1.mp q))]
      rcases hw with ⟨x', w, e, -⟩ | ⟨k, w, e, rfl, rfl⟩
      · cases e
      · cases e
        exact ⟨sS_k, h.upE 2⟩
  · rw [if_neg h1] at hw ⊢
    rcases hw with ⟨x', w, e, -⟩ | ⟨k, w, e, rfl, rfl⟩
    · cases e
    · cases e
      exact ⟨sS_k, h.upE 1⟩
theorem okV_in {v m : Int32} (h : inR v (-1) m) : okV v := by
  obtain ⟨h1, -⟩ := h
  rw [Int32.le_iff_toInt_le, show (-1 : Int32).toInt = -1 by decide] at h1
  by_cases e : v = -1
  · exact Or.inl e
  · refine Or.inr ?_
    rw [Int32.le_iff_toInt_le, Int32.toInt_zero]
    have e2 : v.toInt ≠ -1 := fun q => e (Int32.toInt_inj.mp (q.trans (by decide)))
    omega
theorem okV_upd {f : Nat → Int32} {k : Nat} {v : Int32} (h : ∀ i, okV (f i)) (hv : okV v) : ∀ i, okV (upd f k v i) := fun i => by
  by_cases e : i = k
  · subst e
    rw [pk_us]
    exact hv
  · rw [pk_un e]
    exact h i
theorem L_key (h : RL x κ es σ B Ld Ac n) {a v r r9 : Int32} {u9 : MS} {q : NX} (hw : pX (cKey x a v) x κ es nI r q) (hm : (r9, u9) = mKey σ a v) : okN q r r9 u9 n := by
  unfold cKey at hw
  unfold mKey at hm
  by_cases h1 : inR a 0 2
  · rw [if_pos h1] at hw hm
    by_cases h2 : inR v (-1) 49
    · rw [if_pos h2] at hw hm
      cases hm
      rcases hw with ⟨y, x', e, rfl, rfl⟩ | ⟨k, w, e, -⟩
      · cases e
        refine ⟨show (sS σ 24 0).1 24 = 0 from sS_k, fun _ => by rw [h.1.2.1], B, Ld, Ac, (h.mv (y := sU x 3 (tN a) v) (τ := sU (sS σ 24 0) 3 (tN a) v) rfl (fun g hg => sS_o hg) (kAll_c ⟨sU_o (by decide), sU_o (by decide), sU_o (by decide), sU_o (by decide)⟩ es kZero) ⟨⟨?_, ?_, ?_, ?_⟩, ?_, ?_⟩ (fun g hg => sU_o (by omega)) ⟨h.2.2.2.2.2.1.1.mv (sU_o (by decide)), sU_o (by decide), ?_, ?_⟩).mono (Nat.le_succ n)⟩
        · rw [sU_o (by decide), sU_o (by decide)]; exact h.1.1.1
        · rw [sU_o (by decide), sU_o (by decide)]; exact h.1.1.2.1
        · rw [sU_o (by decide), sU_o (by decide)]; exact h.1.1.2.2.1
        · rw [sU_o (by decide), sU_o (by decide)]; exact h.1.1.2.2.2
        · rw [sU_k, sU_k]
          exact congrArg (fun f => upd f (tN a) v) h.1.2.1
        · rw [sU_o (by decide), sU_o (by decide)]; exact h.1.2.2
        · rw [sU_k]
          exact okV_upd h.2.2.2.2.2.1.2.2.2.1 (okV_in h2)
        · rw [sU_o (by decide)]; exact h.2.2.2.2.2.1.2.2.2.2
      · cases e
    · rw [if_neg h2] at hw hm
      cases hm
      rcases hw with ⟨y, x', e, -⟩ | ⟨k, w, e, rfl, rfl⟩
      · cases e
      · cases e
        exact ⟨sS_k, fun e => absurd e (by decide), h.upE 2⟩
  · rw [if_neg h1] at hw hm
    cases hm
    rcases hw with ⟨y, x', e, -⟩ | ⟨k, w, e, rfl, rfl⟩
    · cases e
    · cases e
      exact ⟨sS_k, fun e => absurd e (by decide), h.upE 1⟩
theorem L_field (h : RL x κ es σ B Ld Ac n) {a v r r9 : Int32} {u9 : MS} {q : NX} (hw : pX (cField x a v) x κ es nI r q) (hm : (r9, u9) = mField σ a v) : okN q r r9 u9 n := by
  unfold cField at hw
  unfold mField at hm
  by_cases h1 : inR a 0 3
  · rw [if_pos h1] at hw hm
    by_cases h2 : inR v (-1) 99
    · rw [if_pos h2] at hw hm
      cases hm
      rcases hw with ⟨y, x', e, rfl, rfl⟩ | ⟨k, w, e, -⟩
      · cases e
        refine ⟨show (sS σ 24 0).1 24 = 0 from sS_k, fun _ => by rw [h.1.2.2], B, Ld, Ac, (h.mv (y := sU x 4 (tN a) v) (τ := sU (sS σ 24 0) 4 (tN a) v) rfl (fun g hg => sS_o hg) (kAll_c ⟨sU_o (by decide), sU_o (by decide), sU_o (by decide), sU_o (by decide)⟩ es kZero) ⟨⟨?_, ?_, ?_, ?_⟩, ?_, ?_⟩ (fun g hg => sU_o (by omega)) ⟨h.2.2.2.2.2.1.1.mv (sU_o (by decide)), sU_o (by decide), ?_, ?_⟩).mono (Nat.le_succ n)⟩
        · rw [sU_o (by decide), sU_o (by decide)]; exact h.1.1.1
        · rw [sU_o (by decide), sU_o (by decide)]; exact h.1.1.2.1
        · rw [sU_o (by decide), sU_o (by decide)]; exact h.1.1.2.2.1
        · rw [sU_o (by decide), sU_o (by decide)]; exact h.1.1.2.2.2
        · rw [sU_o (by decide), sU_o (by decide)]; exact h.1.2.1
        · rw [sU_k, sU_k]
          exact congrArg (fun f => upd f (tN a) v) h.1.2.2
        · rw [sU_o (by decide)]; exact h.2.2.2.2.2.1.2.2.2.1
        · rw [sU_k]
          exact okV_upd h.2.2.2.2.2.1.2.2.2.2 (okV_in h2)
      · cases e
    · rw [if_neg h2] at hw hm
      cases hm
      rcases hw with ⟨y, x', e, -⟩ | ⟨k, w, e, rfl, rfl⟩
      · cases e
      · cases e
        exact ⟨sS_k, fun e => absurd e (by decide), h.upE 2⟩
  · rw [if_neg h1] at hw hm
    cases hm
    rcases hw with ⟨y, x', e, -⟩ | ⟨k, w, e, rfl, rfl⟩
    · cases e
    · cases e
      exact ⟨sS_k, fun e => absurd e (by decide), h.upE 1⟩
theorem upd_id {f : Nat → Int32} {k : Nat} {v : Int32} (h : f k = v) : upd f k v = f := by
  funext i
  by_cases e : i = k
  · subst e
    rw [pk_us, h]
  · rw [pk_un e]
theorem L_begin (h : RL x κ es σ B Ld Ac n) {r r9 : Int32} {u9 : MS} {q : NX} (hw : pX (cBegin x) x κ es (fun k => nI (k - 2)) r q) (hm : (r9, u9) = mBegin σ B) : okN q r r9 u9 n := by
  obtain ⟨h1, ⟨⟨a1, a2, a3⟩, a4, a5, a6, a7⟩, h3, ⟨b1, b2, b3, b4⟩, ⟨c1, c2, c3⟩, ⟨d1, d2, d3, d4, d5⟩, h7⟩ := id h
  have hB : B ≤ 10 := h3.1
  unfold cBegin at hw
  unfold mBegin at hm
  rw [a1] at hw
  rw [a4] at hm
  by_cases h2 : B = 10
  · subst h2
    rw [if_pos (show (10 : Int32) ≤ nI 10 by decide)] at hw
    rw [if_pos (show nI 10 = 10 by decide)] at hm
    cases hm
    rcases hw with ⟨y, x', e, -⟩ | ⟨k, w, e, rfl, rfl⟩
    · cases e
    · cases e
      exact ⟨sS_k, fun e => absurd e (by decide), h.upE 1⟩
  · rw [if_neg (show ¬ (10 : Int32) ≤ nI B from nI_ge (a := B) (b := 10) (by omega) (by decide))] at hw
    rw [if_neg (show ¬ nI B = (10 : Int32) from fun e => h2 ((nI_eq (by omega) (by decide)).mp (show nI B = nI 10 from e)))] at hm
    cases hm
    rcases hw with ⟨y, x', e, rfl, rfl⟩ | ⟨k, w, e, -⟩
    · cases e
      rw [nI_1]
      have e6 : (sS (sU (sS σ 24 0) 6 B 0) 5 (nI (B + 1))).2 6 = σ.2 6 := by
        rw [sS_2, sU_k]
        exact upd_id (by rw [sS_2, h1.1.2.2.2]; exact d3 B (Nat.le_refl _))
      have eo : ∀ g, g ≠ 6 → (sS (sU (sS σ 24 0) 6 B 0) 5 (nI (B + 1))).2 g = σ.2 g := fun g hg => sU_o hg
      have ew : ∀ g, g ≠ 5 → g ≠ 24 → (sS (sU (sS σ 24 0) 6 B 0) 5 (nI (B + 1))).1 g = σ.1 g := fun g g5 g24 => (sS_o g5).trans (show (sS σ 24 0).1 g = σ.1 g from sS_o g24)
      refine ⟨(sS_o (by decide)).trans (show (sS σ 24 0).1 24 = 0 from sS_k), fun _ => by rw [nI_pred], B + 1, Ld, Ac, ⟨⟨?_, ?_, ?_, ?_⟩, ?_, ?_⟩, ⟨⟨sS_k, (sS_o (by decide)).trans a2, (sS_o (by decide)).trans a3⟩, sS_k, (ew 7 (by decide) (by decide)).trans a5, (ew 13 (by decide) (by decide)).trans a6, (ew 14 (by decide) (by decide)).trans a7⟩, ⟨by omega, Nat.le_succ_of_le h3.2.1, Nat.le_succ_of_le h3.2.2.1, Nat.le_succ_of_le h3.2.2.2⟩, ⟨b1, b2, b3, fun i e he => (b4 i e he).to (fun g hg => eo g (by omega))⟩, ⟨c1.trans (kAll_c ⟨rfl, rfl, rfl, rfl⟩ es kZero).symm, c2.mv (fun g hg _ => eo g (by omega)), c3.same (eo 12 (by decide)) rfl⟩, ⟨d1, d2, fun i hi => d3 i (by omega), d4, d5⟩, h7.mv (h7.2.2.1.mv (eo 2 (by decide))) (fun g hg => eo g (by omega))⟩
      · exact (eo 0 (by decide)).trans h1.1.1
      · exact (eo 1 (by decide)).trans h1.1.2.1
      · exact (eo 2 (by decide)).trans h1.1.2.2.1
      · exact e6.trans h1.1.2.2.2
      · exact (eo 3 (by decide)).trans h1.2.1
      · exact (eo 4 (by decide)).trans h1.2.2
    · cases e
end OPS
