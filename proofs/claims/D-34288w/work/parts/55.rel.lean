/-! THE LAW, plain: the reference's catalogue and the system's, event by event -/
set_option maxRecDepth 100000
theorem sU_c (σ : MS) (f p : Nat) (v : Int32) (g q : Nat) : (sU σ f p v).2 g q = if g = f ∧ q = p then v else σ.2 g q := by
  show va_up σ.2 f (upd (σ.2 f) p v) g q = _
  by_cases h : g = f
  · subst h
    rw [va_up_self]
    by_cases h2 : q = p
    · subst h2
      rw [pk_us, if_pos ⟨rfl, rfl⟩]
    · rw [pk_un h2, if_neg (fun e => h2 e.2)]
  · rw [va_up_ne _ _ h, if_neg (fun e => h e.1)]
theorem sU_ne {σ : MS} {f p : Nat} {v : Int32} {g q : Nat} (h : g ≠ f ∨ q ≠ p) : (sU σ f p v).2 g q = σ.2 g q := by
  rw [sU_c, if_neg (by omega)]
theorem sU_eq {σ : MS} {f p : Nat} {v : Int32} : (sU σ f p v).2 f p = v := by
  rw [sU_c, if_pos ⟨rfl, rfl⟩]
theorem sU_id {σ : MS} {f p : Nat} {v : Int32} (h : σ.2 f p = v) : sU σ f p v = σ := by
  refine Prod.ext rfl (funext fun g => funext fun q => ?_)
  rw [sU_c]
  split
  · rename_i e
    rw [e.1, e.2, h]
  · rfl
theorem rA_s {r : RS} {j : Nat} {f : Nat → Int32} : (rA r j f).1 j = f := va_up_self _ _ _
theorem rA_o {r : RS} {j i : Nat} {f : Nat → Int32} (h : i ≠ j) : (rA r j f).1 i = r.1 i := va_up_ne _ _ h
/-- record j of the reference is r -/
def rR (σ : MS) (j : Nat) (r : RS) : Prop := (∀ k, k < 3 → σ.2 19 (3 * j + k) = r.1 1 k) ∧ (∀ k, k < 4 → σ.2 20 (4 * j + k) = r.1 2 k ∧ σ.2 21 (4 * j + k) = r.1 3 k ∧ σ.2 22 (4 * j + k) = r.1 4 k) ∧ σ.2 23 j = r.2
abbrev okV (v : Int32) : Prop := v = -1 ∨ 0 ≤ v
/-- what holds of every record -/
def rW (r : RS) : Prop := (∀ k, okV (r.1 1 k)) ∧ (∀ k, okV (r.1 2 k)) ∧ (∀ k, r.1 3 k = -1 ↔ r.1 2 k = -1) ∧ ∀ k, r.1 4 k = 0 ∨ r.1 4 k = 1
def c1R (κ : KS) (σ : MS) (j : Nat) : Prop := (κ.1 j = none → σ.2 18 j = 0) ∧ ∀ r, κ.1 j = some r → σ.2 18 j = 1 ∧ rR σ j r ∧ rW r
def zK (σ : MS) : Prop := ∀ i, σ.2 22 i = 0 ∨ σ.2 22 i = 1
/-- the reference's catalogue is κ -/
def cR (κ : KS) (σ : MS) : Prop := (∀ j, j < 80 → c1R κ σ j) ∧ zK σ
/-- row j of the catalogue is the same -/
def ag (σ τ : MS) (j : Nat) : Prop := τ.2 18 j = σ.2 18 j ∧ (∀ k, k < 3 → τ.2 19 (3 * j + k) = σ.2 19 (3 * j + k)) ∧ (∀ k, k < 4 → τ.2 20 (4 * j + k) = σ.2 20 (4 * j + k) ∧ τ.2 21 (4 * j + k) = σ.2 21 (4 * j + k) ∧ τ.2 22 (4 * j + k) = σ.2 22 (4 * j + k)) ∧ τ.2 23 j = σ.2 23 j
theorem ag.rf (σ : MS) (j : Nat) : ag σ σ j := ⟨rfl, fun _ _ => rfl, fun _ _ => ⟨rfl, rfl, rfl⟩, rfl⟩
theorem ag.tr {a b d : MS} {j : Nat} (h : ag a b j) (g : ag b d j) : ag a d j := ⟨g.1.trans h.1, fun k hk => (g.2.1 k hk).trans (h.2.1 k hk), fun k hk => ⟨(g.2.2.1 k hk).1.trans (h.2.2.1 k hk).1, (g.2.2.1 k hk).2.1.trans (h.2.2.1 k hk).2.1, (g.2.2.1 k hk).2.2.trans (h.2.2.1 k hk).2.2⟩, g.2.2.2.trans h.2.2.2⟩
theorem ag.up {σ τ : MS} {j f p : Nat} {v : Int32} (h : ag σ τ j) (hf : (18 ≠ f ∨ j ≠ p) ∧ (∀ k, k < 3 → 19 ≠ f ∨ 3 * j + k ≠ p) ∧ (∀ k, k < 4 → (20 ≠ f ∨ 4 * j + k ≠ p) ∧ (21 ≠ f ∨ 4 * j + k ≠ p) ∧ (22 ≠ f ∨ 4 * j + k ≠ p)) ∧ (23 ≠ f ∨ j ≠ p)) : ag σ (sU τ f p v) j :=
  ⟨(sU_ne hf.1).trans h.1, fun k hk => (sU_ne (hf.2.1 k hk)).trans (h.2.1 k hk), fun k hk => ⟨(sU_ne (hf.2.2.1 k hk).1).trans (h.2.2.1 k hk).1, (sU_ne (hf.2.2.1 k hk).2.1).trans (h.2.2.1 k hk).2.1, (sU_ne (hf.2.2.1 k hk).2.2).trans (h.2.2.1 k hk).2.2⟩, (sU_ne hf.2.2.2).trans h.2.2.2⟩
theorem ag.k {σ τ : MS} {j i k : Nat} {v : Int32} (h : ag σ τ j) (hij : j ≠ i) (hk : k < 3) : ag σ (sU τ 19 (3 * i + k) v) j := h.up ⟨Or.inl (by decide), fun k _ => Or.inr (by omega), fun k _ => ⟨Or.inl (by decide), Or.inl (by decide), Or.inl (by decide)⟩, Or.inl (by decide)⟩
theorem ag.f {σ τ : MS} {j i k f : Nat} {v : Int32} (h : ag σ τ j) (hf : f = 20 ∨ f = 21 ∨ f = 22) (hij : j ≠ i) (hk : k < 4) : ag σ (sU τ f (4 * i + k) v) j := h.up ⟨Or.inl (by omega), fun k _ => Or.inl (by omega), fun k _ => ⟨Or.inr (by omega), Or.inr (by omega), Or.inr (by omega)⟩, Or.inl (by omega)⟩
theorem ag.h {σ τ : MS} {j i f : Nat} {v : Int32} (h : ag σ τ j) (hf : f = 18 ∨ f = 23) (hij : j ≠ i) : ag σ (sU τ f i v) j := h.up ⟨Or.inr hij, fun k _ => Or.inl (by omega), fun k _ => ⟨Or.inl (by omega), Or.inl (by omega), Or.inl (by omega)⟩, Or.inr hij⟩
theorem ag.o {σ τ : MS} {j p f : Nat} {v : Int32} (h : ag σ τ j) (hf : f < 18 ∨ 23 < f) : ag σ (sU τ f p v) j := h.up ⟨Or.inl (by omega), fun k _ => Or.inl (by omega), fun k _ => ⟨Or.inl (by omega), Or.inl (by omega), Or.inl (by omega)⟩, Or.inl (by omega)⟩
theorem rR.mv {σ τ : MS} {j : Nat} {r : RS} (h : rR σ j r) (ha : ag σ τ j) : rR τ j r := ⟨fun k hk => (ha.2.1 k hk).trans (h.1 k hk), fun k hk => ⟨(ha.2.2.1 k hk).1.trans (h.2.1 k hk).1, (ha.2.2.1 k hk).2.1.trans (h.2.1 k hk).2.1, (ha.2.2.1 k hk).2.2.trans (h.2.1 k hk).2.2⟩, ha.2.2.2.trans h.2.2⟩
theorem c1R.mv {κ κ' : KS} {σ τ : MS} {j : Nat} (h : c1R κ σ j) (hκ : κ'.1 j = κ.1 j) (ha : ag σ τ j) : c1R κ' τ j := by
  refine ⟨fun hn => ha.1.trans (h.1 (hκ.symm.trans hn)), fun r hr => ?_⟩
  obtain ⟨h1, h2, h3⟩ := h.2 r (hκ.symm.trans hr)
  exact ⟨ha.1.trans h1, h2.mv ha, h3⟩
theorem zK.up {σ : MS} (h : zK σ) {f p : Nat} {v : Int32} (hf : f ≠ 22) : zK (sU σ f p v) := fun i => by
  rw [sU_ne (Or.inl (Ne.symm hf))]
  exact h i
theorem zK.up22 {σ : MS} (h : zK σ) {p : Nat} {v : Int32} (hv : v = 0 ∨ v = 1) : zK (sU σ 22 p v) := fun i => by
  rw [sU_c]
  split
  · exact hv
  · exact h i
theorem cR.hit {κ : KS} {σ : MS} {n p : Nat} {v w : Int32} (h : cR κ σ) : cR (kH κ n v) (sU σ 12 p w) := ⟨fun j hj => (h.1 j hj).mv rfl ((ag.rf σ j).o (by omega)), h.2.up (by decide)⟩
theorem cR.o12 {κ : KS} {σ : MS} {p : Nat} {w : Int32} (h : cR κ σ) : cR κ (sU σ 12 p w) := ⟨fun j hj => (h.1 j hj).mv rfl ((ag.rf σ j).o (by omega)), h.2.up (by decide)⟩
theorem cR.kh {κ : KS} {σ : MS} {n : Nat} {v : Int32} (h : cR κ σ) : cR (kH κ n v) σ := ⟨fun j hj => (h.1 j hj).mv rfl (ag.rf σ j), h.2⟩
/-! a record's steps -/
theorem rR.k {σ : MS} {j k : Nat} {r : RS} {v : Int32} (h : rR σ j r) (hk : k < 3) : rR (sU σ 19 (3 * j + k) v) j (rA r 1 (upd (r.1 1) k v)) := by
  refine ⟨fun i hi => ?_, fun i hi => ?_, ?_⟩
  · rw [rA_s]
    by_cases e : i = k
    · subst e
      rw [sU_eq, pk_us]
    · rw [sU_ne (by omega), pk_un e]
      exact h.1 i hi
  · rw [sU_ne (by omega), sU_ne (by omega), sU_ne (by omega), rA_o (by decide), rA_o (by decide), rA_o (by decide)]
    exact h.2.1 i hi
  · rw [sU_ne (by omega)]
    exact h.2.2
theorem rR.f {σ : MS} {j k : Nat} {r : RS} {v : Int32} (h : rR σ j r) (hk : k < 4) : rR (sU σ 20 (4 * j + k) v) j (rA r 2 (upd (r.1 2) k v)) := by
  refine ⟨fun i hi => ?_, fun i hi => ?_, ?_⟩
  · rw [sU_ne (by omega), rA_o (by decide)]
    exact h.1 i hi
  · rw [rA_s, sU_ne (g := 21) (by omega), sU_ne (g := 22) (by omega), rA_o (i := 3) (by decide), rA_o (i := 4) (by decide)]
    refine ⟨?_, (h.2.1 i hi).2⟩
    by_cases e : i = k
    · subst e
      rw [sU_eq, pk_us]
    · rw [sU_ne (by omega), pk_un e]
      exact (h.2.1 i hi).1
  · rw [sU_ne (by omega)]
    exact h.2.2
theorem rR.s {σ : MS} {j k : Nat} {r : RS} {v : Int32} (h : rR σ j r) (hk : k < 4) : rR (sU σ 21 (4 * j + k) v) j (rA r 3 (upd (r.1 3) k v)) := by
  refine ⟨fun i hi => ?_, fun i hi => ?_, ?_⟩
  · rw [sU_ne (by omega), rA_o (by decide)]
    exact h.1 i hi
  · rw [rA_s, sU_ne (g := 20) (by omega), sU_ne (g := 22) (by omega), rA_o (i := 2) (by decide), rA_o (i := 4) (by decide)]
    refine ⟨(h.2.1 i hi).1, ?_, (h.2.1 i hi).2.2⟩
    by_cases e : i = k
    · subst e
      rw [sU_eq, pk_us]
    · rw [sU_ne (by omega), pk_un e]
      exact (h.2.1 i hi).2.1
  · rw [sU_ne (by omega)]
    exact h.2.2
theorem rR.p {σ : MS} {j k : Nat} {r : RS} {v : Int32} (h : rR σ j r) (hk : k < 4) : rR (sU σ 22 (4 * j + k) v) j (rA r 4 (upd (r.1 4) k v)) := by
  refine ⟨fun i hi => ?_, fun i hi => ?_, ?_⟩
  · rw [sU_ne (by omega), rA_o (by decide)]
    exact h.1 i hi
  · rw [rA_s, sU_ne (g := 20) (by omega), sU_ne (g := 21) (by omega), rA_o (i := 2) (by decide), rA_o (i := 3) (by decide)]
    refine ⟨(h.2.1 i hi).1, (h.2.1 i hi).2.1, ?_⟩
    by_cases e : i = k
    · subst e
      rw [sU_eq, pk_us]
    · rw [sU_ne (by omega), pk_un e]
      exact (h.2.1 i hi).2.2
  · rw [sU_ne (by omega)]
    exact h.2.2
theorem rR.h {σ : MS} {j : Nat} {r : RS} {v : Int32} (h : rR σ j r) : rR (sU σ 23 j v) j (rV r v) := by
  refine ⟨fun i hi => ?_, fun i hi => ?_, sU_eq⟩
  · rw [sU_ne (by omega)]
    exact h.1 i hi
  · rw [sU_ne (by omega), sU_ne (by omega), sU_ne (by omega)]
    exact h.2.1 i hi
theorem rR.put {σ : MS} {j k : Nat} {r : RS} {v t : Int32} (h : rR σ j r) (hk : k < 4) : rR (sU (sU σ 20 (4 * j + k) v) 21 (4 * j + k) t) j (rPut r k v t) := by
  have h2 := (h.f hk (v := v)).s hk (v := t)
  rw [rA_o (i := 3) (by decide)] at h2
  exact h2
theorem rW.k {r : RS} {k : Nat} {v : Int32} (h : rW r) (hv : okV v) : rW (rA r 1 (upd (r.1 1) k v)) := by
  refine ⟨fun i => ?_, fun i => ?_, fun i => ?_, fun i => ?_⟩
  · rw [rA_s]
    by_cases e : i = k
    · subst e
      rw [pk_us]
      exact hv
    · rw [pk_un e]
      exact h.1 i
  · rw [rA_o (by decide)]
    exact h.2.1 i
  · rw [rA_o (by decide), rA_o (by decide)]
    exact h.2.2.1 i
  · rw [rA_o (by decide)]
    exact h.2.2.2 i
theorem rW.put {r : RS} {k : Nat} {v t : Int32} (h : rW r) (hv : okV v) (hvt : t = -1 ↔ v = -1) : rW (rPut r k v t) := by
  have e1 : (rPut r k v t).1 1 = r.1 1 := (rA_o (by decide)).trans (rA_o (by decide))
  have e2 : (rPut r k v t).1 2 = upd (r.1 2) k v := (rA_o (by decide)).trans rA_s
  have e3 : (rPut r k v t).1 3 = upd (r.1 3) k t := rA_s
  have e4 : (rPut r k v t).1 4 = r.1 4 := (rA_o (by decide)).trans (rA_o (by decide))
  refine ⟨fun i => ?_, fun i => ?_, fun i => ?_, fun i => ?_⟩
  · rw [e1]
    exact h.1 i
  · rw [e2]
    by_cases e : i = k
    · subst e
      rw [pk_us]
      exact hv
    · rw [pk_un e]
      exact h.2.1 i
  · rw [e2, e3]
    by_cases e : i = k
    · subst e
      rw [pk_us, pk_us]
      exact hvt
    · rw [pk_un e, pk_un e]
      exact h.2.2.1 i
  · rw [e4]
    exact h.2.2.2 i
theorem rW.p {r : RS} {k : Nat} {v : Int32} (h : rW r) (hv : v = 0 ∨ v = 1) : rW (rA r 4 (upd (r.1 4) k v)) := by
  refine ⟨fun i => ?_, fun i => ?_, fun i => ?_, fun i => ?_⟩
  · rw [rA_o (by decide)]
    exact h.1 i
  · rw [rA_o (by decide)]
    exact h.2.1 i
  · rw [rA_o (by decide), rA_o (by decide)]
    exact h.2.2.1 i
  · rw [rA_s]
    by_cases e : i = k
    · subst e
      rw [pk_us]
      exact hv
    · rw [pk_un e]
      exact h.2.2.2 i
theorem rW.h {r : RS} {v : Int32} (h : rW r) : rW (rV r v) := h
/-- record j is being changed: it is r now; the others are as κ has them; the hits are g -/
def rI (κ : KS) (j : Nat) (g : Nat → Int32) (σ : MS) (r : RS) : Prop := (∀ i, i < 80 → i ≠ j → c1R κ σ i) ∧ (σ.2 18 j = 1 ∧ σ.2 12 = g ∧ zK σ) ∧ rR σ j r ∧ rW r
theorem cR.opn {κ : KS} {σ : MS} {j : Nat} {r : RS} (h : cR κ σ) (hj : j < 80) (hr : κ.1 j = some r) : rI κ j (σ.2 12) σ r := ⟨fun i hi _ => h.1 i hi, ⟨((h.1 j hj).2 r hr).1, rfl, h.2⟩, ((h.1 j hj).2 r hr).2⟩
theorem rI.cls {κ : KS} {σ : MS} {j : Nat} {g : Nat → Int32} {r : RS} (h : rI κ j g σ r) : cR (kSet κ j r) σ := by
  refine ⟨fun i hi => ?_, h.2.1.2.2⟩
  by_cases e : i = j
  · subst e
    refine ⟨fun hn => ?_, fun r' hr' => ?_⟩
    · rw [kSet_at] at hn
      cases hn
    · rw [kSet_at] at hr'
      cases hr'
      exact ⟨h.2.1.1, h.2.2⟩
  · exact (h.1 i hi e).mv (kSet_n e) (ag.rf σ i)
theorem rI.step {κ : KS} {σ τ : MS} {j : Nat} {g : Nat → Int32} {r r' : RS} (h : rI κ j g σ r) (ha : ∀ i, i ≠ j → ag σ τ i) (h18 : τ.2 18 = σ.2 18) (h12 : τ.2 12 = σ.2 12) (hz : zK τ) (hr : rR τ j r') (hw : rW r') : rI κ j g τ r' := ⟨fun i hi e => (h.1 i hi e).mv rfl (ha i e), ⟨by rw [h18]; exact h.2.1.1, h12.trans h.2.1.2.1, hz⟩, hr, hw⟩
theorem rI.k {κ : KS} {σ : MS} {j k : Nat} {g : Nat → Int32} {r : RS} {v : Int32} (h : rI κ j g σ r) (hk : k < 3) (hv : okV v) : rI κ j g (sU σ 19 (3 * j + k) v) (rA r 1 (upd (r.1 1) k v)) := h.step (fun i e => (ag.rf σ i).k e hk) (sU_o (by decide)) (sU_o (by decide)) (h.2.1.2.2.up (by decide)) (h.2.2.1.k hk) (h.2.2.2.k hv)
theorem rI.put {κ : KS} {σ : MS} {j k : Nat} {g : Nat → Int32} {r : RS} {v t : Int32} (h : rI κ j g σ r) (hk : k < 4) (hv : okV v) (hvt : t = -1 ↔ v = -1) : rI κ j g (sU (sU σ 20 (4 * j + k) v) 21 (4 * j + k) t) (rPut r k v t) := h.step (fun i e => ((ag.rf σ i).f (by omega) e hk).f (by omega) e hk) ((sU_o (by decide)).trans (sU_o (by decide))) ((sU_o (by decide)).trans (sU_o (by decide))) ((h.2.1.2.2.up (by decide)).up (by decide)) (h.2.2.1.put hk) (h.2.2.2.put hv hvt)
theorem rI.p {κ : KS} {σ : MS} {j k : Nat} {g : Nat → Int32} {r : RS} {v : Int32} (h : rI κ j g σ r) (hk : k < 4) (hv : v = 0 ∨ v = 1) : rI κ j g (sU σ 22 (4 * j + k) v) (rA r 4 (upd (r.1 4) k v)) := h.step (fun i e => (ag.rf σ i).f (by omega) e hk) (sU_o (by decide)) (sU_o (by decide)) (h.2.1.2.2.up22 hv) (h.2.2.1.p hk) (h.2.2.2.p hv)
theorem rI.h {κ : KS} {σ : MS} {j : Nat} {g : Nat → Int32} {r : RS} {v : Int32} (h : rI κ j g σ r) : rI κ j g (sU σ 23 j v) (rV r v) := h.step (fun i e => (ag.rf σ i).h (by omega) e) (sU_o (by decide)) (sU_o (by decide)) (h.2.1.2.2.up (by decide)) h.2.2.1.h h.2.2.2.h
/-! a load laid over a record -/
theorem lay_K {κ : KS} {σ : MS} {j n : Nat} {g O : Nat → Int32} (hO : ∀ k, k < 3 → σ.2 10 (3 * n + k) = O k) (hO2 : ∀ k, okV (O k)) {r : RS} (h : rI κ j g σ r) : ∀ k, k ≤ 3 → rI κ j g (mLK n j k σ) (fKr O k r)
  | 0, _ => h
  | k + 1, hk => by
    have ih := lay_K hO hO2 h k (by omega)
    have kp1 := kp_LK n j σ k
    have e1 := ih.2.2.1.1 k (by omega)
    have e2 : (mLK n j k σ).2 10 (3 * n + k) = O k := (congrFun (kp1.2 10 (by omega) (by omega)) _).trans (hO k (by omega))
    show rI κ j g (mLKs n j k (mLK n j k σ)) (fKs O k (fKr O k r))
    unfold mLKs fKs
    rw [e1, e2]
    refine ih.k (by omega) ?_
    split
    · exact hO2 k
    · exact ih.2.2.2.1 k
theorem rI.lf {κ : KS} {τ x : MS} {j n k : Nat} {g F : Nat → Int32} {r : RS} {u : Int32} (h : rI κ j g τ r) (hk : k < 4) (e11 : τ.2 11 (4 * n + k) = F k) (e9 : τ.2 9 n = u) (e0 : τ.2 0 = x.2 0) (e1 : τ.2 1 = x.2 1) (hF : okV (F k)) (hu : ¬ u = -1) : rI κ j g (mLFs n j k τ) (lFs x F u k r) := by
  have e20 := (h.2.2.1.2.1 k hk).1
  have e21 := (h.2.2.1.2.1 k hk).2.1
  have e22 := (h.2.2.1.2.1 k hk).2.2
  unfold mLFs lFs
  rw [e11, e22, e20]
  by_cases h1 : F k = -1
  · rw [if_pos h1, if_pos h1]
    exact h
  rw [if_neg h1, if_neg h1]
  have hput : rI κ j g (mLFu n j k τ) (rPut r k (F k) u) := by
    unfold mLFu
    rw [e11, e9]
    exact h.put hk hF ⟨fun e => absurd e hu, fun e => absurd e h1⟩
  by_cases h2 : r.1 4 k = 0
  · rw [if_pos h2, if_pos h2]
    by_cases h3 : r.1 2 k = -1
    · rw [if_pos h3, if_neg (show ¬ kRep x r k u = 0 by unfold kRep; rw [if_pos h3]; decide)]
      exact hput
    · rw [if_neg h3]
      have hc : mComes n j k τ = kRep x r k u := by
        unfold mComes kRep
        rw [e0, e1, e21, e9, if_neg h3, if_neg (show ¬ r.1 3 k = -1 from fun q => h3 ((h.2.2.2.2.2.1 k).mp q))]
      rw [hc]
      split
      · exact h
      · exact hput
  · rw [if_neg h2, if_neg h2]
    exact h
theorem lay_F {κ : KS} {σ x : MS} {j n : Nat} {g F : Nat → Int32} {u : Int32} (e11 : ∀ k, k < 4 → σ.2 11 (4 * n + k) = F k) (e9 : σ.2 9 n = u) (e0 : σ.2 0 = x.2 0) (e1 : σ.2 1 = x.2 1) (hF : ∀ k, okV (F k)) (hu : ¬ u = -1) {r : RS} (h : rI κ j g σ r) : ∀ k, k ≤ 4 → rI κ j g (mLF n j k σ) (lFn x F u k r)
  | 0, _ => h
  | k + 1, hk => by
    have ih := lay_F e11 e9 e0 e1 hF hu h k (by omega)
    have kp1 := kp_LF n j σ k
    exact ih.lf (by omega) ((congrFun (kp1.2 11 (by omega) (by omega)) _).trans (e11 k (by omega))) ((congrFun (kp1.2 9 (by omega) (by omega)) _).trans e9) ((kp1.2 0 (by omega) (by omega)).trans e0) ((kp1.2 1 (by omega) (by omega)).trans e1) (hF k) hu
theorem lay_I {κ : KS} {σ x : MS} {j n : Nat} {g O F : Nat → Int32} {u : Int32} (e10 : ∀ k, k < 3 → σ.2 10 (3 * n + k) = O k) (e11 : ∀ k, k < 4 → σ.2 11 (4 * n + k) = F k) (e9 : σ.2 9 n = u) (e0 : σ.2 0 = x.2 0) (e1 : σ.2 1 = x.2 1) (hO : ∀ k, okV (O k)) (hF : ∀ k, okV (F k)) (hu : ¬ u = -1) {r : RS} (h : rI κ j g σ r) : rI κ j g (mLay σ n j) (kLay x O F u r) := by
  have kp1 := kp_LK n j σ 3
  exact lay_F (fun k hk => (congrFun (kp1.2 11 (by omega) (by omega)) _).trans (e11 k hk)) ((congrFun (kp1.2 9 (by omega) (by omega)) _).trans e9) ((kp1.2 0 (by omega) (by omega)).trans e0) ((kp1.2 1 (by omega) (by omega)).trans e1) hF hu (lay_K e10 hO h 3 (Nat.le_refl _)) 4 (Nat.le_refl _)
