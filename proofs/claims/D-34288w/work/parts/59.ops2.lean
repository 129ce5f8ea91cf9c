/-! THE LAW, plain: calls that make events, undoing, asking -/
set_option maxRecDepth 100000
theorem nAll_le {es : List Ev} : ∀ {N : Nat}, N ≤ nAll es N := by
  induction es with
  | nil => exact Nat.le_refl _
  | cons d es ih =>
    intro N
    have h1 : N ≤ eN N d := by
      rcases d with ⟨n, bt, u, O, F⟩ | ⟨n, f, z⟩ | n | ⟨a, b⟩
      · exact Nat.le_succ N
      · exact Nat.le_refl N
      · exact Nat.le_refl N
      · exact Nat.le_refl N
    exact Nat.le_trans h1 ih
/-- a load in the list has a number below the loads' number -/
theorem okL_lt {es : List Ev} : ∀ {N i n : Nat} {bt u : Int32} {O F : Nat → Int32}, okL N es → es[i]? = some (.inl (n, bt, u, O, F)) → n < nAll es N := by
  induction es with
  | nil => intro N i n bt u O F _ h; cases h
  | cons d es ih =>
    intro N i n bt u O F h hi
    cases i with
    | zero =>
      cases hi
      obtain ⟨rfl, -⟩ := h.1
      exact Nat.lt_of_lt_of_le (Nat.lt_succ_self n) (nAll_le (es := es) (N := n + 1))
    | succ i => exact ih h.2 hi
/-- an event is done on both sides: τ is the reference with the event put down at its end -/
theorem RL_perf {x : MS} {κ : KS} {es : List Ev} {τ : MS} {ev : Ev} {B Ld Ld' Ac n : Nat}
    (hS : sR x τ ∧ τ.2 3 = x.2 3 ∧ τ.2 4 = x.2 4)
    (hN : (x.1 6 = nI B ∧ x.1 7 = nI Ld' ∧ x.1 8 = nI Ac) ∧ τ.1 5 = nI B ∧ τ.1 7 = nI Ld' ∧ τ.1 13 = nI Ac ∧ τ.1 14 = nI (es.length + 1))
    (hb : B ≤ 10 ∧ Ld' ≤ n ∧ Ac ≤ n ∧ es.length + 1 ≤ n)
    (hE : nAll es 0 = Ld ∧ eN Ld ev = Ld' ∧ 0 < Ld' ∧ okL 0 es ∧ eOk Ld ev)
    (hev : (∀ i e, es[i]? = some e → eR e τ i) ∧ eR ev τ es.length)
    (hK : κ = kAll x es kZero ∧ cR κ τ ∧ hR κ τ Ld)
    (hW : wO x ∧ (∀ i, x.2 5 i = 0 ∨ x.2 5 i = 1) ∧ (∀ i, B ≤ i → x.2 5 i = 0) ∧ (∀ k, okV (x.2 3 k)) ∧ ∀ k, okV (x.2 4 k)) (hF : wF τ) : RL x (kDo x ev κ) (es ++ [ev]) (mPerf τ es.length) B Ld' Ac n ∧ cR (kDo x ev κ) (mPerf τ es.length) ∧ hR (kDo x ev κ) (mPerf τ es.length) Ld' := by
  obtain ⟨e1, e2, e3, e4, e5⟩ := hE
  obtain ⟨n1, n2, n3, n4, n5⟩ := hN
  obtain ⟨p1, p2⟩ := perf hS.1 hW.1 hK.2.1 hK.2.2 hev.2 e5
  rw [e2] at p2
  have kp1 := kp_Perf τ es.length
  have hlen : (es ++ [ev]).length = es.length + 1 := by rw [List.length_append]; rfl
  refine ⟨⟨⟨hS.1.kp kp1, (kp1.2 3 (by omega) (by omega)).trans hS.2.1, (kp1.2 4 (by omega) (by omega)).trans hS.2.2⟩, ⟨n1, by rw [kp1.1]; exact n2, by rw [kp1.1]; exact n3, by rw [kp1.1]; exact n4, by rw [kp1.1, hlen]; exact n5⟩, ⟨hb.1, hb.2.1, hb.2.2.1, by rw [hlen]; exact hb.2.2.2⟩, ⟨by rw [nAll_app, e1]; exact e2, fun h => absurd h (by omega), okL.app e4 (by rw [e1]; exact e5), fun i e hi => ?_⟩, ⟨by rw [kAll_app, ← hK.1], p1, p2⟩, hW, wF_Perf hF es.length⟩, p1, p2⟩
  by_cases hl : i = es.length
  · subst hl
    rw [List.getElem?_append_right (Nat.le_refl _), Nat.sub_self] at hi
    cases hi
    exact hev.2.kp kp1
  · have hlt : i < es.length := by
      have h9 := (List.getElem?_eq_some_iff.mp hi).1
      rw [hlen] at h9
      omega
    rw [List.getElem?_append_left hlt] at hi
    exact (hev.1 i e hi).kp kp1
section OPE
variable {x : MS} {κ : KS} {es : List Ev} {σ : MS} {B Ld Ac n : Nat}
theorem note_o {σ : MS} {d : Nat} {k a b : Int32} {g : Nat} (h : g ≠ 15 ∧ g ≠ 16 ∧ g ≠ 17) : (mNote σ d k a b).2 g = σ.2 g := (sU_o h.2.2).trans ((sU_o h.2.1).trans (sU_o h.1))
theorem note_1 {σ : MS} {d : Nat} {k a b : Int32} {g : Nat} (h : g ≠ 14) : (mNote σ d k a b).1 g = σ.1 g := sS_o h
theorem note_n {σ : MS} {d : Nat} {k a b : Int32} {g i : Nat} (h : i ≠ d) : (mNote σ d k a b).2 g i = σ.2 g i := (sU_ne (Or.inr h)).trans ((sU_ne (Or.inr h)).trans (sU_ne (Or.inr h)))
theorem note_d {σ : MS} {d : Nat} {k a b : Int32} : (mNote σ d k a b).2 15 d = k ∧ (mNote σ d k a b).2 16 d = a ∧ (mNote σ d k a b).2 17 d = b := by
  show (sU (sU (sU σ 15 d k) 16 d a) 17 d b).2 15 d = k ∧ (sU (sU (sU σ 15 d k) 16 d a) 17 d b).2 16 d = a ∧ (sU (sU (sU σ 15 d k) 16 d a) 17 d b).2 17 d = b
  refine ⟨?_, ?_, ?_⟩
  · rw [sU_ne (Or.inl (by decide)), sU_ne (Or.inl (by decide)), sU_eq]
  · rw [sU_ne (Or.inl (by decide)), sU_eq]
  · rw [sU_eq]
/-- an event that was put down before stays as it is -/
theorem eR.note {e : Ev} {σ τ : MS} {i : Nat} (h : eR e σ i) (h15 : ∀ g, 15 ≤ g → g ≤ 17 → τ.2 g i = σ.2 g i) (h8 : ∀ n bt u O F, e = .inl (n, bt, u, O, F) → τ.2 8 n = σ.2 8 n ∧ τ.2 9 n = σ.2 9 n ∧ (∀ k, k < 3 → τ.2 10 (3 * n + k) = σ.2 10 (3 * n + k)) ∧ ∀ k, k < 4 → τ.2 11 (4 * n + k) = σ.2 11 (4 * n + k)) : eR e τ i := by
  have q15 := h15 15 (by omega) (by omega)
  have q16 := h15 16 (by omega) (by omega)
  have q17 := h15 17 (by omega) (by omega)
  rcases e with ⟨n, bt, u, O, F⟩ | ⟨n, f, z⟩ | n | ⟨a, b⟩
  · obtain ⟨⟨a1, a2⟩, ⟨a3, a4⟩, a5, a6, a7⟩ := h
    obtain ⟨b1, b2, b3, b4⟩ := h8 n bt u O F rfl
    exact ⟨⟨q15.trans a1, q16.trans a2⟩, ⟨b1.trans a3, b2.trans a4⟩, fun k hk => (b3 k hk).trans (a5 k hk), fun k hk => (b4 k hk).trans (a6 k hk), a7⟩
  · exact ⟨q15.trans h.1, q16.trans h.2.1, q17.trans h.2.2⟩
  · exact ⟨q15.trans h.1, q16.trans h.2⟩
  · exact ⟨q15.trans h.1, q16.trans h.2.1, q17.trans h.2.2⟩
/-- an act: its event is put down -/
theorem RL.act (h : RL x κ es σ B Ld Ac n) (hn : n < 64) (hLd : 0 < Ld) {ev : Ev} {k a b : Int32} (hok : eOk Ld ev) (hN : eN Ld ev = Ld) (hev : eR ev (mNote (sS (sS σ 24 0) 13 (nI (Ac + 1))) es.length k a b) es.length) (hF : vp_in a 80 ∧ vp_in b 80 ∧ (¬ k = 0 → ¬ k = 3 → ¬ k = 4 → vp_in b 4)) : RL (sS x 8 (nI (Ac + 1))) (kDo x ev κ) (es ++ [ev]) (mAdd (sS (sS σ 24 0) 13 (nI (Ac + 1))) es.length k a b) B Ld (Ac + 1) (n + 1) ∧ cR (kDo x ev κ) (mAdd (sS (sS σ 24 0) 13 (nI (Ac + 1))) es.length k a b) := by
  obtain ⟨h1, ⟨⟨a1, a2, a3⟩, a4, a5, a6, a7⟩, h3, ⟨b1, b2, b3, b4⟩, ⟨c1, c2, c3⟩, h6, h7⟩ := id h
  have hx : sX (sS x 8 (nI (Ac + 1))) x := ⟨rfl, rfl, rfl, rfl⟩
  have eo : ∀ g, g ≠ 15 ∧ g ≠ 16 ∧ g ≠ 17 → (mNote (sS (sS σ 24 0) 13 (nI (Ac + 1))) es.length k a b).2 g = σ.2 g := fun g hg => note_o hg
  have q := RL_perf (x := sS x 8 (nI (Ac + 1))) (κ := κ) (es := es) (τ := mNote (sS (sS σ 24 0) 13 (nI (Ac + 1))) es.length k a b) (ev := ev) (B := B) (Ld := Ld) (Ld' := Ld) (Ac := Ac + 1) (n := n + 1)
    ⟨⟨(eo 0 (by decide)).trans h1.1.1, (eo 1 (by decide)).trans h1.1.2.1, (eo 2 (by decide)).trans h1.1.2.2.1, (eo 6 (by decide)).trans h1.1.2.2.2⟩, (eo 3 (by decide)).trans h1.2.1, (eo 4 (by decide)).trans h1.2.2⟩
    ⟨⟨(sS_o (by decide)).trans a1, (sS_o (by decide)).trans a2, sS_k⟩, (note_1 (by decide)).trans ((sS_o (by decide)).trans ((sS_o (by decide)).trans a4)), (note_1 (by decide)).trans ((sS_o (by decide)).trans ((sS_o (by decide)).trans a5)), (note_1 (by decide)).trans sS_k, sS_k⟩
    ⟨h3.1, by have := h3.2.1; omega, by have := h3.2.2.1; omega, by have := h3.2.2.2; omega⟩
    ⟨b1, hN, hLd, b3, hok⟩
    ⟨fun i e hi => (b4 i e hi).note (fun g _ _ => note_n (by have := (List.getElem?_eq_some_iff.mp hi).1; omega)) (fun n bt u O F _ => ⟨by rw [eo 8 (by decide)], by rw [eo 9 (by decide)], fun k _ => by rw [eo 10 (by decide)], fun k _ => by rw [eo 11 (by decide)]⟩), hev⟩
    ⟨c1.trans (kAll_c hx es kZero), c2.mv (fun g hg _ => eo g (by omega)), c3.same (eo 12 (by decide)) rfl⟩ h6 (wF_note (h7.mv h7.2.2.1 (fun _ _ => rfl)) hF.1 hF.2.1 hF.2.2)
  rw [kDo_c (x := x) (y := sS x 8 (nI (Ac + 1))) ⟨rfl, rfl, rfl, rfl⟩] at q
  exact ⟨q.1, q.2.1⟩
/-- the answers of a call that makes an event -/
def pE (c : Ex Int32) (x : MS) (κ : KS) (es : List Ev) (x' : MS) (κ' : KS) (ev : Ev) (cd : Nat → Int32) (r : Int32) (q : NX) : Prop := (∃ y, c = .ok y ∧ r = 0 ∧ q = (x', κ', es ++ [ev], y.toInt64)) ∨ (∃ k w, c = .error k ∧ r = cd k ∧ q = (x, κ, es, w))
def cd2 (k : Nat) : Int32 := if k = 3 then 2 else nI k
theorem RL.ac (h : RL x κ es σ B Ld Ac n) (hn : n < 64) : ¬ σ.1 13 = 100 ∧ σ.1 13 + 1 = nI (Ac + 1) := by
  have a6 := h.2.1.2.2.2.1
  have hA : Ac ≤ n := h.2.2.1.2.2.1
  rw [a6]
  exact ⟨fun e => absurd ((nI_eq (by omega) (by decide)).mp (show nI Ac = nI 100 from e)) (by omega), nI_1 Ac⟩
theorem L_hold (h : RL x κ es σ B Ld Ac n) (hn : n < 64) {a r r9 : Int32} {u9 : MS} {q : NX} (hw : pE (cHold κ a) x κ es (sS x 8 (nI (Ac + 1))) (kHold (tN a) κ) (.inr (.inr (.inl (tN a)))) cd2 r q) (hm : (r9, u9) = mHold σ a es.length) : okN q r r9 u9 n := by
  have hc := h.2.2.2.2.1.2.1
  obtain ⟨g1, g2⟩ := h.ac hn
  unfold cHold at hw
  unfold mHold at hm
  rw [g2] at hm
  by_cases h1 : kHas κ a
  · rw [if_pos h1] at hw
    rw [if_pos ((has_R hc a).mpr h1), if_neg g1] at hm
    cases hm
    rcases hw with ⟨y, e, rfl, rfl⟩ | ⟨k, w, e, -⟩
    · cases e
      have hp := h.pos h1
      obtain ⟨j, hj, rfl, hr, -, -⟩ := kR_R hc h1
      rw [tN_nI (by omega)]
      obtain ⟨q1, q2⟩ := h.act hn hp (ev := .inr (.inr (.inl j))) (k := 3) (a := nI j) (b := 0) hj rfl ⟨note_d.1, note_d.2.1⟩ ⟨vp_in_nI hj (by omega), vp_in_nI (n := 0) (by decide) (by decide), fun _ g => absurd rfl g⟩
      have q3 : (kDo x (.inr (.inr (.inl j))) κ).1 j = some (rV (kR κ (nI j)) ((kR κ (nI j)).2 + 1)) := by
        show (kHold j κ).1 j = _
        unfold kHold
        rw [hr]
        exact kSet_at
      refine ⟨?_, fun _ => ?_, B, Ld, Ac + 1, q1⟩
      · exact (congrFun (kp_Perf _ _).1 24).trans ((note_1 (by decide)).trans ((sS_o (by decide)).trans sS_k))
      · exact congrArg Int32.toInt64 (((q2.1 j hj).2 _ q3).2.1.2.2).symm
    · cases e
  · rw [if_neg h1] at hw
    rw [if_neg (fun g => h1 ((has_R hc a).mp g))] at hm
    cases hm
    rcases hw with ⟨y, e, -⟩ | ⟨k, w, e, rfl, rfl⟩
    · cases e
    · cases e
      exact ⟨sS_k, fun e => absurd e (by decide), h.upE 1⟩
/-- for a yes or no -/
def pEz (c : Ex Int32) (x : MS) (κ : KS) (es : List Ev) (x' : MS) (κ' : KS) (ev : Ev) (cd : Nat → Int32) (r : Int32) (q : NX) : Prop := (∃ y, c = .ok y ∧ r = 0 ∧ q = (x', κ', es ++ [ev], if y = 0 then 0 else 1)) ∨ (∃ k w, c = .error k ∧ r = cd k ∧ q = (x, κ, es, w))
theorem L_protect (h : RL x κ es σ B Ld Ac n) (hn : n < 64) {a v z r r9 : Int32} (hz : z = 0 ∨ z = 1) {u9 : MS} {q : NX} (hw : pEz (cProtect κ a v) x κ es (sS x 8 (nI (Ac + 1))) (kProt (tN a) (tN v) z κ) (.inr (.inl (tN a, tN v, z))) cd2 r q) (hm : (r9, u9) = mProtect σ a v z es.length) : okZ q r r9 u9 n := by
  have hc := h.2.2.2.2.1.2.1
  obtain ⟨g1, g2⟩ := h.ac hn
  unfold cProtect at hw
  unfold mProtect at hm
  rw [g2] at hm
  by_cases h1 : kHas κ a
  · rw [if_pos h1] at hw
    rw [if_pos ((has_R hc a).mpr h1)] at hm
    by_cases h2 : inR v 0 3
    · rw [if_pos h2] at hw hm
      rw [if_neg g1] at hm
      cases hm
      rcases hw with ⟨y, e, rfl, rfl⟩ | ⟨k, w, e, -⟩
      · cases e
        have hp := h.pos h1
        obtain ⟨j, hj, rfl, hr, hR9, -⟩ := kR_R hc h1
        obtain ⟨f, hf, rfl⟩ := inR_nI (n := 3) h2 (by decide)
        rw [tN_nI (by omega), tN_nI (by omega)]
        have ek : (if z = 0 then (2 : Int32) else 1) ≠ 0 := by split <;> decide
        obtain ⟨q1, q2⟩ := h.act hn hp (ev := .inr (.inl (j, f, z))) (k := if z = 0 then 2 else 1) (a := nI j) (b := nI f) ⟨hj, by omega, hz⟩ rfl ⟨note_d.1, note_d.2.1, note_d.2.2⟩ ⟨vp_in_nI hj (by omega), vp_in_nI (by omega) (by omega), fun _ _ _ => vp_in_nI (by omega) (by omega)⟩
        refine ⟨?_, fun _ => ?_, B, Ld, Ac + 1, q1⟩
        · exact (congrFun (kp_Perf _ _).1 24).trans ((note_1 (by decide)).trans ((sS_o (by decide)).trans sS_k))
        · rw [(hR9.2.1 f (by omega)).2.2]
      · cases e
    · rw [if_neg h2] at hw hm
      cases hm
      rcases hw with ⟨y, e, -⟩ | ⟨k, w, e, rfl, rfl⟩
      · cases e
      · cases e
        exact ⟨sS_k, fun e => absurd e (by decide), h.upE 1⟩
  · rw [if_neg h1] at hw
    rw [if_neg (fun g => h1 ((has_R hc a).mp g))] at hm
    cases hm
    rcases hw with ⟨y, e, -⟩ | ⟨k, w, e, rfl, rfl⟩
    · cases e
    · cases e
      exact ⟨sS_k, fun e => absurd e (by decide), h.upE 1⟩
theorem L_merge (h : RL x κ es σ B Ld Ac n) (hn : n < 64) {a d r r9 : Int32} {u9 : MS} {q : NX} (hw : pE (cMerge κ a d) x κ es (sS x 8 (nI (Ac + 1))) (kJoin (tN a) (tN d) κ) (.inr (.inr (.inr (tN a, tN d)))) nI r q) (hm : (r9, u9) = mJoin σ a d es.length) : okN q r r9 u9 n := by
  have hc := h.2.2.2.2.1.2.1
  obtain ⟨g1, g2⟩ := h.ac hn
  unfold cMerge at hw
  unfold mJoin at hm
  rw [g2] at hm
  by_cases h1 : kHas κ a
  · rw [if_pos h1] at hw
    rw [if_pos ((has_R hc a).mpr h1)] at hm
    by_cases h2 : kHas κ d
    · rw [if_pos h2] at hw
      rw [if_pos ((has_R hc d).mpr h2)] at hm
      by_cases h3 : a = d
      · rw [if_pos h3] at hw hm
        cases hm
        rcases hw with ⟨y, e, -⟩ | ⟨k, w, e, rfl, rfl⟩
        · cases e
        · cases e
          exact ⟨sS_k, fun e => absurd e (by decide), h.upE 2⟩
      · rw [if_neg h3] at hw hm
        rw [if_neg g1] at hm
        cases hm
        rcases hw with ⟨y, e, rfl, rfl⟩ | ⟨k, w, e, -⟩
        · cases e
          have hp := h.pos h1
          obtain ⟨j, hj, rfl, hr, -, -⟩ := kR_R hc h1
          obtain ⟨i, hi, rfl, hr2, -, -⟩ := kR_R hc h2
          have hij : j ≠ i := nI_neq h3
          rw [tN_nI (by omega), tN_nI (by omega)]
          obtain ⟨q1, q2⟩ := h.act hn hp (ev := .inr (.inr (.inr (j, i)))) (k := 4) (a := nI j) (b := nI i) ⟨hj, hi, hij⟩ rfl ⟨note_d.1, note_d.2.1, note_d.2.2⟩ ⟨vp_in_nI hj (by omega), vp_in_nI hi (by omega), fun _ _ g => absurd rfl g⟩
          generalize kR κ (nI j) = ra at hr q2 ⊢
          generalize kR κ (nI i) = rb at hr2 q2 ⊢
          have q3 : (kDo x (.inr (.inr (.inr (j, i)))) κ).1 i = some (gFn ra 4 (fill (ra.1 1) (rV rb (rb.2 + ra.2)))) := by
            show (kJoin j i κ).1 i = _
            unfold kJoin
            rw [hr]
            dsimp only
            rw [hr2]
            exact (va_up_ne _ _ (Ne.symm hij)).trans kSet_at
          have q4 : (gFn ra 4 (fill (ra.1 1) (rV rb (rb.2 + ra.2)))).2 = rb.2 + ra.2 := (gFn_2 ra _ 4).trans (fKr_2 _ _ 3).2.2.2
          refine ⟨?_, fun _ => ?_, B, Ld, Ac + 1, q1⟩
          · exact (congrFun (kp_Perf _ _).1 24).trans ((note_1 (by decide)).trans ((sS_o (by decide)).trans sS_k))
          · exact congrArg Int32.toInt64 ((((q2.1 i hi).2 _ q3).2.1.2.2).trans q4).symm
        · cases e
    · rw [if_neg h2] at hw
      rw [if_neg (fun g => h2 ((has_R hc d).mp g))] at hm
      cases hm
      rcases hw with ⟨y, e, -⟩ | ⟨k, w, e, rfl, rfl⟩
      · cases e
      · cases e
        exact ⟨sS_k, fun e => absurd e (by decide), h.upE 1⟩
  · rw [if_neg h1] at hw
    rw [if_neg (fun g => h1 ((has_R hc a).mp g))] at hm
    cases hm
    rcases hw with ⟨y, e, -⟩ | ⟨k, w, e, rfl, rfl⟩
    · cases e
    · cases e
      exact ⟨sS_k, fun e => absurd e (by decide), h.upE 1⟩
end OPE
