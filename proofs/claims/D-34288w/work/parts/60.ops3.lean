/-! THE LAW, plain: load, undo, digestAnew, and what is only asked -/
set_option maxRecDepth 100000
theorem mP1_r (n : Nat) (σ : MS) : ∀ k, (∀ i, i < k → (mP1 n k σ).2 10 (3 * n + i) = σ.2 3 i) ∧ ∀ p, (p < 3 * n ∨ 3 * n + k ≤ p) → (mP1 n k σ).2 10 p = σ.2 10 p
  | 0 => ⟨fun i hi => absurd hi (Nat.not_lt_zero i), fun _ _ => rfl⟩
  | k + 1 => by
    obtain ⟨h1, h2⟩ := mP1_r n σ k
    have h3 : (mP1 n k σ).2 3 = σ.2 3 := mP1_o (by decide) σ k
    show (∀ i, i < k + 1 → (sU (mP1 n k σ) 10 (3 * n + k) ((mP1 n k σ).2 3 k)).2 10 (3 * n + i) = σ.2 3 i) ∧ ∀ p, (p < 3 * n ∨ 3 * n + (k + 1) ≤ p) → (sU (mP1 n k σ) 10 (3 * n + k) ((mP1 n k σ).2 3 k)).2 10 p = σ.2 10 p
    refine ⟨fun i hi => ?_, fun p hp => ?_⟩
    · by_cases e : i = k
      · subst e
        rw [sU_eq, h3]
      · rw [sU_ne (by omega)]
        exact h1 i (by omega)
    · rw [sU_ne (by omega)]
      exact h2 p (by omega)
theorem mP2_r (n : Nat) (σ : MS) : ∀ k, (∀ i, i < k → (mP2 n k σ).2 11 (4 * n + i) = σ.2 4 i) ∧ ∀ p, (p < 4 * n ∨ 4 * n + k ≤ p) → (mP2 n k σ).2 11 p = σ.2 11 p
  | 0 => ⟨fun i hi => absurd hi (Nat.not_lt_zero i), fun _ _ => rfl⟩
  | k + 1 => by
    obtain ⟨h1, h2⟩ := mP2_r n σ k
    have h3 : (mP2 n k σ).2 4 = σ.2 4 := mP2_o (by decide) σ k
    show (∀ i, i < k + 1 → (sU (mP2 n k σ) 11 (4 * n + k) ((mP2 n k σ).2 4 k)).2 11 (4 * n + i) = σ.2 4 i) ∧ ∀ p, (p < 4 * n ∨ 4 * n + (k + 1) ≤ p) → (sU (mP2 n k σ) 11 (4 * n + k) ((mP2 n k σ).2 4 k)).2 11 p = σ.2 11 p
    refine ⟨fun i hi => ?_, fun p hp => ?_⟩
    · by_cases e : i = k
      · subst e
        rw [sU_eq, h3]
      · rw [sU_ne (by omega)]
        exact h1 i (by omega)
    · rw [sU_ne (by omega)]
      exact h2 p (by omega)
theorem mD1_r (σ : MS) : ∀ k, (mD1 k σ).2 3 = fM1 (σ.2 3) k
  | 0 => rfl
  | k + 1 => by
    show (sU (mD1 k σ) 3 k (-1)).2 3 = upd (fM1 (σ.2 3) k) k (-1)
    rw [sU_k, mD1_r σ k]
theorem mD2_r (σ : MS) : ∀ k, (mD2 k σ).2 4 = fM1 (σ.2 4) k
  | 0 => rfl
  | k + 1 => by
    show (sU (mD2 k σ) 4 k (-1)).2 4 = upd (fM1 (σ.2 4) k) k (-1)
    rw [sU_k, mD2_r σ k]
theorem fM1_ok {f : Nat → Int32} (h : ∀ i, okV (f i)) : ∀ k i, okV (fM1 f k i)
  | 0, i => h i
  | k + 1, i => okV_upd (fM1_ok h k) (Or.inl rfl) i
theorem put_3 (σ : MS) (s : Int32) (n b : Nat) : (mPut σ s n b).2 3 = fM1 (σ.2 3) 3 ∧ (mPut σ s n b).2 4 = fM1 (σ.2 4) 4 := by
  unfold mPut mDraft
  refine ⟨?_, ?_⟩
  · rw [mD2_o (by decide), mD1_r, mP2_o (by decide), mP1_o (by decide), sU_o (by decide), sU_o (by decide)]
    rfl
  · rw [mD2_r, mD1_o (by decide), mP2_o (by decide), mP1_o (by decide), sU_o (by decide), sU_o (by decide)]
    rfl
theorem put_10 (σ : MS) (s : Int32) (n b : Nat) : (∀ i, i < 3 → (mPut σ s n b).2 10 (3 * n + i) = σ.2 3 i) ∧ ∀ p, (p < 3 * n ∨ 3 * n + 3 ≤ p) → (mPut σ s n b).2 10 p = σ.2 10 p := by
  unfold mPut
  rw [mDraft_o (by decide) (by decide), mP2_o (by decide)]
  obtain ⟨h1, h2⟩ := mP1_r n (sU (sU (sS (sS σ 24 0) 7 (nI (n + 1))) 8 n (nI (b - 1))) 9 n s) 3
  refine ⟨fun i hi => (h1 i hi).trans ?_, fun p hp => (h2 p hp).trans ?_⟩
  · rw [sU_o (by decide), sU_o (by decide)]
    rfl
  · rw [sU_o (by decide), sU_o (by decide)]
    rfl
theorem put_11 (σ : MS) (s : Int32) (n b : Nat) : (∀ i, i < 4 → (mPut σ s n b).2 11 (4 * n + i) = σ.2 4 i) ∧ ∀ p, (p < 4 * n ∨ 4 * n + 4 ≤ p) → (mPut σ s n b).2 11 p = σ.2 11 p := by
  unfold mPut
  rw [mDraft_o (by decide) (by decide)]
  obtain ⟨h1, h2⟩ := mP2_r n (mP1 n 3 (sU (sU (sS (sS σ 24 0) 7 (nI (n + 1))) 8 n (nI (b - 1))) 9 n s)) 4
  refine ⟨fun i hi => (h1 i hi).trans ?_, fun p hp => (h2 p hp).trans ?_⟩
  · rw [mP1_o (by decide), sU_o (by decide), sU_o (by decide)]
    rfl
  · rw [mP1_o (by decide), sU_o (by decide), sU_o (by decide)]
    rfl
theorem put_8 (σ : MS) (s : Int32) (n b : Nat) : (mPut σ s n b).2 8 = upd (σ.2 8) n (nI (b - 1)) ∧ (mPut σ s n b).2 9 = upd (σ.2 9) n s := by
  refine ⟨?_, ?_⟩
  · rw [mPut_o (by decide) (by decide) (by decide) (by decide), sU_o (by decide), sU_k]
    rfl
  · rw [mPut_o (by decide) (by decide) (by decide) (by decide), sU_k, sU_o (by decide)]
    rfl
theorem put_g {σ : MS} {s : Int32} {n b g : Nat} (h : g ≠ 3 ∧ g ≠ 4 ∧ g ≠ 8 ∧ g ≠ 9 ∧ g ≠ 10 ∧ g ≠ 11) : (mPut σ s n b).2 g = σ.2 g := by
  rw [mPut_o h.1 h.2.1 h.2.2.2.2.1 h.2.2.2.2.2, sU_o h.2.2.2.1, sU_o h.2.2.1]
  rfl
section OPL
variable {x : MS} {κ : KS} {es : List Ev} {σ : MS} {B Ld Ac n : Nat}
/-- load's answers: what the catalogue's hits then say of it -/
def pL (x : MS) (κ : KS) (es : List Ev) (B Ld : Nat) (a r : Int32) (q : NX) : Prop := (cLoad x a = .ok () ∧ r = 0 ∧ q = (xLoad x Ld, kDo (xLoad x Ld) (.inl (Ld, nI (B - 1), a, x.2 3, x.2 4)) κ, es ++ [.inl (Ld, nI (B - 1), a, x.2 3, x.2 4)], ((kDo (xLoad x Ld) (.inl (Ld, nI (B - 1), a, x.2 3, x.2 4)) κ).2 Ld).toInt64)) ∨ (∃ k w, cLoad x a = .error k ∧ r = cd2 k ∧ q = (x, κ, es, w))
theorem L_load (h : RL x κ es σ B Ld Ac n) (hn : n < 64) {a r r9 : Int32} {u9 : MS} {q : NX} (hw : pL x κ es B Ld a r q) (hm : (r9, u9) = mLoad σ a Ld B es.length) : okN q r r9 u9 n := by
  obtain ⟨h1, ⟨⟨a1, a2, a3⟩, a4, a5, a6, a7⟩, h3, ⟨b1, b2, b3, b4⟩, ⟨c1, c2, c3⟩, ⟨d1, d2, d3, d4, d5⟩, h7⟩ := id h
  have hB : B ≤ 10 := h3.1
  have hL : Ld ≤ n := h3.2.1
  unfold pL cLoad at hw
  unfold mLoad at hm
  rw [a1] at hw
  rw [a4, a5] at hm
  by_cases g1 : inR a 0 4
  · rw [if_pos g1] at hw hm
    have e80 : ¬ nI Ld = 80 := fun e => absurd ((nI_eq (by omega) (by decide)).mp (show nI Ld = nI 80 from e)) (by omega)
    by_cases g2 : B = 0
    · subst g2
      rw [if_pos (show nI 0 ≤ 0 by decide)] at hw
      rw [if_pos (show nI 0 = 0 by decide)] at hm
      cases hm
      rcases hw with ⟨e, -⟩ | ⟨k, w, e, rfl, rfl⟩
      · cases e
      · cases e
        exact ⟨sS_k, fun e => absurd e (by decide), h.upE 2⟩
    · rw [if_neg (nI_nle (by omega) (by omega))] at hw
      rw [if_neg (nI_ne0 (by omega) (by omega)), if_neg e80] at hm
      cases hm
      rcases hw with ⟨-, rfl, rfl⟩ | ⟨k, w, e, -⟩
      · obtain ⟨p3, p4⟩ := put_3 σ a Ld B
        obtain ⟨p8, p9⟩ := put_8 σ a Ld B
        obtain ⟨p10, p10'⟩ := put_10 σ a Ld B
        obtain ⟨p11, p11'⟩ := put_11 σ a Ld B
        have hx : sX (xLoad x Ld) x := ⟨rfl, rfl, rfl, rfl⟩
        have x3 : (xLoad x Ld).2 3 = fM1 (x.2 3) 3 := rfl
        have x4 : (xLoad x Ld).2 4 = fM1 (x.2 4) 4 := rfl
        have eo : ∀ g, g ≠ 3 ∧ g ≠ 4 ∧ g ≠ 8 ∧ g ≠ 9 ∧ g ≠ 10 ∧ g ≠ 11 → g ≠ 15 ∧ g ≠ 16 ∧ g ≠ 17 → (mNote (mPut σ a Ld B) es.length 0 (nI Ld) 0).2 g = σ.2 g := fun g hg hg2 => (note_o hg2).trans (put_g hg)
        have q := RL_perf (x := xLoad x Ld) (κ := κ) (es := es) (τ := mNote (mPut σ a Ld B) es.length 0 (nI Ld) 0) (ev := .inl (Ld, nI (B - 1), a, x.2 3, x.2 4)) (B := B) (Ld := Ld) (Ld' := Ld + 1) (Ac := Ac) (n := n + 1)
          ⟨⟨(eo 0 (by decide) (by decide)).trans h1.1.1, (eo 1 (by decide) (by decide)).trans h1.1.2.1, (eo 2 (by decide) (by decide)).trans h1.1.2.2.1, (eo 6 (by decide) (by decide)).trans h1.1.2.2.2⟩, (note_o (by decide)).trans (p3.trans (by rw [h1.2.1, x3])), (note_o (by decide)).trans (p4.trans (by rw [h1.2.2, x4]))⟩
          ⟨⟨a1, rfl, a3⟩, (note_1 (by decide)).trans ((congrFun (mPut_1 σ a Ld B) 5).trans a4), (note_1 (by decide)).trans (congrFun (mPut_1 σ a Ld B) 7), (note_1 (by decide)).trans ((congrFun (mPut_1 σ a Ld B) 13).trans a6), sS_k⟩
          ⟨hB, by omega, by have := h3.2.2.1; omega, by have := h3.2.2.2; omega⟩
          ⟨b1, rfl, by omega, b3, ⟨rfl, by omega, vp_in_nI (by omega) (by omega), inR_in (n := 4) g1 (by decide) rfl⟩⟩
          ⟨fun i e hi => (b4 i e hi).note (fun g e1 e2 => (note_n (by have := (List.getElem?_eq_some_iff.mp hi).1; omega)).trans (by rw [put_g (by omega)])) (fun m bt u O F he => ?_), ⟨⟨note_d.1, note_d.2.1⟩, ⟨?_, ?_⟩, fun k hk => ?_, fun k hk => ?_, d4, d5⟩⟩
          ⟨c1.trans (kAll_c hx es kZero), c2.mv (fun g hg _ => eo g (by omega) (by omega)), c3.same (eo 12 (by decide) (by decide)) rfl⟩
          ⟨d1, d2, d3, fun k => by rw [x3]; exact fM1_ok d4 3 k, fun k => by rw [x4]; exact fM1_ok d5 4 k⟩ (wF_note (wF_put h7 (inR_in (n := 4) g1 (by decide) rfl) hB) (vp_in_nI (by omega) (by omega)) (vp_in_nI (n := 0) (by decide) (by decide)) (fun g => absurd rfl g))
        · refine ⟨?_, fun _ => ?_, B, Ld + 1, Ac, q.1⟩
          · exact (congrFun (kp_Perf _ _).1 24).trans ((note_1 (by decide)).trans ((congrFun (mPut_1 σ a Ld B) 24).trans ((sS_o (by decide)).trans sS_k)))
          · exact congrArg Int32.toInt64 (q.2.2 Ld (Nat.lt_succ_self Ld)).symm
        · have hlt : m < Ld := by
            rw [← b1]
            rw [he] at hi
            exact okL_lt b3 hi
          have q8 : (mNote (mPut σ a Ld B) es.length 0 (nI Ld) 0).2 8 = upd (σ.2 8) Ld (nI (B - 1)) := (note_o (by decide)).trans p8
          have q9 : (mNote (mPut σ a Ld B) es.length 0 (nI Ld) 0).2 9 = upd (σ.2 9) Ld a := (note_o (by decide)).trans p9
          refine ⟨?_, ?_, fun k hk => ?_, fun k hk => ?_⟩
          · rw [q8, pk_un (by omega)]
          · rw [q9, pk_un (by omega)]
          · exact (congrFun (note_o (by decide)) _).trans (p10' _ (by omega))
          · exact (congrFun (note_o (by decide)) _).trans (p11' _ (by omega))
        · exact (congrFun ((note_o (by decide)).trans p8) Ld).trans pk_us
        · exact (congrFun ((note_o (by decide)).trans p9) Ld).trans pk_us
        · exact (congrFun (note_o (by decide)) _).trans ((p10 k hk).trans (by rw [h1.2.1]))
        · exact (congrFun (note_o (by decide)) _).trans ((p11 k hk).trans (by rw [h1.2.2]))
      · cases e
  · rw [if_neg g1] at hw hm
    cases hm
    rcases hw with ⟨e, -⟩ | ⟨k, w, e, rfl, rfl⟩
    · cases e
    · cases e
      exact ⟨sS_k, fun e => absurd e (by decide), h.upE 1⟩
/-- the loader's undo: the next state -/
def cUndo (x : MS) (es : List Ev) (a z : Int32) : Ex Int32 := if inR a 0 (x.1 6 - 1) then (if x.2 5 (tN a) = z then .error 3 else .ok (kCnt (kAll (sU x 5 (tN a) z) es kZero) 80)) else .error 1
def pU (x : MS) (κ : KS) (es : List Ev) (a z r : Int32) (q : NX) : Prop := (∃ y, cUndo x es a z = .ok y ∧ r = 0 ∧ q = (sU x 5 (tN a) z, kAll (sU x 5 (tN a) z) es kZero, es, y.toInt64)) ∨ (∃ k w, cUndo x es a z = .error k ∧ r = cd2 k ∧ q = (x, κ, es, w))
theorem RL.anew (h : RL x κ es σ B Ld Ac n) {y τ : MS} (hx1 : y.1 = x.1) (hs1 : ∀ g, g ≠ 24 → τ.1 g = σ.1 g) (hS : sR y τ) (hy : ∀ g, g ≠ 5 → y.2 g = x.2 g) (hτ : ∀ g, g ≠ 6 → τ.2 g = σ.2 g) (hz : (∀ i, y.2 5 i = 0 ∨ y.2 5 i = 1) ∧ ∀ i, B ≤ i → y.2 5 i = 0) : RL y (kAll y es kZero) es (mAnew τ es.length) B Ld Ac n := by
  obtain ⟨h1, ⟨⟨a1, a2, a3⟩, a4, a5, a6, a7⟩, h3, ⟨b1, b2, b3, b4⟩, ⟨c1, c2, c3⟩, ⟨d1, d2, d3, d4, d5⟩, h7⟩ := h
  have hO : wO y := d1.mv (hy 2 (by decide))
  have he : ∀ i e, es[i]? = some e → eR e τ i := fun i e hi => (b4 i e hi).to (fun g hg => hτ g (by omega))
  obtain ⟨q1, q2⟩ := anew_R hS hO b3 he (fun i => by rw [hτ 22 (by decide)]; exact c2.2 i)
  have kp1 := kp_Anew τ es.length
  have hwF : wF τ := h7.mv (h7.2.2.1.mv (hτ 2 (by decide))) (fun g hg => hτ g (by omega))
  refine ⟨⟨hS.kp kp1, ?_, ?_⟩, ⟨⟨by rw [hx1]; exact a1, by rw [hx1]; exact a2, by rw [hx1]; exact a3⟩, by rw [kp1.1]; exact (hs1 5 (by decide)).trans a4, by rw [kp1.1]; exact (hs1 7 (by decide)).trans a5, by rw [kp1.1]; exact (hs1 13 (by decide)).trans a6, by rw [kp1.1]; exact (hs1 14 (by decide)).trans a7⟩, h3, ⟨b1, b2, b3, fun i e hi => (he i e hi).kp kp1⟩, ⟨rfl, q1, by rw [← b1]; exact q2⟩, ⟨hO, hz.1, hz.2, ?_, ?_⟩, wF_Anew hwF es.length⟩
  · rw [kp1.2 3 (by omega) (by omega), hτ 3 (by decide), hy 3 (by decide)]
    exact h1.2.1
  · rw [kp1.2 4 (by omega) (by omega), hτ 4 (by decide), hy 4 (by decide)]
    exact h1.2.2
  · rw [hy 3 (by decide)]
    exact d4
  · rw [hy 4 (by decide)]
    exact d5
theorem anew_24 (σ : MS) (d : Nat) : (mAnew σ d).1 24 = σ.1 24 := by rw [(kp_Anew σ d).1]
theorem L_undo (h : RL x κ es σ B Ld Ac n) {a z r r9 : Int32} (hz : z = 0 ∨ z = 1) {u9 : MS} {q : NX} (hw : pU x κ es a z r q) (hm : (r9, u9) = mUndo σ a z es.length) : okN q r r9 u9 n := by
  have e6 : σ.2 6 = x.2 5 := h.1.1.2.2.2
  have e5 : σ.1 5 = nI B := h.2.1.2.1
  have a1 : x.1 6 = nI B := h.2.1.1.1
  have hB : B ≤ 10 := h.2.2.1.1
  unfold pU cUndo at hw
  unfold mUndo at hm
  rw [a1] at hw
  rw [e6, e5] at hm
  by_cases g1 : inR a 0 (nI B - 1)
  · rw [if_pos g1] at hw hm
    by_cases g2 : x.2 5 (tN a) = z
    · rw [if_pos g2] at hw hm
      cases hm
      rcases hw with ⟨y, e, -⟩ | ⟨k, w, e, rfl, rfl⟩
      · cases e
      · cases e
        exact ⟨sS_k, fun e => absurd e (by decide), h.upE 2⟩
    · rw [if_neg g2] at hw hm
      cases hm
      rcases hw with ⟨y, e, rfl, rfl⟩ | ⟨k, w, e, -⟩
      · cases e
        have hb := (inR_b (b := B) (n := 10) g1 hB (by decide)).2
        have q := h.anew (y := sU x 5 (tN a) z) (τ := sU (sS σ 24 0) 6 (tN a) z) rfl (fun g hg => sS_o hg) ⟨?_, ?_, ?_, ?_⟩ (fun g hg => sU_o hg) (fun g hg => sU_o hg) ⟨fun i => ?_, fun i hi => ?_⟩
        · refine ⟨(anew_24 _ _).trans (show (sS σ 24 0).1 24 = 0 from sS_k), fun _ => ?_, B, Ld, Ac, q.mono (Nat.le_succ n)⟩
          exact congrArg Int32.toInt64 (cnt_R q.2.2.2.2.1.2.1 80 (Nat.le_refl _)).symm
        · rw [sU_o (by decide), sU_o (by decide)]; exact h.1.1.1
        · rw [sU_o (by decide), sU_o (by decide)]; exact h.1.1.2.1
        · rw [sU_o (by decide), sU_o (by decide)]; exact h.1.1.2.2.1
        · rw [sU_k, sU_k]
          exact congrArg (fun f => upd f (tN a) z) e6
        · rw [sU_c]
          split
          · exact hz
          · exact h.2.2.2.2.2.1.2.1 i
        · rw [sU_ne (Or.inr (by omega))]
          exact h.2.2.2.2.2.1.2.2.1 i hi
      · cases e
  · rw [if_neg g1] at hw hm
    cases hm
    rcases hw with ⟨y, e, -⟩ | ⟨k, w, e, rfl, rfl⟩
    · cases e
    · cases e
      exact ⟨sS_k, fun e => absurd e (by decide), h.upE 1⟩
theorem L_digestAnew (h : RL x κ es σ B Ld Ac n) : mSum (mAnew (sS σ 24 0) es.length) 80 = kSum (kAll x es kZero) 80 ∧ ∃ B Ld Ac, RL x κ es (mAnew (sS σ 24 0) es.length) B Ld Ac (n + 1) := by
  have q := h.anew (y := x) (τ := sS σ 24 0) rfl (fun g hg => sS_o hg) h.1.1 (fun _ _ => rfl) (fun _ _ => rfl) ⟨h.2.2.2.2.2.1.2.1, h.2.2.2.2.2.1.2.2.1⟩
  refine ⟨sum_R q.2.2.2.2.1.2.1 80 (Nat.le_refl _), B, Ld, Ac, ?_⟩
  rw [h.2.2.2.2.1.1]
  exact q.mono (Nat.le_succ n)
/-! what is only asked -/
def pR (c : Ex Int32) (x : MS) (κ : KS) (es : List Ev) (r : Int32) (q : NX) : Prop := (∃ y, c = .ok y ∧ r = 0 ∧ q = (x, κ, es, y.toInt64)) ∨ (∃ k w, c = .error k ∧ r = nI k ∧ q = (x, κ, es, w))
def pRz (c : Ex Int32) (x : MS) (κ : KS) (es : List Ev) (r : Int32) (q : NX) : Prop := (∃ y, c = .ok y ∧ r = 0 ∧ q = (x, κ, es, if y = 0 then 0 else 1)) ∨ (∃ k w, c = .error k ∧ r = nI k ∧ q = (x, κ, es, w))
theorem L_isUndone (h : RL x κ es σ B Ld Ac n) {a r r9 : Int32} {u9 : MS} {q : NX} (hw : pRz (cIsUndone x a) x κ es r q) (hm : (r9, u9) = mIsUndone σ a) : okZ q r r9 u9 n := by
  unfold pRz cIsUndone at hw
  unfold mIsUndone at hm
  rw [h.2.1.1.1] at hw
  rw [h.2.1.2.1, h.1.1.2.2.2] at hm
  by_cases g1 : inR a 0 (nI B - 1)
  · rw [if_pos g1] at hw hm
    rcases hw with ⟨y, e, rfl, rfl⟩ | ⟨k, w, e, -⟩
    · cases e
      by_cases g2 : x.2 5 (tN a) = 0
      · rw [if_pos g2] at hm
        cases hm
        exact ⟨sS_k, fun _ => by rw [if_pos g2, if_pos rfl], h.upE 0⟩
      · rw [if_neg g2] at hm
        cases hm
        exact ⟨sS_k, fun _ => by rw [if_neg g2, if_neg (by decide)], h.upE 0⟩
    · cases e
  · rw [if_neg g1] at hw hm
    cases hm
    rcases hw with ⟨y, e, -⟩ | ⟨k, w, e, rfl, rfl⟩
    · cases e
    · cases e
      exact ⟨sS_k, fun e => absurd e (by decide), h.upE 1⟩
theorem L_hit (h : RL x κ es σ B Ld Ac n) (hn : n < 64) {a r r9 : Int32} {u9 : MS} {q : NX} (hw : pR (cHit x κ a) x κ es r q) (hm : (r9, u9) = mHit σ a) : okN q r r9 u9 n := by
  have hL : Ld ≤ n := h.2.2.1.2.1
  unfold pR cHit at hw
  unfold mHit at hm
  rw [h.2.1.1.2.1] at hw
  rw [h.2.1.2.2.1] at hm
  by_cases g1 : inR a 0 (nI Ld - 1)
  · rw [if_pos g1] at hw hm
    cases hm
    rcases hw with ⟨y, e, rfl, rfl⟩ | ⟨k, w, e, -⟩
    · cases e
      have hb := (inR_b (b := Ld) (n := 80) g1 (by omega) (by decide)).2
      exact ⟨sS_k, fun _ => by rw [h.2.2.2.2.1.2.2 _ hb], h.upE 0⟩
    · cases e
  · rw [if_neg g1] at hw hm
    cases hm
    rcases hw with ⟨y, e, -⟩ | ⟨k, w, e, rfl, rfl⟩
    · cases e
    · cases e
      exact ⟨sS_k, fun e => absurd e (by decide), h.upE 1⟩
theorem L_keyOf (h : RL x κ es σ B Ld Ac n) {a v r r9 : Int32} {u9 : MS} {q : NX} (hw : pR (cKeyOf κ a v) x κ es r q) (hm : (r9, u9) = mKeyOf σ a v) : okN q r r9 u9 n := by
  have hc := h.2.2.2.2.1.2.1
  unfold pR cKeyOf at hw
  unfold mKeyOf at hm
  by_cases h1 : kHas κ a
  · rw [if_pos h1] at hw
    rw [if_pos ((has_R hc a).mpr h1)] at hm
    by_cases h2 : inR v 0 2
    · rw [if_pos h2] at hw hm
      cases hm
      rcases hw with ⟨y, e, rfl, rfl⟩ | ⟨k, w, e, -⟩
      · cases e
        obtain ⟨j, hj, rfl, hr, hR9, -⟩ := kR_R hc h1
        obtain ⟨f, hf, rfl⟩ := inR_nI (n := 2) h2 (by decide)
        rw [tN_nI (n := j) (by omega), tN_nI (n := f) (by omega)]
        exact ⟨sS_k, fun _ => by rw [hR9.1 f (by omega)], h.upE 0⟩
      · cases e
    · rw [if_neg h2] at hw hm
      cases hm
      rcases hw with ⟨y, e, -⟩ | ⟨k, w, e, rfl, rfl⟩
      · cases e
      · cases e
        exact ⟨sS_k, fun e => absurd e (by decide), h.upE 1⟩
  · rw [if_neg h1] at hw
    rw [if_neg (fun g => h1 ((has_R hc a).mp g))] at hm
    cases hm
    rcases hw with ⟨y, e, -⟩ | ⟨k, w, e, rfl, rfl⟩
    · cases e
    · cases e
      exact ⟨sS_k, fun e => absurd e (by decide), h.upE 1⟩
theorem L_fieldOf (h : RL x κ es σ B Ld Ac n) {a v r r9 : Int32} {u9 : MS} {q : NX} (hw : pR (cFieldOf κ a v) x κ es r q) (hm : (r9, u9) = mFieldOf σ a v) : okN q r r9 u9 n := by
  have hc := h.2.2.2.2.1.2.1
  unfold pR cFieldOf at hw
  unfold mFieldOf at hm
  by_cases h1 : kHas κ a
  · rw [if_pos h1] at hw
    rw [if_pos ((has_R hc a).mpr h1)] at hm
    by_cases h2 : inR v 0 3
    · rw [if_pos h2] at hw hm
      cases hm
      rcases hw with ⟨y, e, rfl, rfl⟩ | ⟨k, w, e, -⟩
      · cases e
        obtain ⟨j, hj, rfl, hr, hR9, -⟩ := kR_R hc h1
        obtain ⟨f, hf, rfl⟩ := inR_nI (n := 3) h2 (by decide)
        rw [tN_nI (n := j) (by omega), tN_nI (n := f) (by omega)]
        exact ⟨sS_k, fun _ => by rw [(hR9.2.1 f (by omega)).1], h.upE 0⟩
      · cases e
    · rw [if_neg h2] at hw hm
      cases hm
      rcases hw with ⟨y, e, -⟩ | ⟨k, w, e, rfl, rfl⟩
      · cases e
      · cases e
        exact ⟨sS_k, fun e => absurd e (by decide), h.upE 1⟩
  · rw [if_neg h1] at hw
    rw [if_neg (fun g => h1 ((has_R hc a).mp g))] at hm
    cases hm
    rcases hw with ⟨y, e, -⟩ | ⟨k, w, e, rfl, rfl⟩
    · cases e
    · cases e
      exact ⟨sS_k, fun e => absurd e (by decide), h.upE 1⟩
theorem L_sourceOf (h : RL x κ es σ B Ld Ac n) {a v r r9 : Int32} {u9 : MS} {q : NX} (hw : pR (cSourceOf κ a v) x κ es r q) (hm : (r9, u9) = mSourceOf σ a v) : okN q r r9 u9 n := by
  have hc := h.2.2.2.2.1.2.1
  unfold pR cSourceOf at hw
  unfold mSourceOf at hm
  by_cases h1 : kHas κ a
  · rw [if_pos h1] at hw
    rw [if_pos ((has_R hc a).mpr h1)] at hm
    by_cases h2 : inR v 0 3
    · rw [if_pos h2] at hw hm
      cases hm
      rcases hw with ⟨y, e, rfl, rfl⟩ | ⟨k, w, e, -⟩
      · cases e
        obtain ⟨j, hj, rfl, hr, hR9, -⟩ := kR_R hc h1
        obtain ⟨f, hf, rfl⟩ := inR_nI (n := 3) h2 (by decide)
        rw [tN_nI (n := j) (by omega), tN_nI (n := f) (by omega)]
        exact ⟨sS_k, fun _ => by rw [(hR9.2.1 f (by omega)).2.1], h.upE 0⟩
      · cases e
    · rw [if_neg h2] at hw hm
      cases hm
      rcases hw with ⟨y, e, -⟩ | ⟨k, w, e, rfl, rfl⟩
      · cases e
      · cases e
        exact ⟨sS_k, fun e => absurd e (by decide), h.upE 1⟩
  · rw [if_neg h1] at hw
    rw [if_neg (fun g => h1 ((has_R hc a).mp g))] at hm
    cases hm
    rcases hw with ⟨y, e, -⟩ | ⟨k, w, e, rfl, rfl⟩
    · cases e
    · cases e
      exact ⟨sS_k, fun e => absurd e (by decide), h.upE 1⟩
theorem L_holdings (h : RL x κ es σ B Ld Ac n) {a r r9 : Int32} {u9 : MS} {q : NX} (hw : pR (cHoldings κ a) x κ es r q) (hm : (r9, u9) = mHoldings σ a) : okN q r r9 u9 n := by
  have hc := h.2.2.2.2.1.2.1
  unfold pR cHoldings at hw
  unfold mHoldings at hm
  by_cases h1 : kHas κ a
  · rw [if_pos h1] at hw
    rw [if_pos ((has_R hc a).mpr h1)] at hm
    cases hm
    rcases hw with ⟨y, e, rfl, rfl⟩ | ⟨k, w, e, -⟩
    · cases e
      obtain ⟨j, hj, rfl, hr, hR9, -⟩ := kR_R hc h1
      rw [tN_nI (n := j) (by omega)]
      exact ⟨sS_k, fun _ => by rw [hR9.2.2], h.upE 0⟩
    · cases e
  · rw [if_neg h1] at hw
    rw [if_neg (fun g => h1 ((has_R hc a).mp g))] at hm
    cases hm
    rcases hw with ⟨y, e, -⟩ | ⟨k, w, e, rfl, rfl⟩
    · cases e
    · cases e
      exact ⟨sS_k, fun e => absurd e (by decide), h.upE 1⟩
end OPL
