/-! THE LAW, plain: an event done on both sides; all events done anew -/
set_option maxRecDepth 100000
/-- place i of the reference's row of deeds is the event e -/
def eR (e : Ev) (σ : MS) (i : Nat) : Prop := match e with
  | .inl (n, bt, u, O, F) => (σ.2 15 i = 0 ∧ σ.2 16 i = nI n) ∧ (σ.2 8 n = bt ∧ σ.2 9 n = u) ∧ (∀ k, k < 3 → σ.2 10 (3 * n + k) = O k) ∧ (∀ k, k < 4 → σ.2 11 (4 * n + k) = F k) ∧ (∀ k, okV (O k)) ∧ ∀ k, okV (F k)
  | .inr (.inl (n, f, z)) => σ.2 15 i = (if z = 0 then 2 else 1) ∧ σ.2 16 i = nI n ∧ σ.2 17 i = nI f
  | .inr (.inr (.inl n)) => σ.2 15 i = 3 ∧ σ.2 16 i = nI n
  | .inr (.inr (.inr (a, b))) => σ.2 15 i = 4 ∧ σ.2 16 i = nI a ∧ σ.2 17 i = nI b
theorem eR.to {e : Ev} {σ τ : MS} {i : Nat} (h : eR e σ i) (h8 : ∀ g, g = 8 ∨ g = 9 ∨ g = 10 ∨ g = 11 ∨ g = 15 ∨ g = 16 ∨ g = 17 → τ.2 g = σ.2 g) : eR e τ i := by
  rcases e with ⟨n, bt, u, O, F⟩ | ⟨n, f, z⟩ | n | ⟨a, b⟩
  · obtain ⟨⟨a1, a2⟩, ⟨a3, a4⟩, a5, a6, a7⟩ := h
    refine ⟨⟨?_, ?_⟩, ⟨?_, ?_⟩, fun k hk => ?_, fun k hk => ?_, a7⟩
    · rw [h8 15 (by omega)]; exact a1
    · rw [h8 16 (by omega)]; exact a2
    · rw [h8 8 (by omega)]; exact a3
    · rw [h8 9 (by omega)]; exact a4
    · rw [h8 10 (by omega)]; exact a5 k hk
    · rw [h8 11 (by omega)]; exact a6 k hk
  · obtain ⟨a1, a2, a3⟩ := h
    refine ⟨?_, ?_, ?_⟩
    · rw [h8 15 (by omega)]; exact a1
    · rw [h8 16 (by omega)]; exact a2
    · rw [h8 17 (by omega)]; exact a3
  · obtain ⟨a1, a2⟩ := h
    refine ⟨?_, ?_⟩
    · rw [h8 15 (by omega)]; exact a1
    · rw [h8 16 (by omega)]; exact a2
  · obtain ⟨a1, a2, a3⟩ := h
    refine ⟨?_, ?_, ?_⟩
    · rw [h8 15 (by omega)]; exact a1
    · rw [h8 16 (by omega)]; exact a2
    · rw [h8 17 (by omega)]; exact a3
theorem eR.kp {e : Ev} {σ τ : MS} {i : Nat} (h : eR e σ i) (hk : kp σ τ) : eR e τ i := h.to (fun g hg => hk.2 g (by omega) (by omega))
/-- the settings that events use are the same -/
def sR (x σ : MS) : Prop := σ.2 0 = x.2 0 ∧ σ.2 1 = x.2 1 ∧ σ.2 2 = x.2 2 ∧ σ.2 6 = x.2 5
theorem sR.kp {x σ τ : MS} (h : sR x σ) (hk : kp σ τ) : sR x τ := ⟨(hk.2 0 (by omega) (by omega)).trans h.1, (hk.2 1 (by omega) (by omega)).trans h.2.1, (hk.2 2 (by omega) (by omega)).trans h.2.2.1, (hk.2 6 (by omega) (by omega)).trans h.2.2.2⟩
def hR (κ : KS) (σ : MS) (N : Nat) : Prop := ∀ i, i < N → σ.2 12 i = κ.2 i
theorem hR.one {κ κ' : KS} {σ τ : MS} {n : Nat} {v : Int32} (h : hR κ σ n) (h1 : τ.2 12 = upd (σ.2 12) n v) (h2 : κ'.2 = upd κ.2 n v) : hR κ' τ (n + 1) := fun i hi => by
  rw [h1, h2]
  by_cases e : i = n
  · subst e
    rw [pk_us, pk_us]
  · rw [pk_un e, pk_un e]
    exact h i (by omega)
theorem hR.same {κ κ' : KS} {σ τ : MS} {n : Nat} (h : hR κ σ n) (h1 : τ.2 12 = σ.2 12) (h2 : κ'.2 = κ.2) : hR κ' τ n := fun i hi => by
  rw [h1, h2]
  exact h i hi
theorem u_m1 {u : Int32} (h : vp_in u 5) : ¬ u = -1 := by
  obtain ⟨e, hj⟩ := vp_nat h (by decide)
  rw [e]
  exact nI_m1 (by omega)
theorem perf_L {x σ : MS} {κ : KS} {n : Nat} {bt u : Int32} {O F : Nat → Int32} (hs : sR x σ) (hO : wO x) (hc : cR κ σ) (hh : hR κ σ n) (hn : n < 80) (e8 : σ.2 8 n = bt) (e9 : σ.2 9 n = u) (e10 : ∀ k, k < 3 → σ.2 10 (3 * n + k) = O k) (e11 : ∀ k, k < 4 → σ.2 11 (4 * n + k) = F k) (hOk : ∀ k, okV (O k)) (hFk : ∀ k, okV (F k)) (hu : vp_in u 5) : cR (kLoad x n bt u O F κ) (mDoLoad σ n) ∧ hR (kLoad x n bt u O F κ) (mDoLoad σ n) (n + 1) := by
  have hm := mMatch_k (O := O) hc hs.2.2.1 hO e10
  unfold mDoLoad kLoad
  rw [e8, hs.2.2.2, hm]
  by_cases h1 : x.2 5 (tN bt) = 0
  · rw [if_pos h1, if_pos h1]
    by_cases h2 : kMt κ x O 3 = -1
    · rw [if_pos h2, if_pos h2]
      have hI := make_I (x := x) hc e10 e11 e9 hOk hFk (u_m1 hu)
      exact ⟨hI.cls.hit, hh.one (sU_k.trans (by rw [hI.2.1.2.1])) rfl⟩
    · rw [if_neg h2, if_neg h2]
      by_cases h3 : kMt κ x O 3 = -2
      · rw [if_pos h3, if_pos h3]
        exact ⟨hc.hit, hh.one sU_k rfl⟩
      · rw [if_neg h3, if_neg h3]
        obtain ⟨j, r, hj, hr, hv⟩ := ((kMt_range κ x O 3).resolve_left h2).resolve_left h3
        rw [hv, tN_nI (by omega), hr]
        dsimp only
        have hI := lay_I (x := x) (O := O) (F := F) (u := u) (n := n) (fun k hk => (congrFun (sU_o (by decide)) _).trans (e10 k hk)) (fun k hk => (congrFun (sU_o (by decide)) _).trans (e11 k hk)) ((congrFun (sU_o (by decide)) _).trans e9) ((sU_o (by decide)).trans hs.1) ((sU_o (by decide)).trans hs.2.1) hOk hFk (u_m1 hu) ((hc.o12 (p := n) (w := nI j)).opn hj hr)
        exact ⟨hI.cls.kh, hh.one (hI.2.1.2.1.trans sU_k) rfl⟩
  · rw [if_neg h1, if_neg h1]
    exact ⟨hc.hit, hh.one sU_k rfl⟩
theorem c1R.z {κ : KS} {σ : MS} {j : Nat} (h : c1R κ σ j) : σ.2 18 j = 0 ↔ κ.1 j = none := by
  refine ⟨fun e => ?_, h.1⟩
  cases hk : κ.1 j with
  | none => rfl
  | some r =>
    have h2 := (h.2 r hk).1
    rw [e] at h2
    exact absurd h2 (by decide)
theorem perf {x σ : MS} {κ : KS} {e : Ev} {i N : Nat} (hs : sR x σ) (hO : wO x) (hc : cR κ σ) (hh : hR κ σ N) (he : eR e σ i) (hk : eOk N e) : cR (kDo x e κ) (mPerf σ i) ∧ hR (kDo x e κ) (mPerf σ i) (eN N e) := by
  rcases e with ⟨n, bt, u, O, F⟩ | ⟨n, f, z⟩ | n | ⟨a, b⟩
  · obtain ⟨⟨a1, a2⟩, ⟨a3, a4⟩, a5, a6, a7, a8⟩ := he
    obtain ⟨rfl, k1, k2, k3⟩ := hk
    unfold mPerf
    rw [if_pos a1, a2, tN_nI (by omega)]
    exact perf_L hs hO hc hh k1 a3 a4 a5 a6 a7 a8 k3
  · obtain ⟨a1, a2, a3⟩ := he
    obtain ⟨k1, k2, k3⟩ := hk
    have q0 : ¬ σ.2 15 i = 0 := by rw [a1]; split <;> decide
    have q3 : ¬ σ.2 15 i = 3 := by rw [a1]; split <;> decide
    have q4 : ¬ σ.2 15 i = 4 := by rw [a1]; split <;> decide
    have q1 : (if σ.2 15 i = 1 then (1 : Int32) else 0) = z := by
      rw [a1]
      rcases k3 with rfl | rfl <;> decide
    unfold mPerf
    rw [if_neg q0, if_neg q3, if_neg q4, q1, a2, a3, tN_nI (by omega), tN_nI (by omega)]
    show cR (kProt n f z κ) _ ∧ hR (kProt n f z κ) _ N
    unfold kProt
    cases hr : κ.1 n with
    | none =>
      rw [if_pos ((hc.1 n k1).1 hr)]
      exact ⟨hc, hh⟩
    | some r =>
      dsimp only
      rw [if_neg (by rw [((hc.1 n k1).2 r hr).1]; decide)]
      have hI := (hc.opn k1 hr).p k2 k3
      exact ⟨hI.cls, hh.same hI.2.1.2.1 rfl⟩
  · obtain ⟨a1, a2⟩ := he
    have k1 : n < 80 := hk
    unfold mPerf
    rw [if_neg (show ¬ σ.2 15 i = 0 by rw [a1]; decide), if_pos a1, a2, tN_nI (by omega)]
    show cR (kHold n κ) _ ∧ hR (kHold n κ) _ N
    unfold kHold
    cases hr : κ.1 n with
    | none =>
      rw [if_pos ((hc.1 n k1).1 hr)]
      exact ⟨hc, hh⟩
    | some r =>
      dsimp only
      obtain ⟨b1, b2, b3⟩ := (hc.1 n k1).2 r hr
      rw [if_neg (by rw [b1]; decide), b2.2.2]
      have hI := (hc.opn k1 hr).h (v := r.2 + 1)
      exact ⟨hI.cls, hh.same hI.2.1.2.1 rfl⟩
  · obtain ⟨a1, a2, a3⟩ := he
    obtain ⟨k1, k2, k3⟩ := hk
    unfold mPerf
    rw [if_neg (show ¬ σ.2 15 i = 0 by rw [a1]; decide), if_neg (show ¬ σ.2 15 i = 3 by rw [a1]; decide), if_pos a1, a2, a3, tN_nI (by omega), tN_nI (by omega)]
    show cR (kJoin a b κ) _ ∧ hR (kJoin a b κ) _ N
    unfold kJoin
    cases hr : κ.1 a with
    | none =>
      rw [if_pos ((hc.1 a k1).1 hr)]
      exact ⟨hc, hh⟩
    | some ra =>
      dsimp only
      rw [if_neg (by rw [((hc.1 a k1).2 ra hr).1]; decide)]
      cases hr2 : κ.1 b with
      | none =>
        rw [if_pos ((hc.1 b k2).1 hr2)]
        exact ⟨hc, hh⟩
      | some rb =>
        dsimp only
        rw [if_neg (by rw [((hc.1 b k2).2 rb hr2).1]; decide)]
        obtain ⟨c1, c2⟩ := join_R hc k1 k2 k3 hr hr2
        exact ⟨c1, hh.same c2 rfl⟩
/-! all events anew -/
theorem nAll_take {es : List Ev} {i N : Nat} {e : Ev} (h : es[i]? = some e) : nAll (es.take (i + 1)) N = eN (nAll (es.take i) N) e := by
  rw [← nAll_app, List.take_succ, h]
  rfl
theorem mNo_r (σ : MS) : ∀ n, (∀ j, j < n → (mNo n σ).2 18 j = 0) ∧ ∀ g, g ≠ 18 → (mNo n σ).2 g = σ.2 g
  | 0 => ⟨fun j hj => absurd hj (Nat.not_lt_zero j), fun _ _ => rfl⟩
  | n + 1 => by
    obtain ⟨h1, h2⟩ := mNo_r σ n
    show (∀ j, j < n + 1 → (sU (mNo n σ) 18 n 0).2 18 j = 0) ∧ ∀ g, g ≠ 18 → (sU (mNo n σ) 18 n 0).2 g = σ.2 g
    refine ⟨fun j hj => ?_, fun g hg => (sU_o hg).trans (h2 g hg)⟩
    by_cases e : j = n
    · subst e
      exact sU_eq
    · rw [sU_ne (by omega)]
      exact h1 j (by omega)
theorem run_R {x σ : MS} {es : List Ev} (hs : sR x σ) (hO : wO x) (hes : okL 0 es) (he : ∀ i e, es[i]? = some e → eR e σ i) (hz : zK σ) : ∀ i, i ≤ es.length → cR (kAll x (es.take i) kZero) (mRun i (mNo 80 σ)) ∧ hR (kAll x (es.take i) kZero) (mRun i (mNo 80 σ)) (nAll (es.take i) 0)
  | 0, _ => by
    obtain ⟨h1, h2⟩ := mNo_r σ 80
    refine ⟨⟨fun j hj => ⟨fun _ => h1 j hj, fun r hr => ?_⟩, fun i => ?_⟩, fun i hi => absurd hi (Nat.not_lt_zero i)⟩
    · cases hr
    · show (mNo 80 σ).2 22 i = 0 ∨ (mNo 80 σ).2 22 i = 1
      rw [h2 22 (by decide)]
      exact hz i
  | i + 1, hi => by
    obtain ⟨ih1, ih2⟩ := run_R hs hO hes he hz i (by omega)
    obtain ⟨e, hev⟩ : ∃ e, es[i]? = some e := ⟨_, List.getElem?_eq_getElem (show i < es.length by omega)⟩
    have hk : kp σ (mRun i (mNo 80 σ)) := (kp_No σ 80).tr (kp_Run _ i)
    rw [kAll_take hev, nAll_take hev]
    exact perf (hs.kp hk) hO ih1 ih2 ((he i e hev).kp hk) (hes.at hev)
theorem anew_R {x σ : MS} {es : List Ev} (hs : sR x σ) (hO : wO x) (hes : okL 0 es) (he : ∀ i e, es[i]? = some e → eR e σ i) (hz : zK σ) : cR (kAll x es kZero) (mAnew σ es.length) ∧ hR (kAll x es kZero) (mAnew σ es.length) (nAll es 0) := by
  have h := run_R hs hO hes he hz es.length (Nat.le_refl _)
  rw [List.take_length] at h
  exact h
/-! what events do depends on the settings alone -/
def sX (x y : MS) : Prop := y.2 0 = x.2 0 ∧ y.2 1 = x.2 1 ∧ y.2 2 = x.2 2 ∧ y.2 5 = x.2 5
theorem kMt_c {κ : KS} {x y : MS} {O : Nat → Int32} (h : sX x y) : ∀ n, kMt κ y O n = kMt κ x O n
  | 0 => rfl
  | n + 1 => by
    show (if kMt κ y O n = -1 then kFd κ (tN (y.2 2 n)) (O (tN (y.2 2 n))) else kMt κ y O n) = (if kMt κ x O n = -1 then kFd κ (tN (x.2 2 n)) (O (tN (x.2 2 n))) else kMt κ x O n)
    rw [kMt_c h n, h.2.2.1]
theorem kRep_c {x y : MS} (h : sX x y) (r : RS) (f : Nat) (t : Int32) : kRep y r f t = kRep x r f t := by
  unfold kRep
  rw [h.1, h.2.1]
theorem lFn_c {x y : MS} (h : sX x y) (F : Nat → Int32) (u : Int32) (r : RS) : ∀ i, lFn y F u i r = lFn x F u i r
  | 0 => rfl
  | i + 1 => by
    show lFs y F u i (lFn y F u i r) = lFs x F u i (lFn x F u i r)
    rw [lFn_c h F u r i]
    unfold lFs
    rw [kRep_c h]
theorem kLay_c {x y : MS} (h : sX x y) (O F : Nat → Int32) (u : Int32) (r : RS) : kLay y O F u r = kLay x O F u r := lFn_c h F u _ 4
theorem kDo_c {x y : MS} (h : sX x y) (e : Ev) (κ : KS) : kDo y e κ = kDo x e κ := by
  rcases e with ⟨n, bt, u, O, F⟩ | ⟨n, f, z⟩ | n | ⟨a, b⟩
  · show kLoad y n bt u O F κ = kLoad x n bt u O F κ
    unfold kLoad
    simp only [kMt_c h, kLay_c h, h.2.2.2]
  · rfl
  · rfl
  · rfl
theorem kAll_cons {x : MS} {e : Ev} {es : List Ev} {κ : KS} : kAll x (e :: es) κ = kAll x es (kDo x e κ) := by
  unfold kAll
  rw [List.foldl_cons]
theorem kAll_nl {x : MS} {κ : KS} : kAll x [] κ = κ := by
  unfold kAll
  rw [List.foldl_nil]
theorem kAll_c {x y : MS} (h : sX x y) (es : List Ev) : ∀ κ, kAll y es κ = kAll x es κ := by
  induction es with
  | nil => exact fun κ => by rw [kAll_nl, kAll_nl]
  | cons e es ih =>
    intro κ
    rw [kAll_cons, kAll_cons, kDo_c h, ih]
/-! what is asked of a catalogue -/
theorem has_R {κ : KS} {σ : MS} (h : cR κ σ) (v : Int32) : mRec σ v ↔ kHas κ v := by
  constructor
  · intro g
    obtain ⟨e, hj⟩ := vp_nat (inR_in (n := 79) g.1 (by decide) rfl) (by decide)
    have g2 := g.2
    generalize tN v = j at e hj g2
    subst e
    refine (kHas_i hj).mpr ?_
    cases hk : κ.1 j with
    | none => exact absurd ((h.1 j hj).1 hk) g2
    | some r => rfl
  · intro g
    obtain ⟨j, hj, rfl⟩ := kHas_j g
    obtain ⟨r, hr⟩ := kHas_y hj g
    refine ⟨⟨nI_pos' (by omega), nI_le (b := 79) (by omega) (by decide)⟩, ?_⟩
    rw [tN_nI (by omega), ((h.1 j hj).2 r hr).1]
    decide
theorem kR_R {κ : KS} {σ : MS} (h : cR κ σ) {v : Int32} (g : kHas κ v) : ∃ j, j < 80 ∧ v = nI j ∧ κ.1 j = some (kR κ v) ∧ rR σ j (kR κ v) ∧ rW (kR κ v) := by
  obtain ⟨j, hj, rfl⟩ := kHas_j g
  obtain ⟨r, hr⟩ := kHas_y hj g
  rw [kR_at hj hr]
  exact ⟨j, hj, rfl, hr, ((h.1 j hj).2 r hr).2⟩
theorem cnt_R {κ : KS} {σ : MS} (h : cR κ σ) : ∀ n, n ≤ 80 → mMany σ n = kCnt κ n
  | 0, _ => rfl
  | n + 1, hn => by
    have ih := cnt_R h n (by omega)
    show mMany σ n + (if σ.2 18 n = 0 then 0 else 1) = _
    unfold kCnt
    rw [ih]
    cases hk : κ.1 n with
    | none =>
      rw [if_pos ((h.1 n (by omega)).1 hk)]
    | some r =>
      rw [if_neg (by rw [((h.1 n (by omega)).2 r hk).1]; decide)]
theorem own_v {v : Int32} (h : okV v) : (if v = -1 then 0 else v) = mx0 v := by
  rcases h with rfl | h
  · decide
  · by_cases h2 : 0 < v
    · rw [if_neg (fun e => by rw [e] at h2; exact absurd h2 (by decide))]
      exact (if_pos h2).symm
    · have e : v = 0 := Int32.toInt_inj.mp (by
        rw [Int32.le_iff_toInt_le, Int32.toInt_zero] at h
        rw [Int32.lt_iff_toInt_lt, Int32.toInt_zero] at h2
        rw [Int32.toInt_zero]
        omega)
      subst e
      decide
theorem ownK_R {σ : MS} {j : Nat} {r : RS} (h : rR σ j r) (hw : rW r) : ∀ k, k ≤ 3 → mOwnK σ j k = rVk r k
  | 0, _ => rfl
  | k + 1, hk => by
    show mOwnK σ j k + (if σ.2 19 (3 * j + k) = -1 then 0 else σ.2 19 (3 * j + k)) = rVk r k + mx0 (r.1 1 k)
    rw [ownK_R h hw k (by omega), h.1 k (by omega), own_v (hw.1 k)]
theorem ownF_R {σ : MS} {j : Nat} {r : RS} (h : rR σ j r) (hw : rW r) : ∀ k, k ≤ 4 → mOwnF σ j k = rVf r k
  | 0, _ => ownK_R h hw 3 (Nat.le_refl _)
  | k + 1, hk => by
    show mOwnF σ j k + (if σ.2 20 (4 * j + k) = -1 then 0 else σ.2 20 (4 * j + k)) = rVf r k + mx0 (r.1 2 k)
    rw [ownF_R h hw k (by omega), (h.2.1 k (by omega)).1, own_v (hw.2.1 k)]
theorem sum_R {κ : KS} {σ : MS} (h : cR κ σ) : ∀ n, n ≤ 80 → mSum σ n = kSum κ n
  | 0, _ => rfl
  | n + 1, hn => by
    have ih := sum_R h n (by omega)
    show mSum σ n + (if σ.2 18 n = 0 then 0 else mOwnF σ n 4 * nI (1 + n) + σ.2 23 n) = _
    unfold kSum
    rw [ih]
    cases hk : κ.1 n with
    | none =>
      rw [if_pos ((h.1 n (by omega)).1 hk)]
      exact Int32.add_zero _
    | some r =>
      obtain ⟨a1, a2, a3⟩ := (h.1 n (by omega)).2 r hk
      rw [if_neg (by rw [a1]; decide), ownF_R a2 a3 4 (Nat.le_refl _), a2.2.2, Nat.add_comm 1 n]
theorem zK.kb {κ : KS} {σ : MS} (h : cR κ σ) {N : Nat} (hN : N ≤ 80) (hI : kIv κ N) : kB κ := fun j r hr i => by
  have hj : j < 80 := by
    have := hI.lt hr
    omega
  exact ((h.1 j hj).2 r hr).2.2.2.2.2 i
