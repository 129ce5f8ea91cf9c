/-! ArrayList.grow and add -/
set_option maxRecDepth 100000
def evOne (V : GM) (z : Nat) : Prop := ∃ (x : Lb) (ci : Nat) (fs : List Value) (r : vw_C), V x = some (z, .inr (ci, fs)) ∧ clA[ci]? = some r ∧ (r.1, "java/lang/Object") ∈ nwC ∧ x.1 = 2
theorem evOne.gup {V : GM} {z : Nat} (h : evOne V z) {x : Lb} {q : Nat × va_E} (hx : x.1 ≠ 2) : evOne (gup V x q) z := by
  obtain ⟨y, ci, fs, r, h1, h2, h3, h4⟩ := h
  exact ⟨y, ci, fs, r, (gup_n _ _ (fun e => hx (by rw [← e]; exact h4))).trans h1, h2, h3, h4⟩
/-- the list: at aL, its counters m, c, its row at ad of n places -/
def liF (K : GK) (V : GM) (aL m ad c n : Nat) (f : Nat → Option Nat) : Prop := V (1, 12, 0) = some (aL, .inr (8, [.int (nI m), .ref ad, .int (nI c)])) ∧ (c = 0 ∧ n = 0 ∧ ad = K.2.2.1 ∨ 1 ≤ n ∧ V (1, 13, 0) = some (ad, .inl (K.2.1 3, n, .inr (.inr (.inr (.inr f)))))) ∧ c ≤ n ∧ n ≤ 100 ∧ evOk V n f ∧ V (5, 0, 0) = none
def lput (K : GK) (aL m c : Nat) (u : Nat × Nat × (Nat → Option Nat)) (V : GM) : GM := gup (gup V (1, 12, 0) (aL, .inr (8, [.int (nI m), .ref u.1, .int (nI c)]))) (1, 13, 0) (u.1, .inl (K.2.1 3, u.2.1, .inr (.inr (.inr (.inr u.2.2)))))
set_option maxHeartbeats 4000000 in
theorem xt_grow2 (l : Launch) (K : GK) (A : Nat → Prop) (V : GM) (aL m ad c : Nat) (f : Nat → Option Nat) (hL : liF K V aL m ad c c f) (hc : c ≤ 64)
    : Met l yJ2_grow_2 (ws_ yJ2_grow_2 cJ2_grow_2 4 (some (.array (.object "java/lang/Object")))) ({ frames := 3, cells := 1, slots := 100, locals := 120 }) (va_Pc [.ref aL, .int (nI (c + 1))] (gW K A V)) (va_Qr (fun u : Nat × (Nat → Option Nat) => u.1 ≤ 100 ∧ c < u.1 ∧ (∀ i, i < c → u.2 i = f i) ∧ ∀ i, c ≤ i → u.2 i = none) (fun u q t => gB K A (lput K aL m c (q, u.1, u.2) V) t) A) 1 100 A := by
  refine g_ofW (cc := cJ2_grow_2) (by decide) (own := RJ2) rfl (Nat.le_of_ble_eq_true rfl) ?_
  intro p e s mm below meth cd hC hr hlocks hnm hE hG ls hl
  have hl : lv_has ls 4 [(0, .ref aL), (1, .int (nI (c + 1)))] := hl
  obtain ⟨h1, h2, h3, h4, h5, h6⟩ := hL
  refine lv_aload_n hC.1 hC.2.1 dJ2_grow_2_0 rfl (lv_at hl 0 rfl) ?_
  refine g_get hC hE hG in_J2 h1 (ci := 8) rfl 1 (by decide) q67 (fun _ z => z) rfl dJ2_grow_2_1 ?_
  rcases h2 with ⟨e1, e2, e3⟩ | ⟨e1, e2⟩
  · subst e1 e3
    refine va_tlen hC.1 hC.2.1 hE.2.2.2.1 hG.2.2.1 (v := nI 0) rfl dJ2_grow_2_4 ?_
    refine lv_istore_n (lv' := [(2, .int (nI 0)), (0, .ref aL), (1, .int (nI (0 + 1)))]) hC.1 hC.2.1 dJ2_grow_2_5 rfl hl (by decide) rfl (fun ls hl => ?_)
    refine lv_iload_n hC.1 hC.2.1 dJ2_grow_2_6 rfl (lv_at hl 0 rfl) ?_
    refine lv_if_gt (tgt := 20) hC.1 hC.2.1 dJ2_grow_2_7 (by decide) (fun c1 => absurd c1 (by decide)) (fun c1 => ?_)
    refine lv_aload_n hC.1 hC.2.1 dJ2_grow_2_10 rfl (lv_at hl 1 rfl) ?_
    refine g_get hC hE hG in_J2 h1 (ci := 8) rfl 1 (by decide) q67 (fun _ z => z) rfl dJ2_grow_2_11 ?_
    refine va_gets hC.1 hC.2.1 hE.2.2.1 hG.2.2.1 hC.2.2.2.1 (hC.2.2.2.2 _ q65) (fun _ z => z) dJ2_grow_2_14 ?_
    refine lv_acmp_eq (rx := some K.2.2.1) (ry := some K.2.2.1) (tgt := 45) hC.1 hC.2.1 dJ2_grow_2_17 (by decide) (fun _ => ?_) (fun c1 => absurd rfl c1)
    refine lv_aload_n hC.1 hC.2.1 dJ2_grow_2_45 rfl (lv_at hl 1 rfl) ?_
    refine lv_bipush (v := 10) hC.1 hC.2.1 dJ2_grow_2_46 (by decide) ?_
    refine lv_iload_n hC.1 hC.2.1 dJ2_grow_2_48 rfl (lv_at hl 2 rfl) ?_
    refine g_mmax hC q627 hl.1 (Nat.le_of_ble_eq_true rfl) (Nat.le_of_ble_eq_true rfl) ⟨Nat.le_of_ble_eq_true rfl, Nat.le_of_ble_eq_true rfl⟩ (z := nI 10) (by decide) dJ2_grow_2_49 ?_
    refine g_newq hC hE hG (1, 13, 0) 3 q628 hE.2.1.2.2.2.2.2.1 rfl (N' := 10) (by decide) (by decide) (by decide) (Nat.le_of_ble_eq_true rfl) (Nat.le_of_ble_eq_true rfl) dJ2_grow_2_52 (fun q H hq hG => ?_)
    refine lv_dup_x1 hC.1 hC.2.1 dJ2_grow_2_55 rfl rfl ?_
    refine g_put hC hE hG in_J2 tyJ2 tyJ2_ok nmJ2 ((gup_n _ _ (by decide)).trans h1) (ci := 8) rfl 1 (by decide) q67 (fun _ z => z) rfl (tyJ2_ok 1 (by decide)) rfl rfl (Nat.le_of_ble_eq_true rfl) dJ2_grow_2_56 (fun H locs hG => ?_)
    refine W.widen (k := 1) (n := 100) (Nat.le_refl _) (Nat.le_of_ble_eq_true rfl) ?_
    exact g_rret hC (hG.eq (gup_cm V (x := (1, 13, 0)) (y := (1, 12, 0)) _ _ (by decide))) hr (Or.inr ⟨_, rfl⟩) (10, fun _ => none) rfl ⟨by decide, by decide, fun i hi => absurd hi (Nat.not_lt_zero i), fun i _ => rfl⟩ hlocks dJ2_grow_2_59
  · refine g_alen hC hE hG 3 e2 rfl (v := nI c) rfl dJ2_grow_2_4 ?_
    refine lv_istore_n (lv' := [(2, .int (nI c)), (0, .ref aL), (1, .int (nI (c + 1)))]) hC.1 hC.2.1 dJ2_grow_2_5 rfl hl (by decide) rfl (fun ls hl => ?_)
    refine lv_iload_n hC.1 hC.2.1 dJ2_grow_2_6 rfl (lv_at hl 0 rfl) ?_
    refine lv_if_gt (tgt := 20) hC.1 hC.2.1 dJ2_grow_2_7 (by decide) (fun c1 => ?_) (fun c1 => absurd (nI_lt (a := 0) (b := c) (by omega) (by omega)) c1)
    refine lv_iload_n hC.1 hC.2.1 dJ2_grow_2_20 rfl (lv_at hl 0 rfl) ?_
    refine lv_iload_n hC.1 hC.2.1 dJ2_grow_2_21 rfl (lv_at hl 2 rfl) ?_
    refine lv_iload_n hC.1 hC.2.1 dJ2_grow_2_22 rfl (lv_at hl 0 rfl) ?_
    refine n_sub (a := c + 1) (b := c) (d := 1) hC (by omega) (by omega) dJ2_grow_2_23 ?_
    refine lv_iload_n hC.1 hC.2.1 dJ2_grow_2_24 rfl (lv_at hl 0 rfl) ?_
    refine lv_iconst (v := 1) hC.1 hC.2.1 dJ2_grow_2_25 (by decide) ?_
    refine lv_ishr hC.1 hC.2.1 dJ2_grow_2_26 ?_
    rw [show nI c >>> ((1 : Int32) &&& 31) = nI (c / 2) by
      have k := pk_shrN (n := c) (by omega) ((1 : Int32) &&& 31) 1 (by decide)
      rw [Nat.pow_one] at k
      exact k]
    have hmx : ∃ g, 1 ≤ g ∧ g ≤ 32 ∧ (if nI 1 < nI (c / 2) then nI (c / 2) else nI 1) = nI g := by
      by_cases q : 1 < c / 2
      · exact ⟨c / 2, by omega, by omega, if_pos (nI_lt q (by omega))⟩
      · exact ⟨1, by omega, by omega, if_neg (nI_nlt (by omega) (by omega))⟩
    obtain ⟨g, g1, g2, g3⟩ := hmx
    refine g_sP (As := [.int (nI c), .int (nI 1), .int (nI (c / 2))]) (rest := []) hC (xt_newLength l (nI c) (nI 1) (nI (c / 2)) (nI (c + g)) (by rw [g3, nI_add]) (nI_lt (a := 0) (by omega) (by omega)) (nI_nlt (a := 2147483639) (by omega) (by decide))) (va_cwS 3 hC.2.2.2.2 (lw_S q586 q587 q36 q588) rfl rfl rfl (by decide +kernel) ⟨Nat.le_of_ble_eq_true rfl, Nat.le_of_ble_eq_true rfl⟩) rfl hl.1 rfl (Nat.le_of_ble_eq_true rfl) dJ2_grow_2_27 ⟨Nat.le_of_ble_eq_true rfl, Nat.le_of_ble_eq_true rfl⟩ (fun r hr9 => ?_)
    subst hr9
    refine lv_istore_n (lv' := [(3, .int (nI (c + g))), (2, .int (nI c)), (0, .ref aL), (1, .int (nI (c + 1)))]) hC.1 hC.2.1 dJ2_grow_2_30 rfl hl (by decide) rfl (fun ls hl => ?_)
    refine lv_aload_n hC.1 hC.2.1 dJ2_grow_2_31 rfl (lv_at hl 2 rfl) ?_
    refine lv_aload_n hC.1 hC.2.1 dJ2_grow_2_32 rfl (lv_at hl 2 rfl) ?_
    refine g_get hC hE hG in_J2 h1 (ci := 8) rfl 1 (by decide) q67 (fun _ z => z) rfl dJ2_grow_2_33 ?_
    refine lv_iload_n hC.1 hC.2.1 dJ2_grow_2_36 rfl (lv_at hl 0 rfl) ?_
    refine g_cSr (As := [.ref ad, .int (nI (c + g))]) (rest := [.ref aL]) hC hE hG (xt_copyOf l K A V (1, 13, 0) ad c (c + g) f e2 (by decide) (by omega) (by omega) h5) (va_cwS 2 hC.2.2.2.2 (lw_S q594 q595 q38 q596) rfl rfl rfl (by decide +kernel) ⟨Nat.le_of_ble_eq_true rfl, Nat.le_of_ble_eq_true rfl⟩) rfl hl.1 rfl (Nat.le_of_ble_eq_true rfl) dJ2_grow_2_37 ⟨Nat.le_of_ble_eq_true rfl, Nat.le_of_ble_eq_true rfl⟩ (fun _ q H locs _ hG => ?_)
    refine lv_dup_x1 hC.1 hC.2.1 dJ2_grow_2_40 rfl rfl ?_
    refine g_put hC hE hG in_J2 tyJ2 tyJ2_ok nmJ2 ((gup_n _ _ (by decide)).trans h1) (ci := 8) rfl 1 (by decide) q67 (fun _ z => z) rfl (tyJ2_ok 1 (by decide)) rfl rfl (Nat.le_of_ble_eq_true rfl) dJ2_grow_2_41 (fun H locs hG => ?_)
    have hG := (hG.eq (gup_cm _ _ _ (by decide))).swap (x := (1, 13, 0)) ((gup_n _ _ (by decide)).trans h6) (by decide)
    exact g_rret hC hG hr (Or.inr ⟨_, rfl⟩) (c + g, va_cpy f (fun _ => none) 0 0 c) rfl ⟨by show c + g ≤ 100; omega, by show c < c + g; omega, fun i hi => by show va_cpy f (fun _ => none) 0 0 c i = f i; rw [pk_cpy_in (by omega) (by omega)]; congr 1; omega, fun i hi => pk_cpy_out (f := f) (g := fun _ => none) (sp := 0) (dp := 0) (n := c) (j := i) (Or.inr (by omega))⟩ hlocks dJ2_grow_2_44
theorem xt_grow (l : Launch) (K : GK) (A : Nat → Prop) (V : GM) (aL m ad c : Nat) (f : Nat → Option Nat) (hL : liF K V aL m ad c c f) (hc : c ≤ 64)
    : Met l yJ2_grow (ws_ yJ2_grow cJ2_grow 1 (some (.array (.object "java/lang/Object")))) ({ frames := 4, cells := 1, slots := 100, locals := 160 }) (va_Pc [.ref aL] (gW K A V)) (va_Qr (fun u : Nat × (Nat → Option Nat) => u.1 ≤ 100 ∧ c < u.1 ∧ (∀ i, i < c → u.2 i = f i) ∧ ∀ i, c ≤ i → u.2 i = none) (fun u q t => gB K A (lput K aL m c (q, u.1, u.2) V) t) A) 1 100 A := by
  refine g_ofW (cc := cJ2_grow) (by decide) (own := RJ2) rfl (Nat.le_of_ble_eq_true rfl) ?_
  intro p e s mm below meth cd hC hr hlocks hnm hE hG ls hl
  have hl : lv_has ls 1 [(0, .ref aL)] := hl
  refine lv_aload_n hC.1 hC.2.1 dJ2_grow_0 rfl (lv_at hl 0 rfl) ?_
  refine lv_aload_n hC.1 hC.2.1 dJ2_grow_1 rfl (lv_at hl 0 rfl) ?_
  refine g_get hC hE hG in_J2 hL.1 (ci := 8) rfl 2 (by decide) q70 (fun _ z => z) rfl dJ2_grow_2 ?_
  refine lv_iconst (v := 1) hC.1 hC.2.1 dJ2_grow_5 (by decide) ?_
  refine n_add (a := c) (b := 1) (d := c + 1) hC rfl dJ2_grow_6 ?_
  refine g_cVr (As := [.int (nI (c + 1))]) (rest := []) hC hE hG (xt_grow2 l K A V aL m ad c f hL hc) (cwV 1 hC.2.2.2.2 (lw_V q582 q584 qs5 q24 q585) rfl rfl rfl (by decide +kernel) ⟨Nat.le_of_ble_eq_true rfl, Nat.le_of_ble_eq_true rfl⟩) hL.1 (ci := 8) rfl rfl hl.1 rfl (Nat.le_of_ble_eq_true rfl) dJ2_grow_7 ⟨Nat.le_of_ble_eq_true rfl, Nat.le_of_ble_eq_true rfl⟩ (fun u q H locs hu hG => ?_)
  exact g_rret hC hG hr (Or.inr ⟨_, rfl⟩) u rfl hu hlocks dJ2_grow_10
/-- what add leaves: the row's address, its places, what it holds -/
def aPost (V : GM) (c z : Nat) (f : Nat → Option Nat) (u : Nat × Nat × (Nat → Option Nat)) : Prop := u.2.1 ≤ 100 ∧ c < u.2.1 ∧ (∀ i, i < c → u.2.2 i = f i) ∧ u.2.2 c = some z ∧ evOk V u.2.1 u.2.2
set_option maxHeartbeats 4000000 in
theorem xt_add2 (l : Launch) (K : GK) (A : Nat → Prop) (V : GM) (aL m ad c n z : Nat) (f : Nat → Option Nat) (hL : liF K V aL m ad c n f) (hc : c ≤ 64) (hz : evOne V z)
    : Met l yJ2_add_2 (ws_ yJ2_add_2 cJ2_add_2 4 none) ({ frames := 5, cells := 1, slots := 100, locals := 200 }) (va_Pc [.ref aL, .ref z, .ref ad, .int (nI c)] (gW K A V)) (va_Qv (aPost V c z f) (fun u t => gB K A (lput K aL m (c + 1) u V) t) A) 1 100 A := by
  refine g_ofW (cc := cJ2_add_2) (by decide) (own := RJ2) rfl (Nat.le_of_ble_eq_true rfl) ?_
  intro p e s mm below meth cd hC hr hlocks hnm hE hG ls hl
  have hl : lv_has ls 4 [(0, .ref aL), (1, .ref z), (2, .ref ad), (3, .int (nI c))] := hl
  obtain ⟨h1, h2, h3, h4, h5, h6⟩ := hL
  have key : ∀ (H : Heap) (locs : List Loc) (ls : Array Slot) (ad' n' cells slots : Nat) (f' : Nat → Option Nat), lv_has ls 4 [(0, .ref aL), (1, .ref z), (2, .ref ad'), (3, .int (nI c))] → gG K A s.heap (lput K aL m c (ad', n', f') V) H locs → n' ≤ 100 → c < n' → (∀ i, i < c → f' i = f i) → evOk V n' f' → cells ≤ 1 → slots ≤ 100 →
      W p l e ({ frames := 5, cells := 1, slots := 100, locals := 200 }) s mm #[.ref aL, .ref z, .ref ad, .int (nI c)] below meth cd H locs cells slots (MQ below (va_Qv (aPost V c z f) (fun u t => gB K A (lput K aL m (c + 1) u V) t) A) #[.ref aL, .ref z, .ref ad, .int (nI c)] s 1 100 A) (F0 mm 11 ls []) := by
    intro H locs ls ad' n' cells slots f' hl hG g1 g2 g3 g4 g5 g6
    refine lv_aload_n hC.1 hC.2.1 dJ2_add_2_11 rfl (lv_at hl 2 rfl) ?_
    refine lv_iload_n hC.1 hC.2.1 dJ2_add_2_12 rfl (lv_at hl 3 rfl) ?_
    refine lv_aload_n hC.1 hC.2.1 dJ2_add_2_13 rfl (lv_at hl 1 rfl) ?_
    have hz1 : evOne (lput K aL m c (ad', n', f') V) z := (hz.gup (by decide)).gup (by decide)
    obtain ⟨x9, ci9, fs9, ⟨C9, T9, N9⟩, k1, k2, k3, -⟩ := hz1
    refine g_aastA hC hE hG (gup_s _ _ _) (g_recvA hE hG k1 k2 k3) (vp_in_nI g2 (by show n' < 2 ^ 31; omega)) dJ2_add_2_14 (fun H locs hG => ?_)
    rw [nI_clamp (by omega)] at hG
    refine lv_aload_n hC.1 hC.2.1 dJ2_add_2_15 rfl (lv_at hl 0 rfl) ?_
    refine lv_iload_n hC.1 hC.2.1 dJ2_add_2_16 rfl (lv_at hl 3 rfl) ?_
    refine lv_iconst (v := 1) hC.1 hC.2.1 dJ2_add_2_17 (by decide) ?_
    refine n_add (a := c) (b := 1) (d := c + 1) hC rfl dJ2_add_2_18 ?_
    refine g_put hC hE hG in_J2 tyJ2 tyJ2_ok nmJ2 (((gup_n _ _ (by decide)).trans (gup_n _ _ (by decide))).trans (gup_s _ _ _)) (ci := 8) rfl 2 (by decide) q70 (fun _ z => z) rfl (tyJ2_ok 2 (by decide)) rfl rfl (Nat.le_of_ble_eq_true rfl) dJ2_add_2_19 (fun H locs hG => ?_)
    refine W.widen (k := 1) (n := 100) g5 g6 ?_
    refine g_vret hC (G := lput K aL m (c + 1) (ad', n', va_up f' c (some z)) V) (hG.eq ?_) hr (ad', n', va_up f' c (some z)) rfl ⟨g1, g2, fun i hi => ?_, ?_, ?_⟩ hlocks dJ2_add_2_22
    · unfold lput
      rw [gup_gup, gup_gup4 _ _ _ (by decide)]
      rfl
    · show va_up f' c (some z) i = f i
      unfold va_up
      rw [if_neg (by omega)]
      exact g3 i hi
    · show va_up f' c (some z) c = some z
      unfold va_up
      rw [if_pos rfl]
    · intro i hi y hy
      by_cases e9 : i = c
      · subst e9
        have hy : va_up f' i (some z) i = some y := hy
        unfold va_up at hy
        rw [if_pos rfl] at hy
        cases hy
        exact hz
      · have hy : va_up f' c (some z) i = some y := hy
        unfold va_up at hy
        rw [if_neg e9] at hy
        exact g4 i hi y hy
  refine lv_iload_n hC.1 hC.2.1 dJ2_add_2_0 rfl (lv_at hl 3 rfl) ?_
  refine lv_aload_n hC.1 hC.2.1 dJ2_add_2_1 rfl (lv_at hl 2 rfl) ?_
  have hlen : ∀ {Q : State → Prop}, W p l e ({ frames := 5, cells := 1, slots := 100, locals := 200 }) s mm #[.ref aL, .ref z, .ref ad, .int (nI c)] below meth cd s.heap [] 0 0 Q (F0 mm 3 ls [.int (nI n), .int (nI c)]) → W p l e ({ frames := 5, cells := 1, slots := 100, locals := 200 }) s mm #[.ref aL, .ref z, .ref ad, .int (nI c)] below meth cd s.heap [] 0 0 Q (F0 mm 2 ls [.ref ad, .int (nI c)]) := fun {Q} k => by
    rcases h2 with ⟨e1, e2, e3⟩ | ⟨e1, e2⟩
    · subst e3 e2
      exact va_tlen hC.1 hC.2.1 hE.2.2.2.1 hG.2.2.1 (v := nI 0) rfl dJ2_add_2_2 k
    · exact g_alen hC hE hG 3 e2 rfl (v := nI n) rfl dJ2_add_2_2 k
  refine hlen ?_
  refine lv_icmp_ne (tgt := 11) hC.1 hC.2.1 dJ2_add_2_3 (by decide) (fun c1 => ?_) (fun c1 => ?_)
  · have hlt : c < n := Nat.lt_of_le_of_ne h3 (fun e => c1 (by rw [e]))
    rcases h2 with ⟨e1, e2, e3⟩ | ⟨e1, e2⟩
    · omega
    · refine key _ _ _ ad n 0 0 f hl (hG.eq ?_) h4 hlt (fun i hi => rfl) h5 (by decide) (by decide)
      unfold lput
      rw [gup_id h1, gup_id e2]
  · have e : c = n := (nI_eq (by omega) (by omega)).mp c1
    subst e
    refine lv_aload_n hC.1 hC.2.1 dJ2_add_2_6 rfl (lv_at hl 0 rfl) ?_
    refine g_cVr (As := []) (rest := []) hC hE hG (xt_grow l K A V aL m ad c f ⟨h1, h2, h3, h4, h5, h6⟩ hc) (cwV 0 hC.2.2.2.2 (lw_V q578 q580 qs4 q24 q581) rfl rfl rfl (by decide +kernel) ⟨Nat.le_of_ble_eq_true rfl, Nat.le_of_ble_eq_true rfl⟩) h1 (ci := 8) rfl rfl hl.1 rfl (Nat.le_of_ble_eq_true rfl) dJ2_add_2_7 ⟨Nat.le_of_ble_eq_true rfl, Nat.le_of_ble_eq_true rfl⟩ (fun u q H locs hu hG => ?_)
    refine lv_astore_n (lv' := [(2, .ref q), (0, .ref aL), (1, .ref z), (3, .int (nI c))]) hC.1 hC.2.1 dJ2_add_2_10 rfl hl (by decide) rfl (fun ls hl => ?_)
    refine key _ _ _ q u.1 1 100 u.2 ⟨hl.1, lv_sub hl [1, 2, 0, 3] rfl |>.2⟩ hG hu.1 hu.2.1 hu.2.2.1 (fun i hi y hy => ?_) (Nat.le_refl _) (Nat.le_refl _)
    by_cases g : i < c
    · exact h5 i g y (by rw [← hu.2.2.1 i g]; exact hy)
    · rw [hu.2.2.2 i (by omega)] at hy
      cases hy
set_option maxHeartbeats 4000000 in
theorem xt_add (l : Launch) (K : GK) (A : Nat → Prop) (V : GM) (aL m ad c n z : Nat) (f : Nat → Option Nat) (hL : liF K V aL m ad c n f) (hc : c ≤ 64) (hz : evOne V z)
    : Met l yJ2_add (ws_ yJ2_add cJ2_add 2 (some .boolean)) ({ frames := 6, cells := 1, slots := 100, locals := 240 }) (va_Pc [.ref aL, .ref z] (gW K A V)) (va_Qi (fun (r : Int32) (u : Nat × Nat × (Nat → Option Nat)) => r = 1 ∧ aPost V c z f u) (fun u t => gB K A (lput K aL (m + 1) (c + 1) u V) t) A) 1 100 A := by
  refine g_ofW (cc := cJ2_add) (by decide) (own := RJ2) rfl (Nat.le_of_ble_eq_true rfl) ?_
  intro p e s mm below meth cd hC hr hlocks hnm hE hG ls hl
  have hl : lv_has ls 2 [(0, .ref aL), (1, .ref z)] := hl
  refine lv_aload_n hC.1 hC.2.1 dJ2_add_0 rfl (lv_at hl 0 rfl) ?_
  refine lv_dup hC.1 hC.2.1 dJ2_add_1 rfl ?_
  refine g_get hC hE hG in_J2 hL.1 (ci := 8) rfl 0 (by decide) q74 (u_same (hC.2.2.2.2 _ q73)) rfl dJ2_add_2 ?_
  refine lv_iconst (v := 1) hC.1 hC.2.1 dJ2_add_5 (by decide) ?_
  refine n_add (a := m) (b := 1) (d := m + 1) hC rfl dJ2_add_6 ?_
  refine g_put hC hE hG in_J2 tyJ2 tyJ2_ok nmJ2 hL.1 (ci := 8) rfl 0 (by decide) q74 (u_same (hC.2.2.2.2 _ q73)) rfl (tyJ2_ok 0 (by decide)) rfl rfl (Nat.le_of_ble_eq_true rfl) dJ2_add_7 (fun H locs hG => ?_)
  have hL1 : liF K (gup V (1, 12, 0) (aL, .inr (8, [.int (nI (m + 1)), .ref ad, .int (nI c)]))) aL (m + 1) ad c n f := ⟨gup_s _ _ _, hL.2.1.imp id (fun h => ⟨h.1, (gup_n _ _ (by decide)).trans h.2⟩), hL.2.2.1, hL.2.2.2.1, hL.2.2.2.2.1.gup (by decide), (gup_n _ _ (by decide)).trans hL.2.2.2.2.2⟩
  refine lv_aload_n hC.1 hC.2.1 dJ2_add_10 rfl (lv_at hl 0 rfl) ?_
  refine lv_aload_n hC.1 hC.2.1 dJ2_add_11 rfl (lv_at hl 1 rfl) ?_
  refine lv_aload_n hC.1 hC.2.1 dJ2_add_12 rfl (lv_at hl 0 rfl) ?_
  refine g_get hC hE hG in_J2 (gup_s _ _ _) (ci := 8) rfl 1 (by decide) q67 (fun _ z => z) rfl dJ2_add_13 ?_
  refine lv_aload_n hC.1 hC.2.1 dJ2_add_16 rfl (lv_at hl 0 rfl) ?_
  refine g_get hC hE hG in_J2 (gup_s _ _ _) (ci := 8) rfl 2 (by decide) q70 (fun _ z => z) rfl dJ2_add_17 ?_
  refine g_cVv (As := [.ref z, .ref ad, .int (nI c)]) (rest := []) hC hE hG (xt_add2 l K A _ aL (m + 1) ad c n z f hL1 hc (hz.gup (by decide))) (cwV 3 hC.2.2.2.2 (lw_V q574 q576 qs3 q24 q577) rfl rfl rfl (by decide +kernel) ⟨Nat.le_of_ble_eq_true rfl, Nat.le_of_ble_eq_true rfl⟩) hL1.1 (ci := 8) rfl rfl hl.1 rfl (Nat.le_of_ble_eq_true rfl) dJ2_add_20 ⟨Nat.le_of_ble_eq_true rfl, Nat.le_of_ble_eq_true rfl⟩ (fun u H locs hu hG => ?_)
  refine lv_iconst (v := 1) hC.1 hC.2.1 dJ2_add_23 (by decide) ?_
  refine g_iret hC (G := lput K aL (m + 1) (c + 1) u V) (hG.eq (by unfold lput; rw [gup_gup])) hr rfl u rfl ⟨rfl, hu.1, hu.2.1, hu.2.2.1, hu.2.2.2.1, fun i hi y hy => ?_⟩ hlocks dJ2_add_24
  obtain ⟨x9, ci9, fs9, r9, k1, k2, k3, k4⟩ := hu.2.2.2.2 i hi y hy
  exact ⟨x9, ci9, fs9, r9, by rw [← k1]; exact (gup_n _ _ (fun e => by rw [e] at k4; exact absurd k4 (by decide))).symm, k2, k3, k4⟩
