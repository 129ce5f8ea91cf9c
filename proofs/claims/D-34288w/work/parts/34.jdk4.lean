/-! ArrayList.iterator and its Itr -/
set_option maxRecDepth 100000
theorem xt_initJ14 (l : Launch) (K : GK) (A : Nat → Prop) (V : GM) (y : Lb) (q aL m c : Nat) (v : Value) (hy : V y = some (q, .inr (9, [.int 0, .int 0, .int 0, .null]))) (hyt : y ≠ (1, 12, 0)) (hL : V (1, 12, 0) = some (aL, .inr (8, [.int (nI m), v, .int (nI c)]))) : Met l yJ14_init (ws_ yJ14_init cJ14_init 2 none) ({ frames := 1, cells := 0, slots := 0, locals := 20 }) (va_Pc [.ref q, .ref aL] (gW K A V)) (va_Qv (fun _ : Unit => True) (fun _ t => gB K A (gup V y (q, .inr (9, [.int 0, .int (-1), .int (nI m), .ref aL]))) t) A) 0 0 A := by
  refine g_ofW (cc := cJ14_init) (by decide) (own := RJ14) rfl (Nat.le_of_ble_eq_true rfl) ?_
  intro p e s mm below meth cd hC hr hlocks hnm hE hG ls hl
  have hl : lv_has ls 2 [(0, .ref q), (1, .ref aL)] := hl
  refine lv_aload_n hC.1 hC.2.1 dJ14_init_0 rfl (lv_at hl 0 rfl) ?_
  refine lv_aload_n hC.1 hC.2.1 dJ14_init_1 rfl (lv_at hl 1 rfl) ?_
  refine g_putF hC hE hG in_J14 tyJ14 tyJ14_ok nmJ14 hy (ci := 9) rfl 3 (by decide) q203 (fun _ z => z) rfl hnm rfl (tyJ14_ok 3 (by decide)) rfl rfl (Nat.le_of_ble_eq_true rfl) dJ14_init_2 (fun H locs hG => ?_)
  refine lv_aload_n hC.1 hC.2.1 dJ14_init_5 rfl (lv_at hl 0 rfl) ?_
  refine W.objInit hC.1 hC.2.1 hC.2.2.2.1 (hC.2.2.2.2 _ q199) (hC.2.2.2.2 _ q51) (hC.2.2.2.2 _ q52) rfl (by rw [hC.2.2.1]; exact hl.1) rfl dJ14_init_6 (Nat.le_of_ble_eq_true rfl) (Nat.le_of_ble_eq_true rfl) ?_
  refine W.eq (g2 := F0 mm 9 ls []) rfl ?_
  refine lv_aload_n hC.1 hC.2.1 dJ14_init_9 rfl (lv_at hl 0 rfl) ?_
  refine lv_iconst (v := -1) hC.1 hC.2.1 dJ14_init_10 (by decide) ?_
  refine g_put hC hE hG in_J14 tyJ14 tyJ14_ok nmJ14 (gup_s _ _ _) (ci := 9) rfl 1 (by decide) q201 (fun _ z => z) rfl (tyJ14_ok 1 (by decide)) rfl rfl (Nat.le_of_ble_eq_true rfl) dJ14_init_11 (fun H locs hG => ?_)
  have hG := hG.eq (gup_gup _ _ _ _)
  refine lv_aload_n hC.1 hC.2.1 dJ14_init_14 rfl (lv_at hl 0 rfl) ?_
  refine lv_aload_n hC.1 hC.2.1 dJ14_init_15 rfl (lv_at hl 0 rfl) ?_
  refine g_get hC hE hG in_J14 (gup_s _ _ _) (ci := 9) rfl 3 (by decide) q203 (fun _ z => z) rfl dJ14_init_16 ?_
  refine g_get hC hE hG in_J2 ((gup_n _ _ (fun e => hyt e.symm)).trans hL) (ci := 8) rfl 0 (by decide) q72 (u_same (hC.2.2.2.2 _ q73)) rfl dJ14_init_19 ?_
  refine g_put hC hE hG in_J14 tyJ14 tyJ14_ok nmJ14 (gup_s _ _ _) (ci := 9) rfl 2 (by decide) q202 (fun _ z => z) rfl (tyJ14_ok 2 (by decide)) rfl rfl (Nat.le_of_ble_eq_true rfl) dJ14_init_22 (fun H locs hG => ?_)
  exact g_vret hC (hG.eq (gup_gup _ _ _ _)) hr () rfl (by trivial) hlocks dJ14_init_25
/-- the list's iterator at (5,1,0) -/
theorem xt_iterator (l : Launch) (K : GK) (A : Nat → Prop) (V : GM) (aL m c : Nat) (v : Value) (hL : V (1, 12, 0) = some (aL, .inr (8, [.int (nI m), v, .int (nI c)]))) : Met l yJ2_iterator (ws_ yJ2_iterator cJ2_iterator 1 (some (.object "java/util/Iterator"))) ({ frames := 2, cells := 1, slots := 4, locals := 60 }) (va_Pc [.ref aL] (gW K A V)) (va_Qr (fun _ : Unit => True) (fun _ q t => gB K A (gup V (5, 1, 0) (q, .inr (9, [.int 0, .int (-1), .int (nI m), .ref aL]))) t) A) 1 4 A := by
  refine g_ofW (cc := cJ2_iterator) (by decide) (own := RJ2) rfl (Nat.le_of_ble_eq_true rfl) ?_
  intro p e s mm below meth cd hC hr hlocks hnm hE hG ls hl
  have hl : lv_has ls 1 [(0, .ref aL)] := hl
  refine g_new hC hE hG (5, 1, 0) in_J14 tyJ14 tyJ14_ok q194 q195 q44 (ci := 9) rfl (fs := [.int 0, .int 0, .int 0, .null]) (by decide) (Nat.le_of_ble_eq_true rfl) (Nat.le_of_ble_eq_true rfl) dJ2_iterator_0 (fun q H hq hG => ?_)
  refine lv_dup hC.1 hC.2.1 dJ2_iterator_3 rfl ?_
  refine lv_aload_n hC.1 hC.2.1 dJ2_iterator_4 rfl (lv_at hl 0 rfl) ?_
  refine g_cI (As := [.ref aL]) (rest := [.ref q]) hC hE hG (xt_initJ14 l K A _ (5, 1, 0) q aL m c v (gup_s _ _ _) (by decide) ((gup_n _ _ (by decide)).trans hL)) (cwI 1 hC.2.2.2.2 (lw_meth q198) rfl rfl rfl (hC.2.2.2.2 _ q44) (hC.2.2.2.2 _ q196) (hC.2.2.2.2 _ q197) rfl (by decide +kernel) ⟨Nat.le_of_ble_eq_true rfl, Nat.le_of_ble_eq_true rfl⟩) rfl hl.1 rfl (Nat.le_of_ble_eq_true rfl) dJ2_iterator_5 ⟨Nat.le_of_ble_eq_true rfl, Nat.le_of_ble_eq_true rfl⟩ (fun _ H locs _ hG => ?_)
  exact g_rret hC (hG.eq (gup_gup _ _ _ _)) hr (Or.inl ⟨_, rfl⟩) () rfl (by trivial) hlocks dJ2_iterator_8
theorem xt_hasNext (l : Launch) (K : GK) (A : Nat → Prop) (V : GM) (aI aL m c k : Nat) (v : Value) (w : Int32) (hI : V (5, 1, 0) = some (aI, .inr (9, [.int (nI k), .int w, .int (nI m), .ref aL]))) (hL : V (1, 12, 0) = some (aL, .inr (8, [.int (nI m), v, .int (nI c)]))) (hk : k < 2 ^ 31) (hc : c < 2 ^ 31) : Met l yJ14_hasNext (ws_ yJ14_hasNext cJ14_hasNext 1 (some .boolean)) ({ frames := 1, cells := 0, slots := 0, locals := 20 }) (va_Pc [.ref aI] (gW K A V)) (vp_Si (fun r => r = bI (¬ k = c))) 0 0 (fun _ => False) := by
  refine g_ofW (cc := cJ14_hasNext) (by decide) (own := RJ14) rfl (Nat.le_of_ble_eq_true rfl) ?_
  intro p e s mm below meth cd hC hr hlocks hnm hE hG ls hl
  have hl : lv_has ls 1 [(0, .ref aI)] := hl
  refine lv_aload_n hC.1 hC.2.1 dJ14_hasNext_0 rfl (lv_at hl 0 rfl) ?_
  refine g_get hC hE hG in_J14 hI (ci := 9) rfl 0 (by decide) q200 (fun _ z => z) rfl dJ14_hasNext_1 ?_
  refine lv_aload_n hC.1 hC.2.1 dJ14_hasNext_4 rfl (lv_at hl 0 rfl) ?_
  refine g_get hC hE hG in_J14 hI (ci := 9) rfl 3 (by decide) q203 (fun _ z => z) rfl dJ14_hasNext_5 ?_
  refine g_getN hC hE hG in_J2 hL (ci := 8) rfl 2 (by decide) 0 rfl (fun _ z => z) rfl dJ14_hasNext_8 ?_
  refine lv_icmp_eq (tgt := 18) hC.1 hC.2.1 dJ14_hasNext_11 (by decide) (fun c1 => ?_) (fun c1 => ?_)
  · refine lv_iconst (v := 0) hC.1 hC.2.1 dJ14_hasNext_18 (by decide) ?_
    exact g_roret hC hr rfl (bI_f (fun h => h ((nI_eq hk hc).mp c1))).symm hlocks dJ14_hasNext_19
  · refine lv_iconst (v := 1) hC.1 hC.2.1 dJ14_hasNext_14 (by decide) ?_
    refine lv_goto (tgt := 19) hC.1 hC.2.1 dJ14_hasNext_15 (by decide) ?_
    exact g_roret hC hr rfl (bI_t (P := ¬ k = c) (fun e => c1 (by rw [e]))).symm hlocks dJ14_hasNext_19
theorem xt_check (l : Launch) (K : GK) (A : Nat → Prop) (V : GM) (aI aL m c k : Nat) (v : Value) (w : Int32) (hI : V (5, 1, 0) = some (aI, .inr (9, [.int (nI k), .int w, .int (nI m), .ref aL]))) (hL : V (1, 12, 0) = some (aL, .inr (8, [.int (nI m), v, .int (nI c)]))) : Met l yJ14_checkForComodification (ws_ yJ14_checkForComodification cJ14_checkForComodification 1 none) ({ frames := 1, cells := 0, slots := 0, locals := 20 }) (va_Pc [.ref aI] (gW K A V)) (va_Qv (fun _ : Unit => True) (fun _ t => gB K A V t) A) 0 0 A := by
  refine g_ofW (cc := cJ14_checkForComodification) (by decide) (own := RJ14) rfl (Nat.le_of_ble_eq_true rfl) ?_
  intro p e s mm below meth cd hC hr hlocks hnm hE hG ls hl
  have hl : lv_has ls 1 [(0, .ref aI)] := hl
  refine lv_aload_n hC.1 hC.2.1 dJ14_checkForComodification_0 rfl (lv_at hl 0 rfl) ?_
  refine g_get hC hE hG in_J14 hI (ci := 9) rfl 3 (by decide) q203 (fun _ z => z) rfl dJ14_checkForComodification_1 ?_
  refine g_get hC hE hG in_J2 hL (ci := 8) rfl 0 (by decide) q72 (u_same (hC.2.2.2.2 _ q73)) rfl dJ14_checkForComodification_4 ?_
  refine lv_aload_n hC.1 hC.2.1 dJ14_checkForComodification_7 rfl (lv_at hl 0 rfl) ?_
  refine g_get hC hE hG in_J14 hI (ci := 9) rfl 2 (by decide) q202 (fun _ z => z) rfl dJ14_checkForComodification_8 ?_
  refine lv_icmp_eq (tgt := 22) hC.1 hC.2.1 dJ14_checkForComodification_11 (by decide) (fun _ => ?_) (fun c1 => absurd rfl c1)
  exact g_vret hC hG hr () rfl (by trivial) hlocks dJ14_checkForComodification_22
theorem xt_next (l : Launch) (K : GK) (A : Nat → Prop) (V : GM) (aI aL m ad c n k z : Nat) (f : Nat → Option Nat) (w : Int32) (hI : V (5, 1, 0) = some (aI, .inr (9, [.int (nI k), .int w, .int (nI m), .ref aL]))) (hL : V (1, 12, 0) = some (aL, .inr (8, [.int (nI m), .ref ad, .int (nI c)]))) (hR : V (1, 13, 0) = some (ad, .inl (K.2.1 3, n, .inr (.inr (.inr (.inr f)))))) (hk : k < c) (hc : c ≤ n) (hn : n ≤ 100) (hz : f k = some z) : Met l yJ14_next (ws_ yJ14_next cJ14_next 3 (some (.object "java/lang/Object"))) ({ frames := 2, cells := 0, slots := 0, locals := 60 }) (va_Pc [.ref aI] (gW K A V)) (va_Qq (fun r (_ : Unit) => r = some z) (fun _ t => gB K A (gup V (5, 1, 0) (aI, .inr (9, [.int (nI (k + 1)), .int (nI k), .int (nI m), .ref aL]))) t) A) 0 0 A := by
  refine g_ofW (cc := cJ14_next) (by decide) (own := RJ14) rfl (Nat.le_of_ble_eq_true rfl) ?_
  intro p e s mm below meth cd hC hr hlocks hnm hE hG ls hl
  have hl : lv_has ls 3 [(0, .ref aI)] := hl
  refine lv_aload_n hC.1 hC.2.1 dJ14_next_0 rfl (lv_at hl 0 rfl) ?_
  refine g_cVv (As := []) (rest := []) hC hE hG (xt_check l K A V aI aL m c k (.ref ad) w hI hL) (cwV 0 hC.2.2.2.2 (lw_V q232 q233 q234 q44 q235) rfl rfl rfl (by decide +kernel) ⟨Nat.le_of_ble_eq_true rfl, Nat.le_of_ble_eq_true rfl⟩) hI (ci := 9) rfl rfl hl.1 rfl (Nat.le_of_ble_eq_true rfl) dJ14_next_1 ⟨Nat.le_of_ble_eq_true rfl, Nat.le_of_ble_eq_true rfl⟩ (fun _ H locs _ hG => ?_)
  refine lv_aload_n hC.1 hC.2.1 dJ14_next_4 rfl (lv_at hl 0 rfl) ?_
  refine g_get hC hE hG in_J14 hI (ci := 9) rfl 0 (by decide) q200 (fun _ z => z) rfl dJ14_next_5 ?_
  refine lv_istore_n (lv' := [(1, .int (nI k)), (0, .ref aI)]) hC.1 hC.2.1 dJ14_next_8 rfl hl (by decide) rfl (fun ls hl => ?_)
  refine lv_iload_n hC.1 hC.2.1 dJ14_next_9 rfl (lv_at hl 0 rfl) ?_
  refine lv_aload_n hC.1 hC.2.1 dJ14_next_10 rfl (lv_at hl 1 rfl) ?_
  refine g_get hC hE hG in_J14 hI (ci := 9) rfl 3 (by decide) q203 (fun _ z => z) rfl dJ14_next_11 ?_
  refine g_getN hC hE hG in_J2 hL (ci := 8) rfl 2 (by decide) 0 rfl (fun _ z => z) rfl dJ14_next_14 ?_
  refine lv_icmp_lt (tgt := 28) hC.1 hC.2.1 dJ14_next_17 (by decide) (fun _ => ?_) (fun c1 => absurd (nI_lt hk (by omega)) c1)
  refine lv_aload_n hC.1 hC.2.1 dJ14_next_28 rfl (lv_at hl 1 rfl) ?_
  refine g_get hC hE hG in_J14 hI (ci := 9) rfl 3 (by decide) q203 (fun _ z => z) rfl dJ14_next_29 ?_
  refine g_get hC hE hG in_J2 hL (ci := 8) rfl 1 (by decide) q68 (fun _ z => z) rfl dJ14_next_32 ?_
  refine lv_astore_n (lv' := [(2, .ref ad), (1, .int (nI k)), (0, .ref aI)]) hC.1 hC.2.1 dJ14_next_35 rfl hl (by decide) rfl (fun ls hl => ?_)
  refine lv_iload_n hC.1 hC.2.1 dJ14_next_36 rfl (lv_at hl 1 rfl) ?_
  refine lv_aload_n hC.1 hC.2.1 dJ14_next_37 rfl (lv_at hl 0 rfl) ?_
  refine g_alen hC hE hG 3 hR rfl (v := nI n) rfl dJ14_next_38 ?_
  refine lv_icmp_lt (tgt := 50) hC.1 hC.2.1 dJ14_next_39 (by decide) (fun _ => ?_) (fun c1 => absurd (nI_lt (a := k) (b := n) (by omega) (by omega)) c1)
  refine lv_aload_n hC.1 hC.2.1 dJ14_next_50 rfl (lv_at hl 2 rfl) ?_
  refine lv_iload_n hC.1 hC.2.1 dJ14_next_51 rfl (lv_at hl 1 rfl) ?_
  refine lv_iconst (v := 1) hC.1 hC.2.1 dJ14_next_52 (by decide) ?_
  refine n_add (a := k) (b := 1) (d := k + 1) hC rfl dJ14_next_53 ?_
  refine g_put hC hE hG in_J14 tyJ14 tyJ14_ok nmJ14 hI (ci := 9) rfl 0 (by decide) q200 (fun _ z => z) rfl (tyJ14_ok 0 (by decide)) rfl rfl (Nat.le_of_ble_eq_true rfl) dJ14_next_54 (fun H locs hG => ?_)
  refine lv_aload_n hC.1 hC.2.1 dJ14_next_57 rfl (lv_at hl 0 rfl) ?_
  refine lv_aload_n hC.1 hC.2.1 dJ14_next_58 rfl (lv_at hl 2 rfl) ?_
  refine lv_iload_n hC.1 hC.2.1 dJ14_next_59 rfl (lv_at hl 1 rfl) ?_
  refine lv_dup_x1 hC.1 hC.2.1 dJ14_next_60 rfl rfl ?_
  refine g_put hC hE hG in_J14 tyJ14 tyJ14_ok nmJ14 (gup_s _ _ _) (ci := 9) rfl 1 (by decide) q201 (fun _ z => z) rfl (tyJ14_ok 1 (by decide)) rfl rfl (Nat.le_of_ble_eq_true rfl) dJ14_next_61 (fun H locs hG => ?_)
  have hG := hG.eq (gup_gup _ _ _ _)
  refine g_aald hC hE hG 3 ((gup_n _ _ (by decide)).trans hR) rfl (vp_in_nI (by omega) (by omega)) dJ14_next_64 ?_
  rw [nI_clamp (by omega), hz]
  refine W.aret hC.1 hC.2.1 hr (Or.inl ⟨_, rfl⟩) (Or.inr ⟨z, rfl⟩) (fun t ht hW => ⟨⟨some z, (), rfl, rfl, by rw [ht]; exact hG.1, hG.2.1⟩, hG.2.2.1.F ht⟩) hG.2.2.1.2.2 dJ14_next_65 hlocks
