/-! the loader's act -/
set_option maxRecDepth 100000
set_option maxHeartbeats 4000000 in
theorem xl_act (l : Launch) (hst : l.stackTraces = false) (K : GK) (A : Nat → Prop) (b : Nat → Nat) (x : MS) (ad : Nat → Nat → Nat) (κ : KS) (G : GM) (m da c n N : Nat) (f : Nat → Option Nat) (hL : liF K G (b 9) m da c n f) (hc : c ≤ 64) (q : Nat → Nat) (ev : Ev) (hev : evAt K.2.1 (b 11) c q ev G) (hok : eOk N ev) (hki : kIv κ N) (hO : wO x) (Ac : Nat) (hA : x.1 8 = nI Ac) (hA1 : Ac < 100)
    : Met l yX1_act (ws_ yX1_act cX1_act 2 none) ({ frames := 8, cells := 7, slots := 126, locals := 400 }) (va_Pc [.ref (b 11), .ref (q 0)] (gW K A (LW K.2.1 b x ad κ G))) (va_Qv (fun u : (Nat × Nat × (Nat → Option Nat)) × (Nat → Nat → Nat) => aPost G c (q 0) f u.1 ∧ ∀ y, eAd ev y → u.2 y = ad y) (fun u t => gB K A (LW K.2.1 b (sS x 8 (nI (Ac + 1))) u.2 (kDo (sS x 8 (nI (Ac + 1))) ev κ) (lput K (b 9) (m + 1) (c + 1) u.1 G)) t) A) 7 126 A := by
  refine g_ofW (cc := cX1_act) (by decide) (own := RX1) rfl (Nat.le_of_ble_eq_true rfl) ?_
  intro p e s mm below meth cd hC hr hlocks hnm hE hG ls hl
  have hl : lv_has ls 2 [(0, .ref (b 11)), (1, .ref (q 0))] := hl
  refine lv_aload_n hC.1 hC.2.1 dX1_act_0 rfl (lv_at hl 0 rfl) ?_
  refine g_get hC hE hG in_X1 LW_at.1 (ci := 0) rfl 8 (by decide) q121 (fun _ z => z) (v := .int (nI Ac)) (by rw [← hA]; rfl) dX1_act_1 ?_
  refine lv_bipush (v := 100) hC.1 hC.2.1 dX1_act_4 (by decide) ?_
  refine n_ge (a := Ac) (b := 100) hC (by omega) (by omega) (tgt := 13) dX1_act_6 (by decide) (fun c1 => absurd c1 (by omega)) (fun _ => ?_)
  refine lv_iconst (v := 1) hC.1 hC.2.1 dX1_act_9 (by decide) ?_
  refine lv_goto (tgt := 14) hC.1 hC.2.1 dX1_act_10 (by decide) ?_
  refine g_xSv (As := [.int (bI True)]) (rest := []) hC hE hG (xt_needState l hst K A _ True) (va_cwS 1 hC.2.2.2.2 (lw_S q462 q463 q21 q464) rfl rfl rfl (by decide +kernel) ⟨Nat.le_of_ble_eq_true rfl, Nat.le_of_ble_eq_true rfl⟩) rfl hl.1 rfl (Nat.le_of_ble_eq_true rfl) dX1_act_14 ⟨Nat.le_of_ble_eq_true rfl, Nat.le_of_ble_eq_true rfl⟩ (fun k ce q9 H1 locs1 hk => absurd trivial hk.2) (fun H locs _ hG => ?_)
  refine lv_aload_n hC.1 hC.2.1 dX1_act_17 rfl (lv_at hl 0 rfl) ?_
  refine lv_dup hC.1 hC.2.1 dX1_act_18 rfl ?_
  refine g_get hC hE hG in_X1 LW_at.1 (ci := 0) rfl 8 (by decide) q121 (fun _ z => z) (v := .int (nI Ac)) (by rw [← hA]; rfl) dX1_act_19 ?_
  refine lv_iconst (v := 1) hC.1 hC.2.1 dX1_act_22 (by decide) ?_
  refine n_add (a := Ac) (b := 1) (d := Ac + 1) hC rfl dX1_act_23 ?_
  refine g_put hC hE hG in_X1 tyX1 tyX1_ok nmX1 LW_at.1 (ci := 0) rfl 8 (by decide) q121 (fun _ z => z) rfl (tyX1_ok 8 (by decide)) rfl rfl (Nat.le_of_ble_eq_true rfl) dX1_act_24 (fun H locs hG => ?_)
  have hG : gG K A s.heap (LW K.2.1 b (sS x 8 (nI (Ac + 1))) ad κ G) H locs := hG.eq (LW_S (by decide))
  refine lv_aload_n hC.1 hC.2.1 dX1_act_27 rfl (lv_at hl 0 rfl) ?_
  refine lv_aload_n hC.1 hC.2.1 dX1_act_28 rfl (lv_at hl 1 rfl) ?_
  refine g_cVv (As := [.ref (q 0)]) (rest := []) hC hE hG (xl_happen l K A b (sS x 8 (nI (Ac + 1))) ad κ G m da c n N f hL hc q ev hev hok hki hO) (cwV 1 hC.2.2.2.2 (lw_V q566 q568 qs2 q21 q569) rfl rfl rfl (by decide +kernel) ⟨Nat.le_of_ble_eq_true rfl, Nat.le_of_ble_eq_true rfl⟩) LW_at.1 (ci := 0) rfl rfl hl.1 rfl (Nat.le_of_ble_eq_true rfl) dX1_act_29 ⟨Nat.le_of_ble_eq_true rfl, Nat.le_of_ble_eq_true rfl⟩ (fun u H locs hu hG => ?_)
  exact g_vret hC hG hr u rfl hu hlocks dX1_act_32
