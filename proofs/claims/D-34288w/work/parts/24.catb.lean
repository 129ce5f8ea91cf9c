/-! the catalogue's methods, walked: part b (written by tools/mkcat.py) -/
set_option maxRecDepth 100000
set_option maxHeartbeats 4000000 in
theorem xt_doTo6 (l : Launch) (K : GK) (A : Nat → Prop) (G0 : GM) (t lo : Nat) (ad : Nat → Nat → Nat) (κ : KS) (ht : 3 ≤ t) (i eo n f : Nat) (z : Int32) (hn : n < 80) (hf : f < 4) (hz : z = 0 ∨ z = 1) (hev : pAt i eo n f z G0) : Met l yX6_doTo (ws_ yX6_doTo cX6_doTo 2 none) ({ frames := 1, cells := 0, slots := 0, locals := 21 }) (va_Pc ([.ref (eo), .ref (ad 0 0)]) (gW K A (cput K.2.1 t (lo) ad (κ) G0))) (va_Qv (fun u9 : KS => u9 = kProt n f z κ) (fun u9 t9 => gB K A (cput K.2.1 t (lo) ad (u9) G0) t9) A) 0 0 (A) := by
  refine g_ofW (cc := cX6_doTo) (by decide) (own := RX6) rfl (Nat.le_of_ble_eq_true rfl) ?_
  intro p e s m below meth c hC hr hlocks hnm hE hG ls hl
  have hl : lv_has ls 2 [(0, .ref (eo)), (1, .ref (ad 0 0))] := hl
  refine lv_aload_n hC.1 hC.2.1 dX6_doTo_0 rfl (lv_at hl 1 rfl) ?_
  refine lv_aload_n hC.1 hC.2.1 dX6_doTo_1 rfl (lv_at hl 0 rfl) ?_
  refine g_get hC hE hG in_X6 (cput_e ht hev) (ci := 5) rfl 0 (by decide) q646 (fun _ z => z) rfl dX6_doTo_2 ?_
  refine g_roV (As := [.int (nI (n))]) (rest := []) hC hE hG (xt_has l K A G0 t lo ad (κ) (nI (n))) (cwV 1 hC.2.2.2.2 (lw_V q330 q168 q169 q25 q170) rfl rfl rfl (by decide +kernel) ⟨Nat.le_of_ble_eq_true rfl, Nat.le_of_ble_eq_true rfl⟩) (cput_o) (ci := 1) rfl rfl hl.1 rfl (Nat.le_of_ble_eq_true rfl) dX6_doTo_5 ⟨Nat.le_of_ble_eq_true rfl, Nat.le_of_ble_eq_true rfl⟩ (fun r hr9 => ?_)
  subst hr9
  refine b_eq (tgt := 32) hC dX6_doTo_8 (by decide) (fun c_8 => ?_) (fun c_8 => ?_)
  · skip
    exact g_vret hC hG hr (κ) rfl (by simp only [kProt, kHas_n hn c_8]) hlocks dX6_doTo_32
  · skip
    obtain ⟨r, hr9⟩ := kHas_y hn c_8
    refine lv_aload_n hC.1 hC.2.1 dX6_doTo_11 rfl (lv_at hl 1 rfl) ?_
    refine g_getN hC hE hG in_X2 (cput_o) (ci := 1) rfl 0 (by decide) 22 rfl (fun _ z => z) rfl dX6_doTo_12 ?_
    refine lv_aload_n hC.1 hC.2.1 dX6_doTo_15 rfl (lv_at hl 0 rfl) ?_
    refine g_get hC hE hG in_X6 (cput_e ht hev) (ci := 5) rfl 0 (by decide) q646 (fun _ z => z) rfl dX6_doTo_16 ?_
    refine g_qld hC hE hG 4 (cput_r) rfl (by decide) (j := n) (by omega) (v := .ref (ad (n + 1) 0)) (by rw [crow_s hr9]; rfl) dX6_doTo_19 ?_
    refine g_getN hC hE hG in_X5 (cput_ro hr9) (ci := 4) rfl 3 (by decide) 23 rfl (fun _ z => z) rfl dX6_doTo_20 ?_
    refine lv_aload_n hC.1 hC.2.1 dX6_doTo_23 rfl (lv_at hl 0 rfl) ?_
    refine g_get hC hE hG in_X6 (cput_e ht hev) (ci := 5) rfl 1 (by decide) q647 (fun _ z => z) rfl dX6_doTo_24 ?_
    refine lv_aload_n hC.1 hC.2.1 dX6_doTo_27 rfl (lv_at hl 0 rfl) ?_
    refine g_get hC hE hG in_X6 (cput_e ht hev) (ci := 5) rfl 2 (by decide) q648 (fun _ z => z) rfl dX6_doTo_28 ?_
    refine g_zst hC hE hG (n := 4) (cput_r4 hr9) (by decide) (j := f) (by omega) (nz01 hz) dX6_doTo_31 (fun H locs hG => ?_)
    have hG : gG K A s.heap (cput K.2.1 t (lo) ad (kSet (κ) (n) (rA (r) 4 (upd ((r).1 4) (f) (z)))) G0) H locs := hG.eq ((cput_rA (j := 4) hr9 (by decide)))
    exact g_vret hC hG hr (kSet (κ) (n) (rA (r) 4 (upd ((r).1 4) (f) (z)))) rfl (by simp only [kProt, hr9]) hlocks dX6_doTo_32
set_option maxHeartbeats 4000000 in
theorem xt_doTo7 (l : Launch) (K : GK) (A : Nat → Prop) (G0 : GM) (t lo : Nat) (ad : Nat → Nat → Nat) (κ : KS) (ht : 3 ≤ t) (i eo n : Nat) (hn : n < 80) (hev : hAt i eo n G0) : Met l yX7_doTo (ws_ yX7_doTo cX7_doTo 2 none) ({ frames := 1, cells := 0, slots := 0, locals := 21 }) (va_Pc ([.ref (eo), .ref (ad 0 0)]) (gW K A (cput K.2.1 t (lo) ad (κ) G0))) (va_Qv (fun u9 : KS => u9 = kHold n κ) (fun u9 t9 => gB K A (cput K.2.1 t (lo) ad (u9) G0) t9) A) 0 0 (A) := by
  refine g_ofW (cc := cX7_doTo) (by decide) (own := RX7) rfl (Nat.le_of_ble_eq_true rfl) ?_
  intro p e s m below meth c hC hr hlocks hnm hE hG ls hl
  have hl : lv_has ls 2 [(0, .ref (eo)), (1, .ref (ad 0 0))] := hl
  refine lv_aload_n hC.1 hC.2.1 dX7_doTo_0 rfl (lv_at hl 1 rfl) ?_
  refine lv_aload_n hC.1 hC.2.1 dX7_doTo_1 rfl (lv_at hl 0 rfl) ?_
  refine g_get hC hE hG in_X7 (cput_e ht hev) (ci := 6) rfl 0 (by decide) q673 (fun _ z => z) rfl dX7_doTo_2 ?_
  refine g_roV (As := [.int (nI (n))]) (rest := []) hC hE hG (xt_has l K A G0 t lo ad (κ) (nI (n))) (cwV 1 hC.2.2.2.2 (lw_V q247 q168 q169 q25 q170) rfl rfl rfl (by decide +kernel) ⟨Nat.le_of_ble_eq_true rfl, Nat.le_of_ble_eq_true rfl⟩) (cput_o) (ci := 1) rfl rfl hl.1 rfl (Nat.le_of_ble_eq_true rfl) dX7_doTo_5 ⟨Nat.le_of_ble_eq_true rfl, Nat.le_of_ble_eq_true rfl⟩ (fun r hr9 => ?_)
  subst hr9
  refine b_eq (tgt := 29) hC dX7_doTo_8 (by decide) (fun c_8 => ?_) (fun c_8 => ?_)
  · skip
    exact g_vret hC hG hr (κ) rfl (by simp only [kHold, kHas_n hn c_8]) hlocks dX7_doTo_29
  · skip
    obtain ⟨r, hr9⟩ := kHas_y hn c_8
    refine lv_aload_n hC.1 hC.2.1 dX7_doTo_11 rfl (lv_at hl 1 rfl) ?_
    refine g_getN hC hE hG in_X2 (cput_o) (ci := 1) rfl 0 (by decide) 24 rfl (fun _ z => z) rfl dX7_doTo_12 ?_
    refine lv_aload_n hC.1 hC.2.1 dX7_doTo_15 rfl (lv_at hl 0 rfl) ?_
    refine g_get hC hE hG in_X7 (cput_e ht hev) (ci := 6) rfl 0 (by decide) q673 (fun _ z => z) rfl dX7_doTo_16 ?_
    refine g_qld hC hE hG 4 (cput_r) rfl (by decide) (j := n) (by omega) (v := .ref (ad (n + 1) 0)) (by rw [crow_s hr9]; rfl) dX7_doTo_19 ?_
    refine lv_dup hC.1 hC.2.1 dX7_doTo_20 rfl ?_
    refine g_getN hC hE hG in_X5 (cput_ro hr9) (ci := 4) rfl 4 (by decide) 25 rfl (fun _ z => z) rfl dX7_doTo_21 ?_
    refine lv_iconst (v := 1) hC.1 hC.2.1 dX7_doTo_24 (by decide) ?_
    refine lv_iadd hC.1 hC.2.1 dX7_doTo_25 ?_
    refine g_putN hC hE hG in_X5 tyX5 tyX5_ok nmX5 (cput_ro hr9) (ci := 4) rfl 4 (by decide) 25 rfl (fun _ z => z) rfl (tyX5_ok 4 (by decide)) (rfl) rfl (Nat.le_of_ble_eq_true rfl) dX7_doTo_26 (fun H locs hG => ?_)
    have hG : gG K A s.heap (cput K.2.1 t (lo) ad (kSet (κ) (n) (rV (r) (r.2 + (1)))) G0) H locs := hG.eq ((cput_rV hr9))
    exact g_vret hC hG hr (kSet (κ) (n) (rV (r) (r.2 + (1)))) rfl (by simp only [kHold, hr9]) hlocks dX7_doTo_29
set_option maxHeartbeats 4000000 in
theorem xt_doTo8 (l : Launch) (K : GK) (A : Nat → Prop) (G0 : GM) (t lo : Nat) (ad : Nat → Nat → Nat) (κ : KS) (ht : 3 ≤ t) (i eo a b : Nat) (ha : a < 80) (hb : b < 80) (hab : a ≠ b) (hev : jAt i eo a b G0) : Met l yX8_doTo (ws_ yX8_doTo cX8_doTo 5 none) ({ frames := 1, cells := 0, slots := 0, locals := 23 }) (va_Pc ([.ref (eo), .ref (ad 0 0)]) (gW K A (cput K.2.1 t (lo) ad (κ) G0))) (va_Qv (fun u9 : KS => u9 = kJoin a b κ) (fun u9 t9 => gB K A (cput K.2.1 t (lo) ad (u9) G0) t9) A) 0 0 (A) := by
  refine g_ofW (cc := cX8_doTo) (by decide) (own := RX8) rfl (Nat.le_of_ble_eq_true rfl) ?_
  intro p e s m below meth c hC hr hlocks hnm hE hG ls hl
  have hl : lv_has ls 5 [(0, .ref (eo)), (1, .ref (ad 0 0))] := hl
  refine lv_aload_n hC.1 hC.2.1 dX8_doTo_0 rfl (lv_at hl 1 rfl) ?_
  refine lv_aload_n hC.1 hC.2.1 dX8_doTo_1 rfl (lv_at hl 0 rfl) ?_
  refine g_get hC hE hG in_X8 (cput_e ht hev) (ci := 7) rfl 0 (by decide) q690 (fun _ z => z) rfl dX8_doTo_2 ?_
  refine g_roV (As := [.int (nI (a))]) (rest := []) hC hE hG (xt_has l K A G0 t lo ad (κ) (nI (a))) (cwV 1 hC.2.2.2.2 (lw_V q321 q168 q169 q25 q170) rfl rfl rfl (by decide +kernel) ⟨Nat.le_of_ble_eq_true rfl, Nat.le_of_ble_eq_true rfl⟩) (cput_o) (ci := 1) rfl rfl hl.1 rfl (Nat.le_of_ble_eq_true rfl) dX8_doTo_5 ⟨Nat.le_of_ble_eq_true rfl, Nat.le_of_ble_eq_true rfl⟩ (fun r hr9 => ?_)
  subst hr9
  refine b_eq (tgt := 22) hC dX8_doTo_8 (by decide) (fun c_8 => ?_) (fun c_8 => ?_)
  · skip
    exact g_vret hC hG hr (κ) rfl (by simp only [kJoin, kHas_n ha c_8]) hlocks dX8_doTo_22
  · skip
    obtain ⟨ra, hra⟩ := kHas_y ha c_8
    refine lv_aload_n hC.1 hC.2.1 dX8_doTo_11 rfl (lv_at hl 1 rfl) ?_
    refine lv_aload_n hC.1 hC.2.1 dX8_doTo_12 rfl (lv_at hl 0 rfl) ?_
    refine g_get hC hE hG in_X8 (cput_e ht hev) (ci := 7) rfl 1 (by decide) q691 (fun _ z => z) rfl dX8_doTo_13 ?_
    refine g_roV (As := [.int (nI (b))]) (rest := []) hC hE hG (xt_has l K A G0 t lo ad (κ) (nI (b))) (cwV 1 hC.2.2.2.2 (lw_V q321 q168 q169 q25 q170) rfl rfl rfl (by decide +kernel) ⟨Nat.le_of_ble_eq_true rfl, Nat.le_of_ble_eq_true rfl⟩) (cput_o) (ci := 1) rfl rfl hl.1 rfl (Nat.le_of_ble_eq_true rfl) dX8_doTo_16 ⟨Nat.le_of_ble_eq_true rfl, Nat.le_of_ble_eq_true rfl⟩ (fun r hr9 => ?_)
    subst hr9
    refine b_ne (tgt := 23) hC dX8_doTo_19 (by decide) (fun c_19 => ?_) (fun c_19 => ?_)
    · skip
      obtain ⟨rb, hrb⟩ := kHas_y hb c_19
      refine lv_aload_n hC.1 hC.2.1 dX8_doTo_23 rfl (lv_at hl 1 rfl) ?_
      refine g_getN hC hE hG in_X2 (cput_o) (ci := 1) rfl 0 (by decide) 26 rfl (fun _ z => z) rfl dX8_doTo_24 ?_
      refine lv_aload_n hC.1 hC.2.1 dX8_doTo_27 rfl (lv_at hl 0 rfl) ?_
      refine g_get hC hE hG in_X8 (cput_e ht hev) (ci := 7) rfl 0 (by decide) q690 (fun _ z => z) rfl dX8_doTo_28 ?_
      refine g_qld hC hE hG 4 (cput_r) rfl (by decide) (j := a) (by omega) (v := .ref (ad (a + 1) 0)) (by rw [crow_s hra]; rfl) dX8_doTo_31 ?_
      refine lv_astore_n (lv' := [(2, .ref (ad (a + 1) 0)), (0, .ref (eo)), (1, .ref (ad 0 0))]) hC.1 hC.2.1 dX8_doTo_32 rfl hl (by decide) rfl (fun ls hl => ?_)
      refine lv_aload_n hC.1 hC.2.1 dX8_doTo_33 rfl (lv_at hl 2 rfl) ?_
      refine g_getN hC hE hG in_X2 (cput_o) (ci := 1) rfl 0 (by decide) 26 rfl (fun _ z => z) rfl dX8_doTo_34 ?_
      refine lv_aload_n hC.1 hC.2.1 dX8_doTo_37 rfl (lv_at hl 1 rfl) ?_
      refine g_get hC hE hG in_X8 (cput_e ht hev) (ci := 7) rfl 1 (by decide) q691 (fun _ z => z) rfl dX8_doTo_38 ?_
      refine g_qld hC hE hG 4 (cput_r) rfl (by decide) (j := b) (by omega) (v := .ref (ad (b + 1) 0)) (by rw [crow_s hrb]; rfl) dX8_doTo_41 ?_
      refine lv_astore_n (lv' := [(3, .ref (ad (b + 1) 0)), (2, .ref (ad (a + 1) 0)), (0, .ref (eo)), (1, .ref (ad 0 0))]) hC.1 hC.2.1 dX8_doTo_42 rfl hl (by decide) rfl (fun ls hl => ?_)
      refine lv_aload_n hC.1 hC.2.1 dX8_doTo_43 rfl (lv_at hl 0 rfl) ?_
      refine lv_dup hC.1 hC.2.1 dX8_doTo_44 rfl ?_
      refine g_getN hC hE hG in_X5 (cput_ro hrb) (ci := 4) rfl 4 (by decide) 30 rfl (fun _ z => z) rfl dX8_doTo_45 ?_
      refine lv_aload_n hC.1 hC.2.1 dX8_doTo_48 rfl (lv_at hl 1 rfl) ?_
      refine g_getN hC hE hG in_X5 (cput_ro hra) (ci := 4) rfl 4 (by decide) 30 rfl (fun _ z => z) rfl dX8_doTo_49 ?_
      refine lv_iadd hC.1 hC.2.1 dX8_doTo_52 ?_
      refine g_putN hC hE hG in_X5 tyX5 tyX5_ok nmX5 (cput_ro hrb) (ci := 4) rfl 4 (by decide) 30 rfl (fun _ z => z) rfl (tyX5_ok 4 (by decide)) (rfl) rfl (Nat.le_of_ble_eq_true rfl) dX8_doTo_53 (fun H locs hG => ?_)
      have hG : gG K A s.heap (cput K.2.1 t (lo) ad (kSet (κ) (b) (rV (rb) (rb.2 + ra.2))) G0) H locs := hG.eq ((cput_rV hrb))
      refine lv_aload_n hC.1 hC.2.1 dX8_doTo_56 rfl (lv_at hl 0 rfl) ?_
      refine lv_aload_n hC.1 hC.2.1 dX8_doTo_57 rfl (lv_at hl 1 rfl) ?_
      refine g_getN hC hE hG in_X5 (cput_ro ((kSet_n hab).trans hra)) (ci := 4) rfl 0 (by decide) 27 rfl (fun _ z => z) rfl dX8_doTo_58 ?_
      refine g_cVv (As := [.ref (ad (a + 1) 1)]) (rest := []) (S := KS) hC hE hG (xt_fillKeys l K A G0 t lo ad (kSet (κ) (b) (rV (rb) (rb.2 + ra.2))) b (rV (rb) (rb.2 + ra.2)) kSet_at (t, a + 1, 1) (ad (a + 1) 1) (ra.1 1) (fun R => cput_r1 ((kSet_n hab).trans (((kSet_n hab).trans hra))))) (cwV 1 hC.2.2.2.2 (lw_V q322 q304 q305 q40 q306) rfl rfl rfl (by decide +kernel) ⟨Nat.le_of_ble_eq_true rfl, Nat.le_of_ble_eq_true rfl⟩) (cput_ro kSet_at) (ci := 4) rfl rfl hl.1 rfl (Nat.le_of_ble_eq_true rfl) dX8_doTo_61 ⟨Nat.le_of_ble_eq_true rfl, Nat.le_of_ble_eq_true rfl⟩ (fun u H locs hu9 hG => ?_)
      subst hu9
      have hG : gG K A s.heap (cput K.2.1 t (lo) ad (kSet (κ) (b) (fill (ra.1 1) (rV (rb) (rb.2 + ra.2)))) G0) H locs := hG.eq (by rw [kSet_set])
      refine lv_iconst (v := 0) hC.1 hC.2.1 dX8_doTo_64 (by decide) ?_
      refine lv_istore (lv' := [(4, .int ((0))), (3, .ref (ad (b + 1) 0)), (2, .ref (ad (a + 1) 0)), (0, .ref (eo)), (1, .ref (ad 0 0))]) hC.1 hC.2.1 dX8_doTo_65 hl (by decide) rfl (fun ls hl => ?_)
      have lp67 : ∀ (nn i67 : Nat), i67 + nn = 4 → ∀ (H : Heap) (locs : List Loc), gG K A s.heap (cput K.2.1 t (lo) ad (kSet (κ) (b) (gFn ra (i67) (fill (ra.1 1) (rV rb (rb.2 + ra.2))))) G0) H locs → ∀ ls : Array Slot, lv_has ls 5 [(4, .int (nI (i67))), (3, .ref (ad (b + 1) 0)), (2, .ref (ad (a + 1) 0)), (0, .ref (eo)), (1, .ref (ad 0 0))] → W p l e ({ frames := 1, cells := 0, slots := 0, locals := 23 }) s m ([.ref (eo), .ref (ad 0 0)] : List Value).toArray below meth c H locs 0 0 (MQ below (va_Qv (fun u9 : KS => u9 = kJoin a b κ) (fun u9 t9 => gB K A (cput K.2.1 t (lo) ad (u9) G0) t9) A) ([.ref (eo), .ref (ad 0 0)] : List Value).toArray s 0 0 (A)) (F0 m 67 ls []) := by
        intro nn
        induction nn with
        | zero =>
          intro i67 hi67 H locs hG ls hl
          obtain rfl : 4 = i67 := by omega
          refine lv_iload hC.1 hC.2.1 dX8_doTo_67 (lv_at hl 0 rfl) ?_
          refine lv_iconst (v := 4) hC.1 hC.2.1 dX8_doTo_69 (by decide) ?_
          refine n_ge (a := 4) (b := 4) hC (by omega) (by omega) (tgt := 121) dX8_doTo_70 (by decide) (fun c_70 => ?_) (fun c_70 => absurd c_70 (by omega))
          refine lv_aload_n hC.1 hC.2.1 dX8_doTo_121 rfl (lv_at hl 4 rfl) ?_
          refine g_getN hC hE hG in_X2 (cput_o) (ci := 1) rfl 0 (by decide) 26 rfl (fun _ z => z) rfl dX8_doTo_122 ?_
          refine lv_aload_n hC.1 hC.2.1 dX8_doTo_125 rfl (lv_at hl 3 rfl) ?_
          refine g_get hC hE hG in_X8 (cput_e ht hev) (ci := 7) rfl 0 (by decide) q690 (fun _ z => z) rfl dX8_doTo_126 ?_
          refine lv_null hC.1 hC.2.1 dX8_doTo_129 ?_
          refine g_aastN hC hE hG 4 (cput_r) rfl (i := nI (a)) (vp_in_nI ha (by decide)) dX8_doTo_130 (fun H locs hG => ?_)
          rw [nI_clamp (by omega)] at hG
          have hG : gG K A s.heap (cput K.2.1 t (lo) ad (kDel (kSet (κ) (b) (gFn ra (4) (fill (ra.1 1) (rV rb (rb.2 + ra.2))))) (a)) G0) H locs := hG.le cput_del
          exact g_vret hC hG hr (kDel (kSet (κ) (b) (gFn ra (4) (fill (ra.1 1) (rV rb (rb.2 + ra.2))))) (a)) rfl (by simp only [kJoin, hra, hrb]) hlocks dX8_doTo_131
        | succ nn ih67 =>
          intro i67 hi67 H locs hG ls hl
          have hlt67 : i67 < 4 := by omega
          refine lv_iload hC.1 hC.2.1 dX8_doTo_67 (lv_at hl 0 rfl) ?_
          refine lv_iconst (v := 4) hC.1 hC.2.1 dX8_doTo_69 (by decide) ?_
          refine n_ge (a := i67) (b := 4) hC (by omega) (by omega) (tgt := 121) dX8_doTo_70 (by decide) (fun c_70 => absurd c_70 (by omega)) (fun c_70 => ?_)
          refine lv_aload_n hC.1 hC.2.1 dX8_doTo_73 rfl (lv_at hl 1 rfl) ?_
          refine g_getN hC hE hG in_X5 (cput_ro kSet_at) (ci := 4) rfl 1 (by decide) 28 rfl (fun _ z => z) rfl dX8_doTo_74 ?_
          refine lv_iload hC.1 hC.2.1 dX8_doTo_77 (lv_at hl 0 rfl) ?_
          refine g_ild hC hE hG (n := 4) (cput_r2 kSet_at) (by decide) (j := i67) (v := (gFn ra (i67) (fill (ra.1 1) (rV rb (rb.2 + ra.2)))).1 2 i67) (by omega) (rfl) dX8_doTo_79 ?_
          refine lv_iconst (v := -1) hC.1 hC.2.1 dX8_doTo_80 (by decide) ?_
          refine lv_icmp_ne (tgt := 115) hC.1 hC.2.1 dX8_doTo_81 (by decide) (fun c_81 => ?_) (fun c_81 => ?_)
          · skip
            refine lv_iinc (v := nI (i67 + 1)) (lv' := [(4, .int (nI (i67 + 1))), (3, .ref (ad (b + 1) 0)), (2, .ref (ad (a + 1) 0)), (0, .ref (eo)), (1, .ref (ad 0 0))]) hC.1 hC.2.1 dX8_doTo_115 hl (k := 0) rfl (n_inc _) (by decide) rfl (fun ls hl => ?_)
            refine lv_goto (tgt := 67) hC.1 hC.2.1 dX8_doTo_118 (by decide) ?_
            have hσ : kSet (κ) (b) (gFn ra (i67) (fill (ra.1 1) (rV rb (rb.2 + ra.2)))) = kSet (κ) (b) (gFn ra (i67 + 1) (fill (ra.1 1) (rV rb (rb.2 + ra.2)))) := by
              simp only [gFn, gFs, if_pos c_8, hra, if_pos c_19, hrb, if_neg c_81, if_true, if_false]
            exact ih67 (i67 + 1) (by omega) _ _ (hG.eq (by rw [hσ])) ls (lv_sub hl [0, 1, 2, 3, 4] rfl)
          · skip
            refine lv_aload_n hC.1 hC.2.1 dX8_doTo_84 rfl (lv_at hl 2 rfl) ?_
            refine g_getN hC hE hG in_X5 (cput_ro ((kSet_n hab).trans hra)) (ci := 4) rfl 1 (by decide) 28 rfl (fun _ z => z) rfl dX8_doTo_85 ?_
            refine lv_iload hC.1 hC.2.1 dX8_doTo_88 (lv_at hl 0 rfl) ?_
            refine g_ild hC hE hG (n := 4) (cput_r2 ((kSet_n hab).trans hra)) (by decide) (j := i67) (v := ra.1 2 i67) (by omega) (rfl) dX8_doTo_90 ?_
            refine lv_iconst (v := -1) hC.1 hC.2.1 dX8_doTo_91 (by decide) ?_
            refine lv_icmp_eq (tgt := 115) hC.1 hC.2.1 dX8_doTo_92 (by decide) (fun c_92 => ?_) (fun c_92 => ?_)
            · skip
              refine lv_iinc (v := nI (i67 + 1)) (lv' := [(4, .int (nI (i67 + 1))), (3, .ref (ad (b + 1) 0)), (2, .ref (ad (a + 1) 0)), (0, .ref (eo)), (1, .ref (ad 0 0))]) hC.1 hC.2.1 dX8_doTo_115 hl (k := 0) rfl (n_inc _) (by decide) rfl (fun ls hl => ?_)
              refine lv_goto (tgt := 67) hC.1 hC.2.1 dX8_doTo_118 (by decide) ?_
              have hσ : kSet (κ) (b) (gFn ra (i67) (fill (ra.1 1) (rV rb (rb.2 + ra.2)))) = kSet (κ) (b) (gFn ra (i67 + 1) (fill (ra.1 1) (rV rb (rb.2 + ra.2)))) := by
                simp only [gFn, gFs, if_pos c_8, hra, if_pos c_19, hrb, if_pos c_81, if_pos c_92, if_true, if_false]
              exact ih67 (i67 + 1) (by omega) _ _ (hG.eq (by rw [hσ])) ls (lv_sub hl [0, 1, 2, 3, 4] rfl)
            · skip
              refine lv_aload_n hC.1 hC.2.1 dX8_doTo_95 rfl (lv_at hl 1 rfl) ?_
              refine lv_iload hC.1 hC.2.1 dX8_doTo_96 (lv_at hl 0 rfl) ?_
              refine lv_aload_n hC.1 hC.2.1 dX8_doTo_98 rfl (lv_at hl 2 rfl) ?_
              refine g_getN hC hE hG in_X5 (cput_ro ((kSet_n hab).trans hra)) (ci := 4) rfl 1 (by decide) 28 rfl (fun _ z => z) rfl dX8_doTo_99 ?_
              refine lv_iload hC.1 hC.2.1 dX8_doTo_102 (lv_at hl 0 rfl) ?_
              refine g_ild hC hE hG (n := 4) (cput_r2 ((kSet_n hab).trans hra)) (by decide) (j := i67) (v := ra.1 2 i67) (by omega) (rfl) dX8_doTo_104 ?_
              refine lv_aload_n hC.1 hC.2.1 dX8_doTo_105 rfl (lv_at hl 2 rfl) ?_
              refine g_getN hC hE hG in_X5 (cput_ro ((kSet_n hab).trans hra)) (ci := 4) rfl 2 (by decide) 29 rfl (fun _ z => z) rfl dX8_doTo_106 ?_
              refine lv_iload hC.1 hC.2.1 dX8_doTo_109 (lv_at hl 0 rfl) ?_
              refine g_ild hC hE hG (n := 4) (cput_r3 ((kSet_n hab).trans hra)) (by decide) (j := i67) (v := ra.1 3 i67) (by omega) (rfl) dX8_doTo_111 ?_
              refine g_cVv (As := [.int (nI (i67)), .int (ra.1 2 i67), .int (ra.1 3 i67)]) (rest := []) (S := KS) hC hE hG (xt_put l K A G0 t lo ad (kSet (κ) (b) (gFn ra (i67) (fill (ra.1 1) (rV rb (rb.2 + ra.2))))) b (gFn ra (i67) (fill (ra.1 1) (rV rb (rb.2 + ra.2)))) kSet_at i67 (by omega) (ra.1 2 i67) (ra.1 3 i67)) (cwV 3 hC.2.2.2.2 (lw_V q323 q312 q313 q40 q314) rfl rfl rfl (by decide +kernel) ⟨Nat.le_of_ble_eq_true rfl, Nat.le_of_ble_eq_true rfl⟩) (cput_ro kSet_at) (ci := 4) rfl rfl hl.1 rfl (Nat.le_of_ble_eq_true rfl) dX8_doTo_112 ⟨Nat.le_of_ble_eq_true rfl, Nat.le_of_ble_eq_true rfl⟩ (fun u H locs hu9 hG => ?_)
              subst hu9
              have hG : gG K A s.heap (cput K.2.1 t (lo) ad (kSet (κ) (b) (rPut (gFn ra (i67) (fill (ra.1 1) (rV rb (rb.2 + ra.2)))) i67 (ra.1 2 i67) (ra.1 3 i67))) G0) H locs := hG.eq (by rw [kSet_set])
              refine lv_iinc (v := nI (i67 + 1)) (lv' := [(4, .int (nI (i67 + 1))), (3, .ref (ad (b + 1) 0)), (2, .ref (ad (a + 1) 0)), (0, .ref (eo)), (1, .ref (ad 0 0))]) hC.1 hC.2.1 dX8_doTo_115 hl (k := 0) rfl (n_inc _) (by decide) rfl (fun ls hl => ?_)
              refine lv_goto (tgt := 67) hC.1 hC.2.1 dX8_doTo_118 (by decide) ?_
              have hσ : kSet (κ) (b) (rPut (gFn ra (i67) (fill (ra.1 1) (rV rb (rb.2 + ra.2)))) i67 (ra.1 2 i67) (ra.1 3 i67)) = kSet (κ) (b) (gFn ra (i67 + 1) (fill (ra.1 1) (rV rb (rb.2 + ra.2)))) := by
                simp only [gFn, gFs, if_pos c_8, hra, if_pos c_19, hrb, if_pos c_81, if_neg c_92, if_true, if_false]
              exact ih67 (i67 + 1) (by omega) _ _ (hG.eq (by rw [hσ])) ls (lv_sub hl [0, 1, 2, 3, 4] rfl)
      exact lp67 4 0 (by omega) _ _ hG ls (lv_sub hl [0, 1, 2, 3, 4] rfl)
    · skip
      exact g_vret hC hG hr (κ) rfl (by simp only [kJoin, hra, kHas_n hb c_19]) hlocks dX8_doTo_22
