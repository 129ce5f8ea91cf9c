/-! the catalogue's methods, walked: part c (written by tools/mkcat.py) -/
set_option maxRecDepth 100000
set_option maxHeartbeats 4000000 in
theorem xt_doTo4 (l : Launch) (K : GK) (A : Nat → Prop) (G0 : GM) (t : Nat) (ad : Nat → Nat → Nat) (κ : KS) (b : Nat → Nat) (x : MS) (cn : Nat) (ht : 3 ≤ t) (hlo : lAt K.2.1 b x cn G0) (i : Nat) (ea : Nat → Nat) (n : Nat) (bt u : Int32) (O F : Nat → Int32) (hev : dAt K.2.1 i ea n bt u O F (b 11) G0) (hn : n < 80) (hk : κ.1 n = none) (hbt : vp_in bt 10) (hu : vp_in u 5) (hO : wO x) (hok : ∀ j r, κ.1 j = some r → rOk r) : Met l yX4_doTo (ws_ yX4_doTo cX4_doTo 3 none) ({ frames := 2, cells := 5, slots := 20, locals := 47 }) (va_Pc ([.ref (ea 0), .ref (ad 0 0)]) (gW K A (cput K.2.1 t (b 11) ad (κ) G0))) (va_Qv (fun u9 : (Nat → Nat → Nat) × KS => u9.2 = kLoad x n bt u O F κ ∧ ∀ y, y ≠ n + 1 → u9.1 y = ad y) (fun u9 t9 => gB K A (cput K.2.1 t (b 11) u9.1 u9.2 G0) t9) A) 5 20 (A) := by
  refine g_ofW (cc := cX4_doTo) (by decide) (own := RX4) rfl (Nat.le_of_ble_eq_true rfl) ?_
  intro p e s m below meth c hC hr hlocks hnm hE hG ls hl
  have hl : lv_has ls 3 [(0, .ref (ea 0)), (1, .ref (ad 0 0))] := hl
  refine lv_aload_n hC.1 hC.2.1 dX4_doTo_0 rfl (lv_at hl 0 rfl) ?_
  refine g_get hC hE hG in_X4 (cput_e ht hev.1) (ci := 3) rfl 5 (by decide) q552 (fun _ z => z) rfl dX4_doTo_1 ?_
  refine g_getN hC hE hG in_X1 ((hlo.c ht).1) (ci := 0) rfl 5 (by decide) 21 rfl (fun _ z => z) rfl dX4_doTo_4 ?_
  refine lv_aload_n hC.1 hC.2.1 dX4_doTo_7 rfl (lv_at hl 0 rfl) ?_
  refine g_get hC hE hG in_X4 (cput_e ht hev.1) (ci := 3) rfl 1 (by decide) q545 (fun _ z => z) rfl dX4_doTo_8 ?_
  refine g_zald hC hE hG (n := 10) ((hlo.c ht).2.2) (i := bt) (hbt) dX4_doTo_11 ?_
  refine lv_if_eq (tgt := 26) hC.1 hC.2.1 dX4_doTo_12 (by decide) (fun c_12 => ?_) (fun c_12 => ?_)
  · skip
    refine lv_aload_n hC.1 hC.2.1 dX4_doTo_26 rfl (lv_at hl 1 rfl) ?_
    refine lv_aload_n hC.1 hC.2.1 dX4_doTo_27 rfl (lv_at hl 0 rfl) ?_
    refine g_get hC hE hG in_X4 (cput_e ht hev.1) (ci := 3) rfl 3 (by decide) q548 (fun _ z => z) rfl dX4_doTo_28 ?_
    refine g_roV (As := [.ref (ea 1)]) (rest := []) hC hE hG (xt_match l K A G0 t ad κ b x cn ht hlo (2, i, 1) (by show (2 : Nat) ≠ t; omega) (ea 1) O hev.2.1 hO) (cwV 1 hC.2.2.2.2 (lw_V q254 q255 q256 q25 q257) rfl rfl rfl (by decide +kernel) ⟨Nat.le_of_ble_eq_true rfl, Nat.le_of_ble_eq_true rfl⟩) (cput_o) (ci := 1) rfl rfl hl.1 rfl (Nat.le_of_ble_eq_true rfl) dX4_doTo_31 ⟨Nat.le_of_ble_eq_true rfl, Nat.le_of_ble_eq_true rfl⟩ (fun r hr9 => ?_)
    subst hr9
    refine lv_istore_n (lv' := [(2, .int (kMt κ x O 3)), (0, .ref (ea 0)), (1, .ref (ad 0 0))]) hC.1 hC.2.1 dX4_doTo_34 rfl hl (by decide) rfl (fun ls hl => ?_)
    refine lv_iload_n hC.1 hC.2.1 dX4_doTo_35 rfl (lv_at hl 0 rfl) ?_
    refine lv_iconst (v := -1) hC.1 hC.2.1 dX4_doTo_36 (by decide) ?_
    refine lv_icmp_ne (tgt := 61) hC.1 hC.2.1 dX4_doTo_37 (by decide) (fun c_37 => ?_) (fun c_37 => ?_)
    · skip
      refine lv_iload_n hC.1 hC.2.1 dX4_doTo_61 rfl (lv_at hl 0 rfl) ?_
      refine lv_bipush (v := -2) hC.1 hC.2.1 dX4_doTo_62 (by decide) ?_
      refine lv_icmp_eq (tgt := 78) hC.1 hC.2.1 dX4_doTo_64 (by decide) (fun c_64 => ?_) (fun c_64 => ?_)
      · skip
        refine lv_aload_n hC.1 hC.2.1 dX4_doTo_78 rfl (lv_at hl 2 rfl) ?_
        refine g_getN hC hE hG in_X2 (cput_o) (ci := 1) rfl 1 (by decide) 20 rfl (fun _ z => z) rfl dX4_doTo_79 ?_
        refine lv_aload_n hC.1 hC.2.1 dX4_doTo_82 rfl (lv_at hl 1 rfl) ?_
        refine g_get hC hE hG in_X4 (cput_e ht hev.1) (ci := 3) rfl 0 (by decide) q544 (fun _ z => z) rfl dX4_doTo_83 ?_
        refine lv_iload_n hC.1 hC.2.1 dX4_doTo_86 rfl (lv_at hl 0 rfl) ?_
        refine g_ist hC hE hG (n := 80) (cput_h) (by decide) (j := n) (by omega) dX4_doTo_87 (fun H locs hG => ?_)
        have hG : gG K A s.heap (cput K.2.1 t (b 11) ad (kH (κ) (n) (kMt κ x O 3)) G0) H locs := hG.eq cput_kH
        refine W.widen (k := 5) (n := 20) (by decide) (by decide) ?_
        exact g_vret hC hG hr ((ad, kH (κ) (n) (kMt κ x O 3)) : (Nat → Nat → Nat) × KS) rfl ⟨by simp only [kLoad, if_pos c_12, if_neg c_37, if_pos c_64], fun _ _ => rfl⟩ hlocks dX4_doTo_88
      · skip
        obtain ⟨j, r, hj, hkj, ej⟩ : ∃ j r, j < 80 ∧ κ.1 j = some r ∧ kMt κ x O 3 = nI j := by
          rcases kMt_range κ x O 3 with q | q | q
          · exact absurd q c_37
          · exact absurd q c_64
          · exact q
        rw [ej] at hl
        refine lv_aload_n hC.1 hC.2.1 dX4_doTo_67 rfl (lv_at hl 2 rfl) ?_
        refine lv_aload_n hC.1 hC.2.1 dX4_doTo_68 rfl (lv_at hl 2 rfl) ?_
        refine g_getN hC hE hG in_X2 (cput_o) (ci := 1) rfl 0 (by decide) 19 rfl (fun _ z => z) rfl dX4_doTo_69 ?_
        refine lv_iload_n hC.1 hC.2.1 dX4_doTo_72 rfl (lv_at hl 0 rfl) ?_
        refine g_qld hC hE hG 4 (cput_r) rfl (by decide) (j := j) (by omega) (v := .ref (ad (j + 1) 0)) (by rw [crow_s hkj]; rfl) dX4_doTo_73 ?_
        refine lv_aload_n hC.1 hC.2.1 dX4_doTo_74 rfl (lv_at hl 1 rfl) ?_
        refine g_cVv (As := [.ref (ad (j + 1) 0), .ref (ea 0)]) (rest := []) (S := KS) hC hE hG (xt_layOver l K A G0 t ad (κ) b x cn ht hlo j (r) hkj i ea n bt u O F hev hu (hok j r hkj)) (cwV 2 hC.2.2.2.2 (lw_V q299 q300 q301 q25 q302) rfl rfl rfl (by decide +kernel) ⟨Nat.le_of_ble_eq_true rfl, Nat.le_of_ble_eq_true rfl⟩) (cput_o) (ci := 1) rfl rfl hl.1 rfl (Nat.le_of_ble_eq_true rfl) dX4_doTo_75 ⟨Nat.le_of_ble_eq_true rfl, Nat.le_of_ble_eq_true rfl⟩ (fun u H locs hu9 hG => ?_)
        subst hu9
        refine lv_aload_n hC.1 hC.2.1 dX4_doTo_78 rfl (lv_at hl 2 rfl) ?_
        refine g_getN hC hE hG in_X2 (cput_o) (ci := 1) rfl 1 (by decide) 20 rfl (fun _ z => z) rfl dX4_doTo_79 ?_
        refine lv_aload_n hC.1 hC.2.1 dX4_doTo_82 rfl (lv_at hl 1 rfl) ?_
        refine g_get hC hE hG in_X4 (cput_e ht hev.1) (ci := 3) rfl 0 (by decide) q544 (fun _ z => z) rfl dX4_doTo_83 ?_
        refine lv_iload_n hC.1 hC.2.1 dX4_doTo_86 rfl (lv_at hl 0 rfl) ?_
        refine g_ist hC hE hG (n := 80) (cput_h) (by decide) (j := n) (by omega) dX4_doTo_87 (fun H locs hG => ?_)
        have hG : gG K A s.heap (cput K.2.1 t (b 11) ad (kH (kSet (κ) (j) (kLay x O F u (r))) (n) (nI (j))) G0) H locs := hG.eq cput_kH
        refine W.widen (k := 5) (n := 20) (by decide) (by decide) ?_
        exact g_vret hC hG hr ((ad, kH (kSet (κ) (j) (kLay x O F u (r))) (n) (nI (j))) : (Nat → Nat → Nat) × KS) rfl ⟨by simp only [kLoad, if_pos c_12, if_neg c_37, if_neg c_64]; rw [ej, tN_nI (by omega)]; simp only [hkj], fun _ _ => rfl⟩ hlocks dX4_doTo_88
    · skip
      refine lv_aload_n hC.1 hC.2.1 dX4_doTo_40 rfl (lv_at hl 2 rfl) ?_
      refine g_getN hC hE hG in_X2 (cput_o) (ci := 1) rfl 0 (by decide) 19 rfl (fun _ z => z) rfl dX4_doTo_41 ?_
      refine lv_aload_n hC.1 hC.2.1 dX4_doTo_44 rfl (lv_at hl 1 rfl) ?_
      refine g_get hC hE hG in_X4 (cput_e ht hev.1) (ci := 3) rfl 0 (by decide) q544 (fun _ z => z) rfl dX4_doTo_45 ?_
      refine g_new hC hE hG (t, n + 1, 0) (ci := 4) in_X5 tyX5 tyX5_ok q262 q263 q40 rfl (fs := [.null, .null, .null, .null, .int 0]) (fun j hj => by rcases (show j = 0 ∨ j = 1 ∨ j = 2 ∨ j = 3 ∨ j = 4 by omega) with rfl | rfl | rfl | rfl | rfl <;> rfl) (Nat.le_of_ble_eq_true rfl) (Nat.le_of_ble_eq_true rfl) dX4_doTo_48 (fun q9 H hq9 hG => ?_)
      refine lv_dup hC.1 hC.2.1 dX4_doTo_51 rfl ?_
      refine g_cIN (S := Nat → Nat) (As := []) (rest := [.ref q9, .int (nI n), .ref (ad 0 1)]) hC hE hG (xt_init5 l K A _ t (n + 1) q9 (gup_s _ _ _)) 1 rfl q266 q40 q265 rfl rfl (by decide +kernel) rfl ⟨Nat.le_of_ble_eq_true rfl, Nat.le_of_ble_eq_true rfl⟩ rfl hl.1 rfl (Nat.le_of_ble_eq_true rfl) dX4_doTo_52 ⟨Nat.le_of_ble_eq_true rfl, Nat.le_of_ble_eq_true rfl⟩ (fun a9 H locs _ hG => ?_)
      refine g_aastR hC hE hG (x := (t, 0, 1)) (n := 80) ((recG_o (by omega)).trans ((gup_n _ _ (lb_ne (Or.inl (by omega)))).trans cput_r)) (y := (t, n + 1, 0)) (gup_s _ _ _) (i := nI n) (vp_in_nI hn (by decide)) dX4_doTo_55 (fun H locs hG => ?_)
      rw [nI_clamp (by omega)] at hG
      have hG := hG.eq (recput hk)
      have h02 : newAd ad n q9 a9 0 = ad 0 := if_neg (by omega)
      have hoth : ∀ y, y ≠ n + 1 → newAd ad n q9 a9 y = ad y := fun y hy => if_neg hy
      generalize newAd ad n q9 a9 = ad2 at hG h02 hoth
      have hl : lv_has ls 3 [(2, .int (kMt κ x O 3)), (0, .ref (ea 0)), (1, .ref (ad2 0 0))] := by rw [h02]; exact hl
      refine lv_aload_n hC.1 hC.2.1 dX4_doTo_56 rfl (lv_at hl 1 rfl) ?_
      refine g_get hC hE hG in_X4 (cput_e ht hev.1) (ci := 3) rfl 0 (by decide) q544 (fun _ z => z) rfl dX4_doTo_57 ?_
      refine lv_istore_n (lv' := [(2, .int (nI (n))), (0, .ref (ea 0)), (1, .ref (ad2 0 0))]) hC.1 hC.2.1 dX4_doTo_60 rfl hl (by decide) rfl (fun ls hl => ?_)
      refine lv_iload_n hC.1 hC.2.1 dX4_doTo_61 rfl (lv_at hl 0 rfl) ?_
      refine lv_bipush (v := -2) hC.1 hC.2.1 dX4_doTo_62 (by decide) ?_
      refine lv_icmp_eq (tgt := 78) hC.1 hC.2.1 dX4_doTo_64 (by decide) (fun c_64 => absurd c_64 (nI_nm hn)) (fun c_64 => ?_)
      refine lv_aload_n hC.1 hC.2.1 dX4_doTo_67 rfl (lv_at hl 2 rfl) ?_
      refine lv_aload_n hC.1 hC.2.1 dX4_doTo_68 rfl (lv_at hl 2 rfl) ?_
      refine g_getN hC hE hG in_X2 (cput_o) (ci := 1) rfl 0 (by decide) 19 rfl (fun _ z => z) rfl dX4_doTo_69 ?_
      refine lv_iload_n hC.1 hC.2.1 dX4_doTo_72 rfl (lv_at hl 0 rfl) ?_
      refine g_qld hC hE hG 4 (cput_r) rfl (by decide) (j := n) (by omega) (v := .ref (ad2 (n + 1) 0)) (by rw [crow_s kSet_at]; rfl) dX4_doTo_73 ?_
      refine lv_aload_n hC.1 hC.2.1 dX4_doTo_74 rfl (lv_at hl 1 rfl) ?_
      refine g_cVv (As := [.ref (ad2 (n + 1) 0), .ref (ea 0)]) (rest := []) (S := KS) hC hE hG (xt_layOver l K A G0 t ad2 (kSet (κ) (n) (rNew)) b x cn ht hlo n (rNew) kSet_at i ea n bt u O F hev hu rOk.New) (cwV 2 hC.2.2.2.2 (lw_V q299 q300 q301 q25 q302) rfl rfl rfl (by decide +kernel) ⟨Nat.le_of_ble_eq_true rfl, Nat.le_of_ble_eq_true rfl⟩) (cput_o) (ci := 1) rfl rfl hl.1 rfl (Nat.le_of_ble_eq_true rfl) dX4_doTo_75 ⟨Nat.le_of_ble_eq_true rfl, Nat.le_of_ble_eq_true rfl⟩ (fun u H locs hu9 hG => ?_)
      subst hu9
      have hG : gG K A s.heap (cput K.2.1 t (b 11) ad2 (kSet (κ) (n) (kLay x O F u (rNew))) G0) H locs := hG.eq (by rw [kSet_set])
      refine lv_aload_n hC.1 hC.2.1 dX4_doTo_78 rfl (lv_at hl 2 rfl) ?_
      refine g_getN hC hE hG in_X2 (cput_o) (ci := 1) rfl 1 (by decide) 20 rfl (fun _ z => z) rfl dX4_doTo_79 ?_
      refine lv_aload_n hC.1 hC.2.1 dX4_doTo_82 rfl (lv_at hl 1 rfl) ?_
      refine g_get hC hE hG in_X4 (cput_e ht hev.1) (ci := 3) rfl 0 (by decide) q544 (fun _ z => z) rfl dX4_doTo_83 ?_
      refine lv_iload_n hC.1 hC.2.1 dX4_doTo_86 rfl (lv_at hl 0 rfl) ?_
      refine g_ist hC hE hG (n := 80) (cput_h) (by decide) (j := n) (by omega) dX4_doTo_87 (fun H locs hG => ?_)
      have hG : gG K A s.heap (cput K.2.1 t (b 11) ad2 (kH (kSet (κ) (n) (kLay x O F u (rNew))) (n) (nI (n))) G0) H locs := hG.eq cput_kH
      refine W.widen (k := 5) (n := 20) (by decide) (by decide) ?_
      exact g_vret hC hG hr ((ad2, kH (kSet (κ) (n) (kLay x O F u (rNew))) (n) (nI (n))) : (Nat → Nat → Nat) × KS) rfl ⟨by simp only [kLoad, if_pos c_12, if_pos c_37], hoth⟩ hlocks dX4_doTo_88
  · skip
    refine lv_aload_n hC.1 hC.2.1 dX4_doTo_15 rfl (lv_at hl 1 rfl) ?_
    refine g_getN hC hE hG in_X2 (cput_o) (ci := 1) rfl 1 (by decide) 20 rfl (fun _ z => z) rfl dX4_doTo_16 ?_
    refine lv_aload_n hC.1 hC.2.1 dX4_doTo_19 rfl (lv_at hl 0 rfl) ?_
    refine g_get hC hE hG in_X4 (cput_e ht hev.1) (ci := 3) rfl 0 (by decide) q544 (fun _ z => z) rfl dX4_doTo_20 ?_
    refine lv_iconst (v := -1) hC.1 hC.2.1 dX4_doTo_23 (by decide) ?_
    refine g_ist hC hE hG (n := 80) (cput_h) (by decide) (j := n) (by omega) dX4_doTo_24 (fun H locs hG => ?_)
    have hG : gG K A s.heap (cput K.2.1 t (b 11) ad (kH (κ) (n) ((-1))) G0) H locs := hG.eq cput_kH
    refine W.widen (k := 5) (n := 20) (by decide) (by decide) ?_
    exact g_vret hC hG hr ((ad, kH (κ) (n) ((-1))) : (Nat → Nat → Nat) × KS) rfl ⟨by simp only [kLoad, if_neg c_12], fun _ _ => rfl⟩ hlocks dX4_doTo_25
