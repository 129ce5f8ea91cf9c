/-! the loader's methods that make no events (written by tools/mklo.py) -/
set_option maxRecDepth 100000
theorem kHas_j {κ : KS} {v : Int32} (hu : kHas κ v) : ∃ j : Nat, j < 80 ∧ v = nI j := by
  rcases pk_ix v (n := 80) (by decide) with q | q | ⟨j, hj, q⟩
  · exact absurd q hu.1
  · exact absurd q hu.2.1
  · exact ⟨j, hj, q⟩
set_option maxHeartbeats 4000000 in
theorem xl_setRank (l : Launch) (hst : l.stackTraces = false) (K : GK) (A : Nat → Prop) (b : Nat → Nat) (x : MS) (ad : Nat → Nat → Nat) (κ : KS) (G : GM) (a v : Int32) : vx_Met l yX1_setRank (ws_ yX1_setRank cX1_setRank 4 (some .int)) ({ frames := 9, cells := 3, slots := 18, locals := 200 }) (va_Pc ([.ref (b 11), .int (a), .int (v)]) (gW K A (LW K.2.1 b (x) ad κ G))) (va_Qi (fun (r9 : Int32) (u9 : MS) => cSetRank x a v = .ok (r9, u9)) (fun u9 t9 => gB K A (LW K.2.1 b (u9) ad κ G) t9) A) (gXC K A (LW K.2.1 b (x) ad κ G) (fun k9 => cSetRank x a v = .error k9)) 3 18 A := by
  refine g_ofX (cc := cX1_setRank) (by decide) (own := RX1) rfl (Nat.le_of_ble_eq_true rfl) ?_
  intro p e s m below meth c hC hr hlocks hx0 hE hG ls hl
  have hl : lv_has ls 4 [(0, .ref (b 11)), (1, .int (a)), (2, .int (v))] := hl
  refine lv_iload_n hC.1 hC.2.1 dX1_setRank_0 rfl (lv_at hl 1 rfl) ?_
  refine lv_iconst (v := 0) hC.1 hC.2.1 dX1_setRank_1 (by decide) ?_
  refine lv_iconst (v := 4) hC.1 hC.2.1 dX1_setRank_2 (by decide) ?_
  refine g_sP (As := [.int (a), .int ((0)), .int ((4))]) (rest := []) hC (xt_in l (a) ((0)) ((4))) (va_cwS 3 hC.2.2.2.2 (lw_S q417 q418 q21 q419) rfl rfl rfl (by decide +kernel) ⟨Nat.le_of_ble_eq_true rfl, Nat.le_of_ble_eq_true rfl⟩) rfl hl.1 rfl (Nat.le_of_ble_eq_true rfl) dX1_setRank_3 ⟨Nat.le_of_ble_eq_true rfl, Nat.le_of_ble_eq_true rfl⟩ (fun r hr9 => ?_)
  subst hr9
  refine g_xSv (As := [.int (bI (inR (a) ((0)) ((4))))]) (rest := []) hC hE hG (xt_needIndex l hst K A (LW K.2.1 b (x) ad κ G) (inR (a) ((0)) ((4)))) (va_cwS 1 hC.2.2.2.2 (lw_S q420 q421 q21 q422) rfl rfl rfl (by decide +kernel) ⟨Nat.le_of_ble_eq_true rfl, Nat.le_of_ble_eq_true rfl⟩) rfl hl.1 rfl (Nat.le_of_ble_eq_true rfl) dX1_setRank_6 ⟨Nat.le_of_ble_eq_true rfl, Nat.le_of_ble_eq_true rfl⟩ (g_out hC hx0 hlocks (fun k9 hk9 => ?_) ⟨by decide, by decide⟩) (fun H locs hu6 hG => ?_)
  · obtain ⟨rfl, hn6⟩ := hk9
    simp only [cSetRank, if_neg hn6, if_true, if_false, not_true, not_false_eq_true]
  refine lv_iload_n hC.1 hC.2.1 dX1_setRank_9 rfl (lv_at hl 2 rfl) ?_
  refine lv_iconst (v := 0) hC.1 hC.2.1 dX1_setRank_10 (by decide) ?_
  refine lv_bipush (v := 9) hC.1 hC.2.1 dX1_setRank_11 (by decide) ?_
  refine g_sP (As := [.int (v), .int ((0)), .int ((9))]) (rest := []) hC (xt_in l (v) ((0)) ((9))) (va_cwS 3 hC.2.2.2.2 (lw_S q417 q418 q21 q419) rfl rfl rfl (by decide +kernel) ⟨Nat.le_of_ble_eq_true rfl, Nat.le_of_ble_eq_true rfl⟩) rfl hl.1 rfl (Nat.le_of_ble_eq_true rfl) dX1_setRank_13 ⟨Nat.le_of_ble_eq_true rfl, Nat.le_of_ble_eq_true rfl⟩ (fun r hr9 => ?_)
  subst hr9
  refine g_xSv (As := [.int (bI (inR (v) ((0)) ((9))))]) (rest := []) hC hE hG (xt_need l hst K A (LW K.2.1 b (x) ad κ G) (inR (v) ((0)) ((9)))) (va_cwS 1 hC.2.2.2.2 (lw_S q444 q445 q21 q446) rfl rfl rfl (by decide +kernel) ⟨Nat.le_of_ble_eq_true rfl, Nat.le_of_ble_eq_true rfl⟩) rfl hl.1 rfl (Nat.le_of_ble_eq_true rfl) dX1_setRank_16 ⟨Nat.le_of_ble_eq_true rfl, Nat.le_of_ble_eq_true rfl⟩ (g_out hC hx0 hlocks (fun k9 hk9 => ?_) ⟨by decide, by decide⟩) (fun H locs hu16 hG => ?_)
  · obtain ⟨rfl, hn16⟩ := hk9
    simp only [cSetRank, if_pos hu6, if_neg hn16, if_true, if_false, not_true, not_false_eq_true]
  refine lv_aload_n hC.1 hC.2.1 dX1_setRank_19 rfl (lv_at hl 0 rfl) ?_
  refine g_get hC hE hG in_X1 (LW_at.1) (ci := 0) rfl 7 (by decide) q120 (fun _ z => z) rfl dX1_setRank_20 ?_
  refine lv_if_ne (tgt := 30) hC.1 hC.2.1 dX1_setRank_23 (by decide) (fun c_23 => ?_) (fun c_23 => ?_)
  · skip
    refine lv_iconst (v := 0) hC.1 hC.2.1 dX1_setRank_30 (by decide) ?_
    refine g_xSv (As := [.int (bI (False))]) (rest := []) hC hE hG (xt_needState l hst K A (LW K.2.1 b (x) ad κ G) (False)) (va_cwS 1 hC.2.2.2.2 (lw_S q462 q463 q21 q464) rfl rfl rfl (by decide +kernel) ⟨Nat.le_of_ble_eq_true rfl, Nat.le_of_ble_eq_true rfl⟩) rfl hl.1 rfl (Nat.le_of_ble_eq_true rfl) dX1_setRank_31 ⟨Nat.le_of_ble_eq_true rfl, Nat.le_of_ble_eq_true rfl⟩ (g_out hC hx0 hlocks (fun k9 hk9 => ?_) ⟨by decide, by decide⟩) (fun H locs hu31 hG => ?_)
    · obtain ⟨rfl, hn31⟩ := hk9
      simp only [cSetRank, if_pos hu6, if_pos hu16, if_neg c_23, if_true, if_false, not_true, not_false_eq_true]
    exact hu31.elim
  · skip
    refine lv_iconst (v := 1) hC.1 hC.2.1 dX1_setRank_26 (by decide) ?_
    refine lv_goto (tgt := 31) hC.1 hC.2.1 dX1_setRank_27 (by decide) ?_
    refine g_xSv (As := [.int (bI (True))]) (rest := []) hC hE hG (xt_needState l hst K A (LW K.2.1 b (x) ad κ G) (True)) (va_cwS 1 hC.2.2.2.2 (lw_S q462 q463 q21 q464) rfl rfl rfl (by decide +kernel) ⟨Nat.le_of_ble_eq_true rfl, Nat.le_of_ble_eq_true rfl⟩) rfl hl.1 rfl (Nat.le_of_ble_eq_true rfl) dX1_setRank_31 ⟨Nat.le_of_ble_eq_true rfl, Nat.le_of_ble_eq_true rfl⟩ (g_out hC hx0 hlocks (fun k9 hk9 => ?_) ⟨by decide, by decide⟩) (fun H locs hu31 hG => ?_)
    · obtain ⟨rfl, hn31⟩ := hk9
      exact absurd trivial hn31
    refine lv_aload_n hC.1 hC.2.1 dX1_setRank_34 rfl (lv_at hl 0 rfl) ?_
    refine g_get hC hE hG in_X1 (LW_at.1) (ci := 0) rfl 0 (by decide) q109 (fun _ z => z) rfl dX1_setRank_35 ?_
    refine lv_iload_n hC.1 hC.2.1 dX1_setRank_38 rfl (lv_at hl 1 rfl) ?_
    refine g_iald hC hE hG (n := 5) (LW_at.2.1 0 (by decide)) (i := a) (inR_in (n := 4) hu6 (by decide) rfl) dX1_setRank_39 ?_
    refine lv_istore_n (lv' := [(3, .int (x.2 0 (tN (a)))), (0, .ref (b 11)), (1, .int (a)), (2, .int (v))]) hC.1 hC.2.1 dX1_setRank_40 rfl hl (by decide) rfl (fun ls hl => ?_)
    refine lv_aload_n hC.1 hC.2.1 dX1_setRank_41 rfl (lv_at hl 1 rfl) ?_
    refine g_get hC hE hG in_X1 (LW_at.1) (ci := 0) rfl 0 (by decide) q109 (fun _ z => z) rfl dX1_setRank_42 ?_
    refine lv_iload_n hC.1 hC.2.1 dX1_setRank_45 rfl (lv_at hl 2 rfl) ?_
    refine lv_iload_n hC.1 hC.2.1 dX1_setRank_46 rfl (lv_at hl 3 rfl) ?_
    refine g_iast hC hE hG (n := 5) (LW_at.2.1 0 (by decide)) (i := a) (inR_in (n := 4) hu6 (by decide) rfl) dX1_setRank_47 (fun H locs hG => ?_)
    have hG : gG K A s.heap (LW K.2.1 b (sU (x) 0 (tN (a)) (v)) ad κ G) H locs := hG.eq (LW_U (by decide))
    refine lv_iload_n hC.1 hC.2.1 dX1_setRank_48 rfl (lv_at hl 0 rfl) ?_
    refine vx_ret ?_
    refine W.widen (k := 3) (n := 18) (by decide) (by decide) ?_
    exact g_iret hC hG hr (rfl) (sU (x) 0 (tN (a)) (v)) rfl (by simp only [cSetRank, if_pos hu6, if_pos hu16, if_pos c_23, if_true, if_false, not_true, not_false_eq_true]) hlocks dX1_setRank_49
set_option maxHeartbeats 4000000 in
theorem xl_setRule (l : Launch) (hst : l.stackTraces = false) (K : GK) (A : Nat → Prop) (b : Nat → Nat) (x : MS) (ad : Nat → Nat → Nat) (κ : KS) (G : GM) (a v : Int32) : vx_Met l yX1_setRule (ws_ yX1_setRule cX1_setRule 4 (some .int)) ({ frames := 9, cells := 3, slots := 18, locals := 200 }) (va_Pc ([.ref (b 11), .int (a), .int (v)]) (gW K A (LW K.2.1 b (x) ad κ G))) (va_Qi (fun (r9 : Int32) (u9 : MS) => cSetRule x a v = .ok (r9, u9)) (fun u9 t9 => gB K A (LW K.2.1 b (u9) ad κ G) t9) A) (gXC K A (LW K.2.1 b (x) ad κ G) (fun k9 => cSetRule x a v = .error k9)) 3 18 A := by
  refine g_ofX (cc := cX1_setRule) (by decide) (own := RX1) rfl (Nat.le_of_ble_eq_true rfl) ?_
  intro p e s m below meth c hC hr hlocks hx0 hE hG ls hl
  have hl : lv_has ls 4 [(0, .ref (b 11)), (1, .int (a)), (2, .int (v))] := hl
  refine lv_iload_n hC.1 hC.2.1 dX1_setRule_0 rfl (lv_at hl 1 rfl) ?_
  refine g_xSv (As := [.int (a)]) (rest := []) hC hE hG (xt_needField l hst K A (LW K.2.1 b (x) ad κ G) (a)) (va_cwS 1 hC.2.2.2.2 (lw_S q487 q488 q21 q489) rfl rfl rfl (by decide +kernel) ⟨Nat.le_of_ble_eq_true rfl, Nat.le_of_ble_eq_true rfl⟩) rfl hl.1 rfl (Nat.le_of_ble_eq_true rfl) dX1_setRule_1 ⟨Nat.le_of_ble_eq_true rfl, Nat.le_of_ble_eq_true rfl⟩ (g_out hC hx0 hlocks (fun k9 hk9 => ?_) ⟨by decide, by decide⟩) (fun H locs hu1 hG => ?_)
  · obtain ⟨rfl, hn1⟩ := hk9
    simp only [cSetRule, if_neg hn1, if_true, if_false, not_true, not_false_eq_true]
  refine lv_iload_n hC.1 hC.2.1 dX1_setRule_4 rfl (lv_at hl 2 rfl) ?_
  refine lv_iconst (v := 0) hC.1 hC.2.1 dX1_setRule_5 (by decide) ?_
  refine lv_iconst (v := 2) hC.1 hC.2.1 dX1_setRule_6 (by decide) ?_
  refine g_sP (As := [.int (v), .int ((0)), .int ((2))]) (rest := []) hC (xt_in l (v) ((0)) ((2))) (va_cwS 3 hC.2.2.2.2 (lw_S q417 q418 q21 q419) rfl rfl rfl (by decide +kernel) ⟨Nat.le_of_ble_eq_true rfl, Nat.le_of_ble_eq_true rfl⟩) rfl hl.1 rfl (Nat.le_of_ble_eq_true rfl) dX1_setRule_7 ⟨Nat.le_of_ble_eq_true rfl, Nat.le_of_ble_eq_true rfl⟩ (fun r hr9 => ?_)
  subst hr9
  refine g_xSv (As := [.int (bI (inR (v) ((0)) ((2))))]) (rest := []) hC hE hG (xt_need l hst K A (LW K.2.1 b (x) ad κ G) (inR (v) ((0)) ((2)))) (va_cwS 1 hC.2.2.2.2 (lw_S q444 q445 q21 q446) rfl rfl rfl (by decide +kernel) ⟨Nat.le_of_ble_eq_true rfl, Nat.le_of_ble_eq_true rfl⟩) rfl hl.1 rfl (Nat.le_of_ble_eq_true rfl) dX1_setRule_10 ⟨Nat.le_of_ble_eq_true rfl, Nat.le_of_ble_eq_true rfl⟩ (g_out hC hx0 hlocks (fun k9 hk9 => ?_) ⟨by decide, by decide⟩) (fun H locs hu10 hG => ?_)
  · obtain ⟨rfl, hn10⟩ := hk9
    simp only [cSetRule, if_pos hu1, if_neg hn10, if_true, if_false, not_true, not_false_eq_true]
  refine lv_aload_n hC.1 hC.2.1 dX1_setRule_13 rfl (lv_at hl 0 rfl) ?_
  refine g_get hC hE hG in_X1 (LW_at.1) (ci := 0) rfl 7 (by decide) q120 (fun _ z => z) rfl dX1_setRule_14 ?_
  refine lv_if_ne (tgt := 24) hC.1 hC.2.1 dX1_setRule_17 (by decide) (fun c_17 => ?_) (fun c_17 => ?_)
  · skip
    refine lv_iconst (v := 0) hC.1 hC.2.1 dX1_setRule_24 (by decide) ?_
    refine g_xSv (As := [.int (bI (False))]) (rest := []) hC hE hG (xt_needState l hst K A (LW K.2.1 b (x) ad κ G) (False)) (va_cwS 1 hC.2.2.2.2 (lw_S q462 q463 q21 q464) rfl rfl rfl (by decide +kernel) ⟨Nat.le_of_ble_eq_true rfl, Nat.le_of_ble_eq_true rfl⟩) rfl hl.1 rfl (Nat.le_of_ble_eq_true rfl) dX1_setRule_25 ⟨Nat.le_of_ble_eq_true rfl, Nat.le_of_ble_eq_true rfl⟩ (g_out hC hx0 hlocks (fun k9 hk9 => ?_) ⟨by decide, by decide⟩) (fun H locs hu25 hG => ?_)
    · obtain ⟨rfl, hn25⟩ := hk9
      simp only [cSetRule, if_pos hu1, if_pos hu10, if_neg c_17, if_true, if_false, not_true, not_false_eq_true]
    exact hu25.elim
  · skip
    refine lv_iconst (v := 1) hC.1 hC.2.1 dX1_setRule_20 (by decide) ?_
    refine lv_goto (tgt := 25) hC.1 hC.2.1 dX1_setRule_21 (by decide) ?_
    refine g_xSv (As := [.int (bI (True))]) (rest := []) hC hE hG (xt_needState l hst K A (LW K.2.1 b (x) ad κ G) (True)) (va_cwS 1 hC.2.2.2.2 (lw_S q462 q463 q21 q464) rfl rfl rfl (by decide +kernel) ⟨Nat.le_of_ble_eq_true rfl, Nat.le_of_ble_eq_true rfl⟩) rfl hl.1 rfl (Nat.le_of_ble_eq_true rfl) dX1_setRule_25 ⟨Nat.le_of_ble_eq_true rfl, Nat.le_of_ble_eq_true rfl⟩ (g_out hC hx0 hlocks (fun k9 hk9 => ?_) ⟨by decide, by decide⟩) (fun H locs hu25 hG => ?_)
    · obtain ⟨rfl, hn25⟩ := hk9
      exact absurd trivial hn25
    refine lv_aload_n hC.1 hC.2.1 dX1_setRule_28 rfl (lv_at hl 0 rfl) ?_
    refine g_get hC hE hG in_X1 (LW_at.1) (ci := 0) rfl 1 (by decide) q111 (fun _ z => z) rfl dX1_setRule_29 ?_
    refine lv_iload_n hC.1 hC.2.1 dX1_setRule_32 rfl (lv_at hl 1 rfl) ?_
    refine g_iald hC hE hG (n := 4) (LW_at.2.1 1 (by decide)) (i := a) (inR_in (n := 3) hu1 (by decide) rfl) dX1_setRule_33 ?_
    refine lv_istore_n (lv' := [(3, .int (x.2 1 (tN (a)))), (0, .ref (b 11)), (1, .int (a)), (2, .int (v))]) hC.1 hC.2.1 dX1_setRule_34 rfl hl (by decide) rfl (fun ls hl => ?_)
    refine lv_aload_n hC.1 hC.2.1 dX1_setRule_35 rfl (lv_at hl 1 rfl) ?_
    refine g_get hC hE hG in_X1 (LW_at.1) (ci := 0) rfl 1 (by decide) q111 (fun _ z => z) rfl dX1_setRule_36 ?_
    refine lv_iload_n hC.1 hC.2.1 dX1_setRule_39 rfl (lv_at hl 2 rfl) ?_
    refine lv_iload_n hC.1 hC.2.1 dX1_setRule_40 rfl (lv_at hl 3 rfl) ?_
    refine g_iast hC hE hG (n := 4) (LW_at.2.1 1 (by decide)) (i := a) (inR_in (n := 3) hu1 (by decide) rfl) dX1_setRule_41 (fun H locs hG => ?_)
    have hG : gG K A s.heap (LW K.2.1 b (sU (x) 1 (tN (a)) (v)) ad κ G) H locs := hG.eq (LW_U (by decide))
    refine lv_iload_n hC.1 hC.2.1 dX1_setRule_42 rfl (lv_at hl 0 rfl) ?_
    refine vx_ret ?_
    refine W.widen (k := 3) (n := 18) (by decide) (by decide) ?_
    exact g_iret hC hG hr (rfl) (sU (x) 1 (tN (a)) (v)) rfl (by simp only [cSetRule, if_pos hu1, if_pos hu10, if_pos c_17, if_true, if_false, not_true, not_false_eq_true]) hlocks dX1_setRule_43
set_option maxHeartbeats 4000000 in
theorem xl_key (l : Launch) (hst : l.stackTraces = false) (K : GK) (A : Nat → Prop) (b : Nat → Nat) (x : MS) (ad : Nat → Nat → Nat) (κ : KS) (G : GM) (a v : Int32) : vx_Met l yX1_key (ws_ yX1_key cX1_key 4 (some .int)) ({ frames := 9, cells := 2, slots := 12, locals := 200 }) (va_Pc ([.ref (b 11), .int (a), .int (v)]) (gW K A (LW K.2.1 b (x) ad κ G))) (va_Qi (fun (r9 : Int32) (u9 : MS) => cKey x a v = .ok (r9, u9)) (fun u9 t9 => gB K A (LW K.2.1 b (u9) ad κ G) t9) A) (gXC K A (LW K.2.1 b (x) ad κ G) (fun k9 => cKey x a v = .error k9)) 2 12 A := by
  refine g_ofX (cc := cX1_key) (by decide) (own := RX1) rfl (Nat.le_of_ble_eq_true rfl) ?_
  intro p e s m below meth c hC hr hlocks hx0 hE hG ls hl
  have hl : lv_has ls 4 [(0, .ref (b 11)), (1, .int (a)), (2, .int (v))] := hl
  refine lv_iload_n hC.1 hC.2.1 dX1_key_0 rfl (lv_at hl 1 rfl) ?_
  refine g_xSv (As := [.int (a)]) (rest := []) hC hE hG (xt_needKey l hst K A (LW K.2.1 b (x) ad κ G) (a)) (va_cwS 1 hC.2.2.2.2 (lw_S q511 q512 q21 q513) rfl rfl rfl (by decide +kernel) ⟨Nat.le_of_ble_eq_true rfl, Nat.le_of_ble_eq_true rfl⟩) rfl hl.1 rfl (Nat.le_of_ble_eq_true rfl) dX1_key_1 ⟨Nat.le_of_ble_eq_true rfl, Nat.le_of_ble_eq_true rfl⟩ (g_out hC hx0 hlocks (fun k9 hk9 => ?_) ⟨by decide, by decide⟩) (fun H locs hu1 hG => ?_)
  · obtain ⟨rfl, hn1⟩ := hk9
    simp only [cKey, if_neg hn1, if_true, if_false, not_true, not_false_eq_true]
  refine lv_iload_n hC.1 hC.2.1 dX1_key_4 rfl (lv_at hl 2 rfl) ?_
  refine lv_iconst (v := -1) hC.1 hC.2.1 dX1_key_5 (by decide) ?_
  refine lv_bipush (v := 49) hC.1 hC.2.1 dX1_key_6 (by decide) ?_
  refine g_sP (As := [.int (v), .int ((-1)), .int ((49))]) (rest := []) hC (xt_in l (v) ((-1)) ((49))) (va_cwS 3 hC.2.2.2.2 (lw_S q417 q418 q21 q419) rfl rfl rfl (by decide +kernel) ⟨Nat.le_of_ble_eq_true rfl, Nat.le_of_ble_eq_true rfl⟩) rfl hl.1 rfl (Nat.le_of_ble_eq_true rfl) dX1_key_8 ⟨Nat.le_of_ble_eq_true rfl, Nat.le_of_ble_eq_true rfl⟩ (fun r hr9 => ?_)
  subst hr9
  refine g_xSv (As := [.int (bI (inR (v) ((-1)) ((49))))]) (rest := []) hC hE hG (xt_need l hst K A (LW K.2.1 b (x) ad κ G) (inR (v) ((-1)) ((49)))) (va_cwS 1 hC.2.2.2.2 (lw_S q444 q445 q21 q446) rfl rfl rfl (by decide +kernel) ⟨Nat.le_of_ble_eq_true rfl, Nat.le_of_ble_eq_true rfl⟩) rfl hl.1 rfl (Nat.le_of_ble_eq_true rfl) dX1_key_11 ⟨Nat.le_of_ble_eq_true rfl, Nat.le_of_ble_eq_true rfl⟩ (g_out hC hx0 hlocks (fun k9 hk9 => ?_) ⟨by decide, by decide⟩) (fun H locs hu11 hG => ?_)
  · obtain ⟨rfl, hn11⟩ := hk9
    simp only [cKey, if_pos hu1, if_neg hn11, if_true, if_false, not_true, not_false_eq_true]
  refine lv_aload_n hC.1 hC.2.1 dX1_key_14 rfl (lv_at hl 0 rfl) ?_
  refine g_get hC hE hG in_X1 (LW_at.1) (ci := 0) rfl 3 (by decide) q115 (fun _ z => z) rfl dX1_key_15 ?_
  refine lv_iload_n hC.1 hC.2.1 dX1_key_18 rfl (lv_at hl 1 rfl) ?_
  refine g_iald hC hE hG (n := 3) (LW_at.2.1 3 (by decide)) (i := a) (inR_in (n := 2) hu1 (by decide) rfl) dX1_key_19 ?_
  refine lv_istore_n (lv' := [(3, .int (x.2 3 (tN (a)))), (0, .ref (b 11)), (1, .int (a)), (2, .int (v))]) hC.1 hC.2.1 dX1_key_20 rfl hl (by decide) rfl (fun ls hl => ?_)
  refine lv_aload_n hC.1 hC.2.1 dX1_key_21 rfl (lv_at hl 1 rfl) ?_
  refine g_get hC hE hG in_X1 (LW_at.1) (ci := 0) rfl 3 (by decide) q115 (fun _ z => z) rfl dX1_key_22 ?_
  refine lv_iload_n hC.1 hC.2.1 dX1_key_25 rfl (lv_at hl 2 rfl) ?_
  refine lv_iload_n hC.1 hC.2.1 dX1_key_26 rfl (lv_at hl 3 rfl) ?_
  refine g_iast hC hE hG (n := 3) (LW_at.2.1 3 (by decide)) (i := a) (inR_in (n := 2) hu1 (by decide) rfl) dX1_key_27 (fun H locs hG => ?_)
  have hG : gG K A s.heap (LW K.2.1 b (sU (x) 3 (tN (a)) (v)) ad κ G) H locs := hG.eq (LW_U (by decide))
  refine lv_iload_n hC.1 hC.2.1 dX1_key_28 rfl (lv_at hl 0 rfl) ?_
  refine vx_ret ?_
  refine W.widen (k := 2) (n := 12) (by decide) (by decide) ?_
  exact g_iret hC hG hr (rfl) (sU (x) 3 (tN (a)) (v)) rfl (by simp only [cKey, if_pos hu1, if_pos hu11, if_true, if_false, not_true, not_false_eq_true]) hlocks dX1_key_29
set_option maxHeartbeats 4000000 in
theorem xl_field (l : Launch) (hst : l.stackTraces = false) (K : GK) (A : Nat → Prop) (b : Nat → Nat) (x : MS) (ad : Nat → Nat → Nat) (κ : KS) (G : GM) (a v : Int32) : vx_Met l yX1_field (ws_ yX1_field cX1_field 4 (some .int)) ({ frames := 9, cells := 2, slots := 12, locals := 200 }) (va_Pc ([.ref (b 11), .int (a), .int (v)]) (gW K A (LW K.2.1 b (x) ad κ G))) (va_Qi (fun (r9 : Int32) (u9 : MS) => cField x a v = .ok (r9, u9)) (fun u9 t9 => gB K A (LW K.2.1 b (u9) ad κ G) t9) A) (gXC K A (LW K.2.1 b (x) ad κ G) (fun k9 => cField x a v = .error k9)) 2 12 A := by
  refine g_ofX (cc := cX1_field) (by decide) (own := RX1) rfl (Nat.le_of_ble_eq_true rfl) ?_
  intro p e s m below meth c hC hr hlocks hx0 hE hG ls hl
  have hl : lv_has ls 4 [(0, .ref (b 11)), (1, .int (a)), (2, .int (v))] := hl
  refine lv_iload_n hC.1 hC.2.1 dX1_field_0 rfl (lv_at hl 1 rfl) ?_
  refine g_xSv (As := [.int (a)]) (rest := []) hC hE hG (xt_needField l hst K A (LW K.2.1 b (x) ad κ G) (a)) (va_cwS 1 hC.2.2.2.2 (lw_S q487 q488 q21 q489) rfl rfl rfl (by decide +kernel) ⟨Nat.le_of_ble_eq_true rfl, Nat.le_of_ble_eq_true rfl⟩) rfl hl.1 rfl (Nat.le_of_ble_eq_true rfl) dX1_field_1 ⟨Nat.le_of_ble_eq_true rfl, Nat.le_of_ble_eq_true rfl⟩ (g_out hC hx0 hlocks (fun k9 hk9 => ?_) ⟨by decide, by decide⟩) (fun H locs hu1 hG => ?_)
  · obtain ⟨rfl, hn1⟩ := hk9
    simp only [cField, if_neg hn1, if_true, if_false, not_true, not_false_eq_true]
  refine lv_iload_n hC.1 hC.2.1 dX1_field_4 rfl (lv_at hl 2 rfl) ?_
  refine lv_iconst (v := -1) hC.1 hC.2.1 dX1_field_5 (by decide) ?_
  refine lv_bipush (v := 99) hC.1 hC.2.1 dX1_field_6 (by decide) ?_
  refine g_sP (As := [.int (v), .int ((-1)), .int ((99))]) (rest := []) hC (xt_in l (v) ((-1)) ((99))) (va_cwS 3 hC.2.2.2.2 (lw_S q417 q418 q21 q419) rfl rfl rfl (by decide +kernel) ⟨Nat.le_of_ble_eq_true rfl, Nat.le_of_ble_eq_true rfl⟩) rfl hl.1 rfl (Nat.le_of_ble_eq_true rfl) dX1_field_8 ⟨Nat.le_of_ble_eq_true rfl, Nat.le_of_ble_eq_true rfl⟩ (fun r hr9 => ?_)
  subst hr9
  refine g_xSv (As := [.int (bI (inR (v) ((-1)) ((99))))]) (rest := []) hC hE hG (xt_need l hst K A (LW K.2.1 b (x) ad κ G) (inR (v) ((-1)) ((99)))) (va_cwS 1 hC.2.2.2.2 (lw_S q444 q445 q21 q446) rfl rfl rfl (by decide +kernel) ⟨Nat.le_of_ble_eq_true rfl, Nat.le_of_ble_eq_true rfl⟩) rfl hl.1 rfl (Nat.le_of_ble_eq_true rfl) dX1_field_11 ⟨Nat.le_of_ble_eq_true rfl, Nat.le_of_ble_eq_true rfl⟩ (g_out hC hx0 hlocks (fun k9 hk9 => ?_) ⟨by decide, by decide⟩) (fun H locs hu11 hG => ?_)
  · obtain ⟨rfl, hn11⟩ := hk9
    simp only [cField, if_pos hu1, if_neg hn11, if_true, if_false, not_true, not_false_eq_true]
  refine lv_aload_n hC.1 hC.2.1 dX1_field_14 rfl (lv_at hl 0 rfl) ?_
  refine g_get hC hE hG in_X1 (LW_at.1) (ci := 0) rfl 4 (by decide) q116 (fun _ z => z) rfl dX1_field_15 ?_
  refine lv_iload_n hC.1 hC.2.1 dX1_field_18 rfl (lv_at hl 1 rfl) ?_
  refine g_iald hC hE hG (n := 4) (LW_at.2.1 4 (by decide)) (i := a) (inR_in (n := 3) hu1 (by decide) rfl) dX1_field_19 ?_
  refine lv_istore_n (lv' := [(3, .int (x.2 4 (tN (a)))), (0, .ref (b 11)), (1, .int (a)), (2, .int (v))]) hC.1 hC.2.1 dX1_field_20 rfl hl (by decide) rfl (fun ls hl => ?_)
  refine lv_aload_n hC.1 hC.2.1 dX1_field_21 rfl (lv_at hl 1 rfl) ?_
  refine g_get hC hE hG in_X1 (LW_at.1) (ci := 0) rfl 4 (by decide) q116 (fun _ z => z) rfl dX1_field_22 ?_
  refine lv_iload_n hC.1 hC.2.1 dX1_field_25 rfl (lv_at hl 2 rfl) ?_
  refine lv_iload_n hC.1 hC.2.1 dX1_field_26 rfl (lv_at hl 3 rfl) ?_
  refine g_iast hC hE hG (n := 4) (LW_at.2.1 4 (by decide)) (i := a) (inR_in (n := 3) hu1 (by decide) rfl) dX1_field_27 (fun H locs hG => ?_)
  have hG : gG K A s.heap (LW K.2.1 b (sU (x) 4 (tN (a)) (v)) ad κ G) H locs := hG.eq (LW_U (by decide))
  refine lv_iload_n hC.1 hC.2.1 dX1_field_28 rfl (lv_at hl 0 rfl) ?_
  refine vx_ret ?_
  refine W.widen (k := 2) (n := 12) (by decide) (by decide) ?_
  exact g_iret hC hG hr (rfl) (sU (x) 4 (tN (a)) (v)) rfl (by simp only [cField, if_pos hu1, if_pos hu11, if_true, if_false, not_true, not_false_eq_true]) hlocks dX1_field_29
set_option maxHeartbeats 4000000 in
theorem xl_setOrder (l : Launch) (hst : l.stackTraces = false) (K : GK) (A : Nat → Prop) (b : Nat → Nat) (x : MS) (ad : Nat → Nat → Nat) (κ : KS) (G : GM) (a v d : Int32) : vx_Met l yX1_setOrder (ws_ yX1_setOrder cX1_setOrder 5 none) ({ frames := 9, cells := 2, slots := 12, locals := 200 }) (va_Pc ([.ref (b 11), .int (a), .int (v), .int (d)]) (gW K A (LW K.2.1 b (x) ad κ G))) (va_Qv (fun u9 : MS => cSetOrder x a v d = .ok ((), u9)) (fun u9 t9 => gB K A (LW K.2.1 b (u9) ad κ G) t9) A) (gXC K A (LW K.2.1 b (x) ad κ G) (fun k9 => cSetOrder x a v d = .error k9)) 2 12 A := by
  refine g_ofX (cc := cX1_setOrder) (by decide) (own := RX1) rfl (Nat.le_of_ble_eq_true rfl) ?_
  intro p e s m below meth c hC hr hlocks hx0 hE hG ls hl
  have hl : lv_has ls 5 [(0, .ref (b 11)), (1, .int (a)), (2, .int (v)), (3, .int (d))] := hl
  refine lv_iload_n hC.1 hC.2.1 dX1_setOrder_0 rfl (lv_at hl 1 rfl) ?_
  refine lv_iconst (v := 0) hC.1 hC.2.1 dX1_setOrder_1 (by decide) ?_
  refine lv_iconst (v := 2) hC.1 hC.2.1 dX1_setOrder_2 (by decide) ?_
  refine g_sP (As := [.int (a), .int ((0)), .int ((2))]) (rest := []) hC (xt_in l (a) ((0)) ((2))) (va_cwS 3 hC.2.2.2.2 (lw_S q417 q418 q21 q419) rfl rfl rfl (by decide +kernel) ⟨Nat.le_of_ble_eq_true rfl, Nat.le_of_ble_eq_true rfl⟩) rfl hl.1 rfl (Nat.le_of_ble_eq_true rfl) dX1_setOrder_3 ⟨Nat.le_of_ble_eq_true rfl, Nat.le_of_ble_eq_true rfl⟩ (fun r hr9 => ?_)
  subst hr9
  refine b_eq (tgt := 31) hC dX1_setOrder_6 (by decide) (fun c_6 => ?_) (fun c_6 => ?_)
  · skip
    refine lv_iconst (v := 0) hC.1 hC.2.1 dX1_setOrder_31 (by decide) ?_
    refine lv_istore (lv' := [(4, .int ((0))), (0, .ref (b 11)), (1, .int (a)), (2, .int (v)), (3, .int (d))]) hC.1 hC.2.1 dX1_setOrder_32 hl (by decide) rfl (fun ls hl => ?_)
    refine lv_iload hC.1 hC.2.1 dX1_setOrder_34 (lv_at hl 0 rfl) ?_
    refine lv_if_eq (tgt := 58) hC.1 hC.2.1 dX1_setOrder_36 (by decide) (fun c_36 => ?_) (fun c_36 => absurd c_36 (by decide))
    refine lv_iconst (v := 0) hC.1 hC.2.1 dX1_setOrder_58 (by decide) ?_
    refine g_xSv (As := [.int (bI (False))]) (rest := []) hC hE hG (xt_need l hst K A (LW K.2.1 b (x) ad κ G) (False)) (va_cwS 1 hC.2.2.2.2 (lw_S q444 q445 q21 q446) rfl rfl rfl (by decide +kernel) ⟨Nat.le_of_ble_eq_true rfl, Nat.le_of_ble_eq_true rfl⟩) rfl hl.1 rfl (Nat.le_of_ble_eq_true rfl) dX1_setOrder_59 ⟨Nat.le_of_ble_eq_true rfl, Nat.le_of_ble_eq_true rfl⟩ (g_out hC hx0 hlocks (fun k9 hk9 => ?_) ⟨by decide, by decide⟩) (fun H locs hu59 hG => ?_)
    · obtain ⟨rfl, hn59⟩ := hk9
      exact if_neg (fun q : okO a v d => c_6 q.1)
    exact hu59.elim
  · skip
    refine lv_iload_n hC.1 hC.2.1 dX1_setOrder_9 rfl (lv_at hl 2 rfl) ?_
    refine lv_iconst (v := 0) hC.1 hC.2.1 dX1_setOrder_10 (by decide) ?_
    refine lv_iconst (v := 2) hC.1 hC.2.1 dX1_setOrder_11 (by decide) ?_
    refine g_sP (As := [.int (v), .int ((0)), .int ((2))]) (rest := []) hC (xt_in l (v) ((0)) ((2))) (va_cwS 3 hC.2.2.2.2 (lw_S q417 q418 q21 q419) rfl rfl rfl (by decide +kernel) ⟨Nat.le_of_ble_eq_true rfl, Nat.le_of_ble_eq_true rfl⟩) rfl hl.1 rfl (Nat.le_of_ble_eq_true rfl) dX1_setOrder_12 ⟨Nat.le_of_ble_eq_true rfl, Nat.le_of_ble_eq_true rfl⟩ (fun r hr9 => ?_)
    subst hr9
    refine b_eq (tgt := 31) hC dX1_setOrder_15 (by decide) (fun c_15 => ?_) (fun c_15 => ?_)
    · skip
      refine lv_iconst (v := 0) hC.1 hC.2.1 dX1_setOrder_31 (by decide) ?_
      refine lv_istore (lv' := [(4, .int ((0))), (0, .ref (b 11)), (1, .int (a)), (2, .int (v)), (3, .int (d))]) hC.1 hC.2.1 dX1_setOrder_32 hl (by decide) rfl (fun ls hl => ?_)
      refine lv_iload hC.1 hC.2.1 dX1_setOrder_34 (lv_at hl 0 rfl) ?_
      refine lv_if_eq (tgt := 58) hC.1 hC.2.1 dX1_setOrder_36 (by decide) (fun c_36 => ?_) (fun c_36 => absurd c_36 (by decide))
      refine lv_iconst (v := 0) hC.1 hC.2.1 dX1_setOrder_58 (by decide) ?_
      refine g_xSv (As := [.int (bI (False))]) (rest := []) hC hE hG (xt_need l hst K A (LW K.2.1 b (x) ad κ G) (False)) (va_cwS 1 hC.2.2.2.2 (lw_S q444 q445 q21 q446) rfl rfl rfl (by decide +kernel) ⟨Nat.le_of_ble_eq_true rfl, Nat.le_of_ble_eq_true rfl⟩) rfl hl.1 rfl (Nat.le_of_ble_eq_true rfl) dX1_setOrder_59 ⟨Nat.le_of_ble_eq_true rfl, Nat.le_of_ble_eq_true rfl⟩ (g_out hC hx0 hlocks (fun k9 hk9 => ?_) ⟨by decide, by decide⟩) (fun H locs hu59 hG => ?_)
      · obtain ⟨rfl, hn59⟩ := hk9
        exact if_neg (fun q : okO a v d => c_15 q.2.1)
      exact hu59.elim
    · skip
      refine lv_iload_n hC.1 hC.2.1 dX1_setOrder_18 rfl (lv_at hl 3 rfl) ?_
      refine lv_iconst (v := 0) hC.1 hC.2.1 dX1_setOrder_19 (by decide) ?_
      refine lv_iconst (v := 2) hC.1 hC.2.1 dX1_setOrder_20 (by decide) ?_
      refine g_sP (As := [.int (d), .int ((0)), .int ((2))]) (rest := []) hC (xt_in l (d) ((0)) ((2))) (va_cwS 3 hC.2.2.2.2 (lw_S q417 q418 q21 q419) rfl rfl rfl (by decide +kernel) ⟨Nat.le_of_ble_eq_true rfl, Nat.le_of_ble_eq_true rfl⟩) rfl hl.1 rfl (Nat.le_of_ble_eq_true rfl) dX1_setOrder_21 ⟨Nat.le_of_ble_eq_true rfl, Nat.le_of_ble_eq_true rfl⟩ (fun r hr9 => ?_)
      subst hr9
      refine b_eq (tgt := 31) hC dX1_setOrder_24 (by decide) (fun c_24 => ?_) (fun c_24 => ?_)
      · skip
        refine lv_iconst (v := 0) hC.1 hC.2.1 dX1_setOrder_31 (by decide) ?_
        refine lv_istore (lv' := [(4, .int ((0))), (0, .ref (b 11)), (1, .int (a)), (2, .int (v)), (3, .int (d))]) hC.1 hC.2.1 dX1_setOrder_32 hl (by decide) rfl (fun ls hl => ?_)
        refine lv_iload hC.1 hC.2.1 dX1_setOrder_34 (lv_at hl 0 rfl) ?_
        refine lv_if_eq (tgt := 58) hC.1 hC.2.1 dX1_setOrder_36 (by decide) (fun c_36 => ?_) (fun c_36 => absurd c_36 (by decide))
        refine lv_iconst (v := 0) hC.1 hC.2.1 dX1_setOrder_58 (by decide) ?_
        refine g_xSv (As := [.int (bI (False))]) (rest := []) hC hE hG (xt_need l hst K A (LW K.2.1 b (x) ad κ G) (False)) (va_cwS 1 hC.2.2.2.2 (lw_S q444 q445 q21 q446) rfl rfl rfl (by decide +kernel) ⟨Nat.le_of_ble_eq_true rfl, Nat.le_of_ble_eq_true rfl⟩) rfl hl.1 rfl (Nat.le_of_ble_eq_true rfl) dX1_setOrder_59 ⟨Nat.le_of_ble_eq_true rfl, Nat.le_of_ble_eq_true rfl⟩ (g_out hC hx0 hlocks (fun k9 hk9 => ?_) ⟨by decide, by decide⟩) (fun H locs hu59 hG => ?_)
        · obtain ⟨rfl, hn59⟩ := hk9
          exact if_neg (fun q : okO a v d => c_24 q.2.2.1)
        exact hu59.elim
      · skip
        refine lv_iconst (v := 1) hC.1 hC.2.1 dX1_setOrder_27 (by decide) ?_
        refine lv_goto (tgt := 32) hC.1 hC.2.1 dX1_setOrder_28 (by decide) ?_
        refine lv_istore (lv' := [(4, .int ((1))), (0, .ref (b 11)), (1, .int (a)), (2, .int (v)), (3, .int (d))]) hC.1 hC.2.1 dX1_setOrder_32 hl (by decide) rfl (fun ls hl => ?_)
        refine lv_iload hC.1 hC.2.1 dX1_setOrder_34 (lv_at hl 0 rfl) ?_
        refine lv_if_eq (tgt := 58) hC.1 hC.2.1 dX1_setOrder_36 (by decide) (fun c_36 => absurd c_36 (by decide)) (fun c_36 => ?_)
        refine lv_iload_n hC.1 hC.2.1 dX1_setOrder_39 rfl (lv_at hl 2 rfl) ?_
        refine lv_iload_n hC.1 hC.2.1 dX1_setOrder_40 rfl (lv_at hl 3 rfl) ?_
        refine lv_icmp_eq (tgt := 58) hC.1 hC.2.1 dX1_setOrder_41 (by decide) (fun c_41 => ?_) (fun c_41 => ?_)
        · skip
          refine lv_iconst (v := 0) hC.1 hC.2.1 dX1_setOrder_58 (by decide) ?_
          refine g_xSv (As := [.int (bI (False))]) (rest := []) hC hE hG (xt_need l hst K A (LW K.2.1 b (x) ad κ G) (False)) (va_cwS 1 hC.2.2.2.2 (lw_S q444 q445 q21 q446) rfl rfl rfl (by decide +kernel) ⟨Nat.le_of_ble_eq_true rfl, Nat.le_of_ble_eq_true rfl⟩) rfl hl.1 rfl (Nat.le_of_ble_eq_true rfl) dX1_setOrder_59 ⟨Nat.le_of_ble_eq_true rfl, Nat.le_of_ble_eq_true rfl⟩ (g_out hC hx0 hlocks (fun k9 hk9 => ?_) ⟨by decide, by decide⟩) (fun H locs hu59 hG => ?_)
          · obtain ⟨rfl, hn59⟩ := hk9
            exact if_neg (fun q : okO a v d => q.2.2.2.1 c_41)
          exact hu59.elim
        · skip
          refine lv_iload_n hC.1 hC.2.1 dX1_setOrder_44 rfl (lv_at hl 2 rfl) ?_
          refine lv_iload_n hC.1 hC.2.1 dX1_setOrder_45 rfl (lv_at hl 4 rfl) ?_
          refine lv_icmp_eq (tgt := 58) hC.1 hC.2.1 dX1_setOrder_46 (by decide) (fun c_46 => ?_) (fun c_46 => ?_)
          · skip
            refine lv_iconst (v := 0) hC.1 hC.2.1 dX1_setOrder_58 (by decide) ?_
            refine g_xSv (As := [.int (bI (False))]) (rest := []) hC hE hG (xt_need l hst K A (LW K.2.1 b (x) ad κ G) (False)) (va_cwS 1 hC.2.2.2.2 (lw_S q444 q445 q21 q446) rfl rfl rfl (by decide +kernel) ⟨Nat.le_of_ble_eq_true rfl, Nat.le_of_ble_eq_true rfl⟩) rfl hl.1 rfl (Nat.le_of_ble_eq_true rfl) dX1_setOrder_59 ⟨Nat.le_of_ble_eq_true rfl, Nat.le_of_ble_eq_true rfl⟩ (g_out hC hx0 hlocks (fun k9 hk9 => ?_) ⟨by decide, by decide⟩) (fun H locs hu59 hG => ?_)
            · obtain ⟨rfl, hn59⟩ := hk9
              exact if_neg (fun q : okO a v d => q.2.2.2.2.1 c_46)
            exact hu59.elim
          · skip
            refine lv_iload_n hC.1 hC.2.1 dX1_setOrder_49 rfl (lv_at hl 3 rfl) ?_
            refine lv_iload_n hC.1 hC.2.1 dX1_setOrder_50 rfl (lv_at hl 4 rfl) ?_
            refine lv_icmp_eq (tgt := 58) hC.1 hC.2.1 dX1_setOrder_51 (by decide) (fun c_51 => ?_) (fun c_51 => ?_)
            · skip
              refine lv_iconst (v := 0) hC.1 hC.2.1 dX1_setOrder_58 (by decide) ?_
              refine g_xSv (As := [.int (bI (False))]) (rest := []) hC hE hG (xt_need l hst K A (LW K.2.1 b (x) ad κ G) (False)) (va_cwS 1 hC.2.2.2.2 (lw_S q444 q445 q21 q446) rfl rfl rfl (by decide +kernel) ⟨Nat.le_of_ble_eq_true rfl, Nat.le_of_ble_eq_true rfl⟩) rfl hl.1 rfl (Nat.le_of_ble_eq_true rfl) dX1_setOrder_59 ⟨Nat.le_of_ble_eq_true rfl, Nat.le_of_ble_eq_true rfl⟩ (g_out hC hx0 hlocks (fun k9 hk9 => ?_) ⟨by decide, by decide⟩) (fun H locs hu59 hG => ?_)
              · obtain ⟨rfl, hn59⟩ := hk9
                exact if_neg (fun q : okO a v d => q.2.2.2.2.2 c_51)
              exact hu59.elim
            · skip
              refine lv_iconst (v := 1) hC.1 hC.2.1 dX1_setOrder_54 (by decide) ?_
              refine lv_goto (tgt := 59) hC.1 hC.2.1 dX1_setOrder_55 (by decide) ?_
              refine g_xSv (As := [.int (bI (True))]) (rest := []) hC hE hG (xt_need l hst K A (LW K.2.1 b (x) ad κ G) (True)) (va_cwS 1 hC.2.2.2.2 (lw_S q444 q445 q21 q446) rfl rfl rfl (by decide +kernel) ⟨Nat.le_of_ble_eq_true rfl, Nat.le_of_ble_eq_true rfl⟩) rfl hl.1 rfl (Nat.le_of_ble_eq_true rfl) dX1_setOrder_59 ⟨Nat.le_of_ble_eq_true rfl, Nat.le_of_ble_eq_true rfl⟩ (g_out hC hx0 hlocks (fun k9 hk9 => ?_) ⟨by decide, by decide⟩) (fun H locs hu59 hG => ?_)
              · obtain ⟨rfl, hn59⟩ := hk9
                exact absurd trivial hn59
              refine lv_aload_n hC.1 hC.2.1 dX1_setOrder_62 rfl (lv_at hl 1 rfl) ?_
              refine g_get hC hE hG in_X1 (LW_at.1) (ci := 0) rfl 7 (by decide) q120 (fun _ z => z) rfl dX1_setOrder_63 ?_
              refine lv_if_ne (tgt := 73) hC.1 hC.2.1 dX1_setOrder_66 (by decide) (fun c_66 => ?_) (fun c_66 => ?_)
              · skip
                refine lv_iconst (v := 0) hC.1 hC.2.1 dX1_setOrder_73 (by decide) ?_
                refine g_xSv (As := [.int (bI (False))]) (rest := []) hC hE hG (xt_needState l hst K A (LW K.2.1 b (x) ad κ G) (False)) (va_cwS 1 hC.2.2.2.2 (lw_S q462 q463 q21 q464) rfl rfl rfl (by decide +kernel) ⟨Nat.le_of_ble_eq_true rfl, Nat.le_of_ble_eq_true rfl⟩) rfl hl.1 rfl (Nat.le_of_ble_eq_true rfl) dX1_setOrder_74 ⟨Nat.le_of_ble_eq_true rfl, Nat.le_of_ble_eq_true rfl⟩ (g_out hC hx0 hlocks (fun k9 hk9 => ?_) ⟨by decide, by decide⟩) (fun H locs hu74 hG => ?_)
                · obtain ⟨rfl, hn74⟩ := hk9
                  simp only [cSetOrder, if_pos (show okO a v d from ⟨c_6, c_15, c_24, c_41, c_46, c_51⟩), if_pos, if_neg, if_neg c_66]
                exact hu74.elim
              · skip
                refine lv_iconst (v := 1) hC.1 hC.2.1 dX1_setOrder_69 (by decide) ?_
                refine lv_goto (tgt := 74) hC.1 hC.2.1 dX1_setOrder_70 (by decide) ?_
                refine g_xSv (As := [.int (bI (True))]) (rest := []) hC hE hG (xt_needState l hst K A (LW K.2.1 b (x) ad κ G) (True)) (va_cwS 1 hC.2.2.2.2 (lw_S q462 q463 q21 q464) rfl rfl rfl (by decide +kernel) ⟨Nat.le_of_ble_eq_true rfl, Nat.le_of_ble_eq_true rfl⟩) rfl hl.1 rfl (Nat.le_of_ble_eq_true rfl) dX1_setOrder_74 ⟨Nat.le_of_ble_eq_true rfl, Nat.le_of_ble_eq_true rfl⟩ (g_out hC hx0 hlocks (fun k9 hk9 => ?_) ⟨by decide, by decide⟩) (fun H locs hu74 hG => ?_)
                · obtain ⟨rfl, hn74⟩ := hk9
                  exact absurd trivial hn74
                refine lv_aload_n hC.1 hC.2.1 dX1_setOrder_77 rfl (lv_at hl 1 rfl) ?_
                refine g_get hC hE hG in_X1 (LW_at.1) (ci := 0) rfl 2 (by decide) q113 (fun _ z => z) rfl dX1_setOrder_78 ?_
                refine lv_iconst (v := 0) hC.1 hC.2.1 dX1_setOrder_81 (by decide) ?_
                refine lv_iload_n hC.1 hC.2.1 dX1_setOrder_82 rfl (lv_at hl 2 rfl) ?_
                refine g_ist hC hE hG (n := 3) (LW_at.2.1 2 (by decide)) (by decide) (j := 0) (by omega) dX1_setOrder_83 (fun H locs hG => ?_)
                have hG : gG K A s.heap (LW K.2.1 b (sU (x) 2 (0) (a)) ad κ G) H locs := hG.eq (LW_U (by decide))
                refine lv_aload_n hC.1 hC.2.1 dX1_setOrder_84 rfl (lv_at hl 1 rfl) ?_
                refine g_get hC hE hG in_X1 (LW_at.1) (ci := 0) rfl 2 (by decide) q113 (fun _ z => z) rfl dX1_setOrder_85 ?_
                refine lv_iconst (v := 1) hC.1 hC.2.1 dX1_setOrder_88 (by decide) ?_
                refine lv_iload_n hC.1 hC.2.1 dX1_setOrder_89 rfl (lv_at hl 3 rfl) ?_
                refine g_ist hC hE hG (n := 3) (LW_at.2.1 2 (by decide)) (by decide) (j := 1) (by omega) dX1_setOrder_90 (fun H locs hG => ?_)
                have hG : gG K A s.heap (LW K.2.1 b (sU (sU (x) 2 (0) (a)) 2 (1) (v)) ad κ G) H locs := hG.eq (LW_U (by decide))
                refine lv_aload_n hC.1 hC.2.1 dX1_setOrder_91 rfl (lv_at hl 1 rfl) ?_
                refine g_get hC hE hG in_X1 (LW_at.1) (ci := 0) rfl 2 (by decide) q113 (fun _ z => z) rfl dX1_setOrder_92 ?_
                refine lv_iconst (v := 2) hC.1 hC.2.1 dX1_setOrder_95 (by decide) ?_
                refine lv_iload_n hC.1 hC.2.1 dX1_setOrder_96 rfl (lv_at hl 4 rfl) ?_
                refine g_ist hC hE hG (n := 3) (LW_at.2.1 2 (by decide)) (by decide) (j := 2) (by omega) dX1_setOrder_97 (fun H locs hG => ?_)
                have hG : gG K A s.heap (LW K.2.1 b (sU (sU (sU (x) 2 (0) (a)) 2 (1) (v)) 2 (2) (d)) ad κ G) H locs := hG.eq (LW_U (by decide))
                refine vx_ret ?_
                refine W.widen (k := 2) (n := 12) (by decide) (by decide) ?_
                exact g_vret hC hG hr (sU (sU (sU (x) 2 (0) (a)) 2 (1) (v)) 2 (2) (d)) rfl (by simp only [cSetOrder, if_pos (show okO a v d from ⟨c_6, c_15, c_24, c_41, c_46, c_51⟩), if_pos, if_neg, if_pos c_66]) hlocks dX1_setOrder_98
set_option maxHeartbeats 4000000 in
theorem xl_beginBatch (l : Launch) (hst : l.stackTraces = false) (K : GK) (A : Nat → Prop) (b : Nat → Nat) (x : MS) (ad : Nat → Nat → Nat) (κ : KS) (G : GM)  : vx_Met l yX1_beginBatch (ws_ yX1_beginBatch cX1_beginBatch 1 (some .int)) ({ frames := 9, cells := 1, slots := 6, locals := 200 }) (va_Pc ([.ref (b 11)]) (gW K A (LW K.2.1 b (x) ad κ G))) (va_Qi (fun (r9 : Int32) (u9 : MS) => cBegin x = .ok (r9, u9)) (fun u9 t9 => gB K A (LW K.2.1 b (u9) ad κ G) t9) A) (gXC K A (LW K.2.1 b (x) ad κ G) (fun k9 => cBegin x = .error k9)) 1 6 A := by
  refine g_ofX (cc := cX1_beginBatch) (by decide) (own := RX1) rfl (Nat.le_of_ble_eq_true rfl) ?_
  intro p e s m below meth c hC hr hlocks hx0 hE hG ls hl
  have hl : lv_has ls 1 [(0, .ref (b 11))] := hl
  refine lv_aload_n hC.1 hC.2.1 dX1_beginBatch_0 rfl (lv_at hl 0 rfl) ?_
  refine g_get hC hE hG in_X1 (LW_at.1) (ci := 0) rfl 6 (by decide) q119 (fun _ z => z) rfl dX1_beginBatch_1 ?_
  refine lv_bipush (v := 10) hC.1 hC.2.1 dX1_beginBatch_4 (by decide) ?_
  refine lv_icmp_ge (tgt := 13) hC.1 hC.2.1 dX1_beginBatch_6 (by decide) (fun c_6 => ?_) (fun c_6 => ?_)
  · skip
    refine lv_iconst (v := 0) hC.1 hC.2.1 dX1_beginBatch_13 (by decide) ?_
    refine g_xSv (As := [.int (bI (False))]) (rest := []) hC hE hG (xt_needState l hst K A (LW K.2.1 b (x) ad κ G) (False)) (va_cwS 1 hC.2.2.2.2 (lw_S q462 q463 q21 q464) rfl rfl rfl (by decide +kernel) ⟨Nat.le_of_ble_eq_true rfl, Nat.le_of_ble_eq_true rfl⟩) rfl hl.1 rfl (Nat.le_of_ble_eq_true rfl) dX1_beginBatch_14 ⟨Nat.le_of_ble_eq_true rfl, Nat.le_of_ble_eq_true rfl⟩ (g_out hC hx0 hlocks (fun k9 hk9 => ?_) ⟨by decide, by decide⟩) (fun H locs hu14 hG => ?_)
    · obtain ⟨rfl, hn14⟩ := hk9
      simp only [cBegin, if_pos c_6, if_true, if_false, not_true, not_false_eq_true]
    exact hu14.elim
  · skip
    refine lv_iconst (v := 1) hC.1 hC.2.1 dX1_beginBatch_9 (by decide) ?_
    refine lv_goto (tgt := 14) hC.1 hC.2.1 dX1_beginBatch_10 (by decide) ?_
    refine g_xSv (As := [.int (bI (True))]) (rest := []) hC hE hG (xt_needState l hst K A (LW K.2.1 b (x) ad κ G) (True)) (va_cwS 1 hC.2.2.2.2 (lw_S q462 q463 q21 q464) rfl rfl rfl (by decide +kernel) ⟨Nat.le_of_ble_eq_true rfl, Nat.le_of_ble_eq_true rfl⟩) rfl hl.1 rfl (Nat.le_of_ble_eq_true rfl) dX1_beginBatch_14 ⟨Nat.le_of_ble_eq_true rfl, Nat.le_of_ble_eq_true rfl⟩ (g_out hC hx0 hlocks (fun k9 hk9 => ?_) ⟨by decide, by decide⟩) (fun H locs hu14 hG => ?_)
    · obtain ⟨rfl, hn14⟩ := hk9
      exact absurd trivial hn14
    refine lv_aload_n hC.1 hC.2.1 dX1_beginBatch_17 rfl (lv_at hl 0 rfl) ?_
    refine lv_dup hC.1 hC.2.1 dX1_beginBatch_18 rfl ?_
    refine g_get hC hE hG in_X1 (LW_at.1) (ci := 0) rfl 6 (by decide) q119 (fun _ z => z) rfl dX1_beginBatch_19 ?_
    refine lv_iconst (v := 1) hC.1 hC.2.1 dX1_beginBatch_22 (by decide) ?_
    refine lv_iadd hC.1 hC.2.1 dX1_beginBatch_23 ?_
    refine g_put hC hE hG in_X1 tyX1 tyX1_ok nmX1 (LW_at.1) (ci := 0) rfl 6 (by decide) q119 (fun _ z => z) rfl (tyX1_ok 6 (by decide)) (rfl) (rfl) (Nat.le_of_ble_eq_true rfl) dX1_beginBatch_24 (fun H locs hG => ?_)
    have hG : gG K A s.heap (LW K.2.1 b (sS (x) 6 (x.1 6 + (1))) ad κ G) H locs := hG.eq (LW_S (by decide))
    refine lv_aload_n hC.1 hC.2.1 dX1_beginBatch_27 rfl (lv_at hl 0 rfl) ?_
    refine g_get hC hE hG in_X1 (LW_at.1) (ci := 0) rfl 6 (by decide) q119 (fun _ z => z) rfl dX1_beginBatch_28 ?_
    refine lv_iconst (v := 1) hC.1 hC.2.1 dX1_beginBatch_31 (by decide) ?_
    refine lv_isub hC.1 hC.2.1 dX1_beginBatch_32 ?_
    refine vx_ret ?_
    refine W.widen (k := 1) (n := 6) (by decide) (by decide) ?_
    exact g_iret hC hG hr (rfl) (sS (x) 6 (x.1 6 + (1))) rfl (by unfold cBegin; rw [if_neg c_6]; rfl) hlocks dX1_beginBatch_33
set_option maxHeartbeats 4000000 in
theorem xl_isUndone (l : Launch) (hst : l.stackTraces = false) (K : GK) (A : Nat → Prop) (b : Nat → Nat) (x : MS) (ad : Nat → Nat → Nat) (κ : KS) (G : GM) (B : Nat) (hB : x.1 6 = nI B) (hB1 : B ≤ 10) (hz : ∀ i, x.2 5 i = 0 ∨ x.2 5 i = 1) (a : Int32) : vx_Met l yX1_isUndone (ws_ yX1_isUndone cX1_isUndone 2 (some .boolean)) ({ frames := 9, cells := 1, slots := 6, locals := 200 }) (va_Pc ([.ref (b 11), .int (a)]) (gW K A (LW K.2.1 b (x) ad κ G))) (va_Qi (fun (r9 : Int32) (u9 : Unit) => cIsUndone x a = .ok r9) (fun u9 t9 => gB K A (LW K.2.1 b (x) ad κ G) t9) A) (gXC K A (LW K.2.1 b (x) ad κ G) (fun k9 => cIsUndone x a = .error k9)) 1 6 A := by
  refine g_ofX (cc := cX1_isUndone) (by decide) (own := RX1) rfl (Nat.le_of_ble_eq_true rfl) ?_
  intro p e s m below meth c hC hr hlocks hx0 hE hG ls hl
  have hl : lv_has ls 2 [(0, .ref (b 11)), (1, .int (a))] := hl
  refine lv_iload_n hC.1 hC.2.1 dX1_isUndone_0 rfl (lv_at hl 1 rfl) ?_
  refine lv_iconst (v := 0) hC.1 hC.2.1 dX1_isUndone_1 (by decide) ?_
  refine lv_aload_n hC.1 hC.2.1 dX1_isUndone_2 rfl (lv_at hl 0 rfl) ?_
  refine g_get hC hE hG in_X1 (LW_at.1) (ci := 0) rfl 6 (by decide) q119 (fun _ z => z) rfl dX1_isUndone_3 ?_
  refine lv_iconst (v := 1) hC.1 hC.2.1 dX1_isUndone_6 (by decide) ?_
  refine lv_isub hC.1 hC.2.1 dX1_isUndone_7 ?_
  refine g_sP (As := [.int (a), .int ((0)), .int (x.1 6 - (1))]) (rest := []) hC (xt_in l (a) ((0)) (x.1 6 - (1))) (va_cwS 3 hC.2.2.2.2 (lw_S q417 q418 q21 q419) rfl rfl rfl (by decide +kernel) ⟨Nat.le_of_ble_eq_true rfl, Nat.le_of_ble_eq_true rfl⟩) rfl hl.1 rfl (Nat.le_of_ble_eq_true rfl) dX1_isUndone_8 ⟨Nat.le_of_ble_eq_true rfl, Nat.le_of_ble_eq_true rfl⟩ (fun r hr9 => ?_)
  subst hr9
  refine g_xSv (As := [.int (bI (inR (a) ((0)) (x.1 6 - (1))))]) (rest := []) hC hE hG (xt_needIndex l hst K A (LW K.2.1 b (x) ad κ G) (inR (a) ((0)) (x.1 6 - (1)))) (va_cwS 1 hC.2.2.2.2 (lw_S q420 q421 q21 q422) rfl rfl rfl (by decide +kernel) ⟨Nat.le_of_ble_eq_true rfl, Nat.le_of_ble_eq_true rfl⟩) rfl hl.1 rfl (Nat.le_of_ble_eq_true rfl) dX1_isUndone_11 ⟨Nat.le_of_ble_eq_true rfl, Nat.le_of_ble_eq_true rfl⟩ (g_out hC hx0 hlocks (fun k9 hk9 => ?_) ⟨by decide, by decide⟩) (fun H locs hu11 hG => ?_)
  · obtain ⟨rfl, hn11⟩ := hk9
    simp only [cIsUndone, if_neg hn11, if_true, if_false, not_true, not_false_eq_true]
  refine lv_aload_n hC.1 hC.2.1 dX1_isUndone_14 rfl (lv_at hl 0 rfl) ?_
  refine g_get hC hE hG in_X1 (LW_at.1) (ci := 0) rfl 5 (by decide) q117 (fun _ z => z) rfl dX1_isUndone_15 ?_
  refine lv_iload_n hC.1 hC.2.1 dX1_isUndone_18 rfl (lv_at hl 1 rfl) ?_
  refine g_zald hC hE hG (n := 10) (LW_at.2.2) (i := a) ((inR_b (b := B) (n := 10) (by rw [← hB]; exact hu11) hB1 (by decide)).1) dX1_isUndone_19 ?_
  refine vx_ret ?_
  refine W.widen (k := 1) (n := 6) (by decide) (by decide) ?_
  exact g_iret hC hG hr (nb01 (hz _)) (()) rfl (by simp only [cIsUndone, if_pos hu11, if_true, if_false, not_true, not_false_eq_true]) hlocks dX1_isUndone_20
set_option maxHeartbeats 4000000 in
theorem xl_hit (l : Launch) (hst : l.stackTraces = false) (K : GK) (A : Nat → Prop) (b : Nat → Nat) (x : MS) (ad : Nat → Nat → Nat) (κ : KS) (G : GM) (B : Nat) (hB : x.1 7 = nI B) (hB1 : B ≤ 80) (a : Int32) : vx_Met l yX1_hit (ws_ yX1_hit cX1_hit 2 (some .int)) ({ frames := 9, cells := 1, slots := 6, locals := 200 }) (va_Pc ([.ref (b 11), .int (a)]) (gW K A (LW K.2.1 b (x) ad κ G))) (va_Qi (fun (r9 : Int32) (u9 : Unit) => cHit x κ a = .ok r9) (fun u9 t9 => gB K A (LW K.2.1 b (x) ad κ G) t9) A) (gXC K A (LW K.2.1 b (x) ad κ G) (fun k9 => cHit x κ a = .error k9)) 1 6 A := by
  refine g_ofX (cc := cX1_hit) (by decide) (own := RX1) rfl (Nat.le_of_ble_eq_true rfl) ?_
  intro p e s m below meth c hC hr hlocks hx0 hE hG ls hl
  have hl : lv_has ls 2 [(0, .ref (b 11)), (1, .int (a))] := hl
  refine lv_iload_n hC.1 hC.2.1 dX1_hit_0 rfl (lv_at hl 1 rfl) ?_
  refine lv_iconst (v := 0) hC.1 hC.2.1 dX1_hit_1 (by decide) ?_
  refine lv_aload_n hC.1 hC.2.1 dX1_hit_2 rfl (lv_at hl 0 rfl) ?_
  refine g_get hC hE hG in_X1 (LW_at.1) (ci := 0) rfl 7 (by decide) q120 (fun _ z => z) rfl dX1_hit_3 ?_
  refine lv_iconst (v := 1) hC.1 hC.2.1 dX1_hit_6 (by decide) ?_
  refine lv_isub hC.1 hC.2.1 dX1_hit_7 ?_
  refine g_sP (As := [.int (a), .int ((0)), .int (x.1 7 - (1))]) (rest := []) hC (xt_in l (a) ((0)) (x.1 7 - (1))) (va_cwS 3 hC.2.2.2.2 (lw_S q417 q418 q21 q419) rfl rfl rfl (by decide +kernel) ⟨Nat.le_of_ble_eq_true rfl, Nat.le_of_ble_eq_true rfl⟩) rfl hl.1 rfl (Nat.le_of_ble_eq_true rfl) dX1_hit_8 ⟨Nat.le_of_ble_eq_true rfl, Nat.le_of_ble_eq_true rfl⟩ (fun r hr9 => ?_)
  subst hr9
  refine g_xSv (As := [.int (bI (inR (a) ((0)) (x.1 7 - (1))))]) (rest := []) hC hE hG (xt_needIndex l hst K A (LW K.2.1 b (x) ad κ G) (inR (a) ((0)) (x.1 7 - (1)))) (va_cwS 1 hC.2.2.2.2 (lw_S q420 q421 q21 q422) rfl rfl rfl (by decide +kernel) ⟨Nat.le_of_ble_eq_true rfl, Nat.le_of_ble_eq_true rfl⟩) rfl hl.1 rfl (Nat.le_of_ble_eq_true rfl) dX1_hit_11 ⟨Nat.le_of_ble_eq_true rfl, Nat.le_of_ble_eq_true rfl⟩ (g_out hC hx0 hlocks (fun k9 hk9 => ?_) ⟨by decide, by decide⟩) (fun H locs hu11 hG => ?_)
  · obtain ⟨rfl, hn11⟩ := hk9
    simp only [cHit, if_neg hn11, if_true, if_false, not_true, not_false_eq_true]
  refine lv_aload_n hC.1 hC.2.1 dX1_hit_14 rfl (lv_at hl 0 rfl) ?_
  refine g_get hC hE hG in_X1 (LW_at.1) (ci := 0) rfl 10 (by decide) q123 (fun _ z => z) rfl dX1_hit_15 ?_
  refine g_getN hC hE hG in_X2 (cput_o) (ci := 1) rfl 1 (by decide) 2 rfl (fun _ z => z) rfl dX1_hit_18 ?_
  refine lv_iload_n hC.1 hC.2.1 dX1_hit_21 rfl (lv_at hl 1 rfl) ?_
  refine g_iald hC hE hG (n := 80) (cput_h) (i := a) ((inR_b (b := B) (n := 80) (by rw [← hB]; exact hu11) hB1 (by decide)).1) dX1_hit_22 ?_
  refine vx_ret ?_
  refine W.widen (k := 1) (n := 6) (by decide) (by decide) ?_
  exact g_iret hC hG hr (rfl) (()) rfl (by simp only [cHit, if_pos hu11, if_true, if_false, not_true, not_false_eq_true]) hlocks dX1_hit_23
set_option maxHeartbeats 4000000 in
theorem xl_keyOf (l : Launch) (hst : l.stackTraces = false) (K : GK) (A : Nat → Prop) (b : Nat → Nat) (x : MS) (ad : Nat → Nat → Nat) (κ : KS) (G : GM) (a v : Int32) : vx_Met l yX1_keyOf (ws_ yX1_keyOf cX1_keyOf 4 (some .int)) ({ frames := 9, cells := 2, slots := 12, locals := 200 }) (va_Pc ([.ref (b 11), .int (a), .int (v)]) (gW K A (LW K.2.1 b (x) ad κ G))) (va_Qi (fun (r9 : Int32) (u9 : Unit) => cKeyOf κ a v = .ok r9) (fun u9 t9 => gB K A (LW K.2.1 b (x) ad κ G) t9) A) (gXC K A (LW K.2.1 b (x) ad κ G) (fun k9 => cKeyOf κ a v = .error k9)) 2 12 A := by
  refine g_ofX (cc := cX1_keyOf) (by decide) (own := RX1) rfl (Nat.le_of_ble_eq_true rfl) ?_
  intro p e s m below meth c hC hr hlocks hx0 hE hG ls hl
  have hl : lv_has ls 4 [(0, .ref (b 11)), (1, .int (a)), (2, .int (v))] := hl
  refine lv_aload_n hC.1 hC.2.1 dX1_keyOf_0 rfl (lv_at hl 0 rfl) ?_
  refine lv_iload_n hC.1 hC.2.1 dX1_keyOf_1 rfl (lv_at hl 1 rfl) ?_
  refine g_xVq (As := [.int (a)]) (rest := []) hC hE hG (xt_record l hst K A b (x) ad κ G (a)) (cwV 1 hC.2.2.2.2 (lw_V q636 q638 qs6 q21 q639) rfl rfl rfl (by decide +kernel) ⟨Nat.le_of_ble_eq_true rfl, Nat.le_of_ble_eq_true rfl⟩) (LW_at.1) (ci := 0) rfl rfl hl.1 rfl (Nat.le_of_ble_eq_true rfl) dX1_keyOf_2 ⟨Nat.le_of_ble_eq_true rfl, Nat.le_of_ble_eq_true rfl⟩ (g_out hC hx0 hlocks (fun k9 hk9 => ?_) ⟨by decide, by decide⟩) (fun r2 H locs hu2 hG => ?_)
  · obtain ⟨rfl, hn2⟩ := hk9
    simp only [cKeyOf, if_neg hn2, if_true, if_false, not_true, not_false_eq_true]
  obtain ⟨hu2, hr2⟩ := hu2
  obtain ⟨j2, hj2, rfl⟩ := kHas_j hu2
  rw [tN_nI (by omega)] at hr2
  subst hr2
  obtain ⟨q2, hk2⟩ := kHas_y hj2 hu2
  refine lv_astore_n (lv' := [(3, .ref (ad (j2 + 1) 0)), (0, .ref (b 11)), (1, .int (nI (j2))), (2, .int (v))]) hC.1 hC.2.1 dX1_keyOf_5 rfl hl (by decide) rfl (fun ls hl => ?_)
  refine lv_iload_n hC.1 hC.2.1 dX1_keyOf_6 rfl (lv_at hl 3 rfl) ?_
  refine g_xSv (As := [.int (v)]) (rest := []) hC hE hG (xt_needKey l hst K A (LW K.2.1 b (x) ad κ G) (v)) (va_cwS 1 hC.2.2.2.2 (lw_S q511 q512 q21 q513) rfl rfl rfl (by decide +kernel) ⟨Nat.le_of_ble_eq_true rfl, Nat.le_of_ble_eq_true rfl⟩) rfl hl.1 rfl (Nat.le_of_ble_eq_true rfl) dX1_keyOf_7 ⟨Nat.le_of_ble_eq_true rfl, Nat.le_of_ble_eq_true rfl⟩ (g_out hC hx0 hlocks (fun k9 hk9 => ?_) ⟨by decide, by decide⟩) (fun H locs hu7 hG => ?_)
  · obtain ⟨rfl, hn7⟩ := hk9
    simp only [cKeyOf, if_pos hu2, if_neg hn7, if_true, if_false, not_true, not_false_eq_true]
  refine lv_aload_n hC.1 hC.2.1 dX1_keyOf_10 rfl (lv_at hl 0 rfl) ?_
  refine g_getN hC hE hG in_X5 (cput_ro hk2) (ci := 4) rfl 0 (by decide) 3 rfl (fun _ z => z) rfl dX1_keyOf_11 ?_
  refine lv_iload_n hC.1 hC.2.1 dX1_keyOf_14 rfl (lv_at hl 3 rfl) ?_
  refine g_iald hC hE hG (n := 3) (cput_r1 hk2) (i := v) (inR_in (n := 2) hu7 (by decide) rfl) dX1_keyOf_15 ?_
  refine vx_ret ?_
  refine W.widen (k := 2) (n := 12) (by decide) (by decide) ?_
  exact g_iret hC hG hr (rfl) (()) rfl (by simp only [cKeyOf, if_pos hu2, if_pos hu7, if_true, if_false, not_true, not_false_eq_true, kR_at hj2 hk2]) hlocks dX1_keyOf_16
set_option maxHeartbeats 4000000 in
theorem xl_fieldOf (l : Launch) (hst : l.stackTraces = false) (K : GK) (A : Nat → Prop) (b : Nat → Nat) (x : MS) (ad : Nat → Nat → Nat) (κ : KS) (G : GM) (a v : Int32) : vx_Met l yX1_fieldOf (ws_ yX1_fieldOf cX1_fieldOf 4 (some .int)) ({ frames := 9, cells := 2, slots := 12, locals := 200 }) (va_Pc ([.ref (b 11), .int (a), .int (v)]) (gW K A (LW K.2.1 b (x) ad κ G))) (va_Qi (fun (r9 : Int32) (u9 : Unit) => cFieldOf κ a v = .ok r9) (fun u9 t9 => gB K A (LW K.2.1 b (x) ad κ G) t9) A) (gXC K A (LW K.2.1 b (x) ad κ G) (fun k9 => cFieldOf κ a v = .error k9)) 2 12 A := by
  refine g_ofX (cc := cX1_fieldOf) (by decide) (own := RX1) rfl (Nat.le_of_ble_eq_true rfl) ?_
  intro p e s m below meth c hC hr hlocks hx0 hE hG ls hl
  have hl : lv_has ls 4 [(0, .ref (b 11)), (1, .int (a)), (2, .int (v))] := hl
  refine lv_aload_n hC.1 hC.2.1 dX1_fieldOf_0 rfl (lv_at hl 0 rfl) ?_
  refine lv_iload_n hC.1 hC.2.1 dX1_fieldOf_1 rfl (lv_at hl 1 rfl) ?_
  refine g_xVq (As := [.int (a)]) (rest := []) hC hE hG (xt_record l hst K A b (x) ad κ G (a)) (cwV 1 hC.2.2.2.2 (lw_V q636 q638 qs6 q21 q639) rfl rfl rfl (by decide +kernel) ⟨Nat.le_of_ble_eq_true rfl, Nat.le_of_ble_eq_true rfl⟩) (LW_at.1) (ci := 0) rfl rfl hl.1 rfl (Nat.le_of_ble_eq_true rfl) dX1_fieldOf_2 ⟨Nat.le_of_ble_eq_true rfl, Nat.le_of_ble_eq_true rfl⟩ (g_out hC hx0 hlocks (fun k9 hk9 => ?_) ⟨by decide, by decide⟩) (fun r2 H locs hu2 hG => ?_)
  · obtain ⟨rfl, hn2⟩ := hk9
    simp only [cFieldOf, if_neg hn2, if_true, if_false, not_true, not_false_eq_true]
  obtain ⟨hu2, hr2⟩ := hu2
  obtain ⟨j2, hj2, rfl⟩ := kHas_j hu2
  rw [tN_nI (by omega)] at hr2
  subst hr2
  obtain ⟨q2, hk2⟩ := kHas_y hj2 hu2
  refine lv_astore_n (lv' := [(3, .ref (ad (j2 + 1) 0)), (0, .ref (b 11)), (1, .int (nI (j2))), (2, .int (v))]) hC.1 hC.2.1 dX1_fieldOf_5 rfl hl (by decide) rfl (fun ls hl => ?_)
  refine lv_iload_n hC.1 hC.2.1 dX1_fieldOf_6 rfl (lv_at hl 3 rfl) ?_
  refine g_xSv (As := [.int (v)]) (rest := []) hC hE hG (xt_needField l hst K A (LW K.2.1 b (x) ad κ G) (v)) (va_cwS 1 hC.2.2.2.2 (lw_S q487 q488 q21 q489) rfl rfl rfl (by decide +kernel) ⟨Nat.le_of_ble_eq_true rfl, Nat.le_of_ble_eq_true rfl⟩) rfl hl.1 rfl (Nat.le_of_ble_eq_true rfl) dX1_fieldOf_7 ⟨Nat.le_of_ble_eq_true rfl, Nat.le_of_ble_eq_true rfl⟩ (g_out hC hx0 hlocks (fun k9 hk9 => ?_) ⟨by decide, by decide⟩) (fun H locs hu7 hG => ?_)
  · obtain ⟨rfl, hn7⟩ := hk9
    simp only [cFieldOf, if_pos hu2, if_neg hn7, if_true, if_false, not_true, not_false_eq_true]
  refine lv_aload_n hC.1 hC.2.1 dX1_fieldOf_10 rfl (lv_at hl 0 rfl) ?_
  refine g_getN hC hE hG in_X5 (cput_ro hk2) (ci := 4) rfl 1 (by decide) 4 rfl (fun _ z => z) rfl dX1_fieldOf_11 ?_
  refine lv_iload_n hC.1 hC.2.1 dX1_fieldOf_14 rfl (lv_at hl 3 rfl) ?_
  refine g_iald hC hE hG (n := 4) (cput_r2 hk2) (i := v) (inR_in (n := 3) hu7 (by decide) rfl) dX1_fieldOf_15 ?_
  refine vx_ret ?_
  refine W.widen (k := 2) (n := 12) (by decide) (by decide) ?_
  exact g_iret hC hG hr (rfl) (()) rfl (by simp only [cFieldOf, if_pos hu2, if_pos hu7, if_true, if_false, not_true, not_false_eq_true, kR_at hj2 hk2]) hlocks dX1_fieldOf_16
set_option maxHeartbeats 4000000 in
theorem xl_sourceOf (l : Launch) (hst : l.stackTraces = false) (K : GK) (A : Nat → Prop) (b : Nat → Nat) (x : MS) (ad : Nat → Nat → Nat) (κ : KS) (G : GM) (a v : Int32) : vx_Met l yX1_sourceOf (ws_ yX1_sourceOf cX1_sourceOf 4 (some .int)) ({ frames := 9, cells := 2, slots := 12, locals := 200 }) (va_Pc ([.ref (b 11), .int (a), .int (v)]) (gW K A (LW K.2.1 b (x) ad κ G))) (va_Qi (fun (r9 : Int32) (u9 : Unit) => cSourceOf κ a v = .ok r9) (fun u9 t9 => gB K A (LW K.2.1 b (x) ad κ G) t9) A) (gXC K A (LW K.2.1 b (x) ad κ G) (fun k9 => cSourceOf κ a v = .error k9)) 2 12 A := by
  refine g_ofX (cc := cX1_sourceOf) (by decide) (own := RX1) rfl (Nat.le_of_ble_eq_true rfl) ?_
  intro p e s m below meth c hC hr hlocks hx0 hE hG ls hl
  have hl : lv_has ls 4 [(0, .ref (b 11)), (1, .int (a)), (2, .int (v))] := hl
  refine lv_aload_n hC.1 hC.2.1 dX1_sourceOf_0 rfl (lv_at hl 0 rfl) ?_
  refine lv_iload_n hC.1 hC.2.1 dX1_sourceOf_1 rfl (lv_at hl 1 rfl) ?_
  refine g_xVq (As := [.int (a)]) (rest := []) hC hE hG (xt_record l hst K A b (x) ad κ G (a)) (cwV 1 hC.2.2.2.2 (lw_V q636 q638 qs6 q21 q639) rfl rfl rfl (by decide +kernel) ⟨Nat.le_of_ble_eq_true rfl, Nat.le_of_ble_eq_true rfl⟩) (LW_at.1) (ci := 0) rfl rfl hl.1 rfl (Nat.le_of_ble_eq_true rfl) dX1_sourceOf_2 ⟨Nat.le_of_ble_eq_true rfl, Nat.le_of_ble_eq_true rfl⟩ (g_out hC hx0 hlocks (fun k9 hk9 => ?_) ⟨by decide, by decide⟩) (fun r2 H locs hu2 hG => ?_)
  · obtain ⟨rfl, hn2⟩ := hk9
    simp only [cSourceOf, if_neg hn2, if_true, if_false, not_true, not_false_eq_true]
  obtain ⟨hu2, hr2⟩ := hu2
  obtain ⟨j2, hj2, rfl⟩ := kHas_j hu2
  rw [tN_nI (by omega)] at hr2
  subst hr2
  obtain ⟨q2, hk2⟩ := kHas_y hj2 hu2
  refine lv_astore_n (lv' := [(3, .ref (ad (j2 + 1) 0)), (0, .ref (b 11)), (1, .int (nI (j2))), (2, .int (v))]) hC.1 hC.2.1 dX1_sourceOf_5 rfl hl (by decide) rfl (fun ls hl => ?_)
  refine lv_iload_n hC.1 hC.2.1 dX1_sourceOf_6 rfl (lv_at hl 3 rfl) ?_
  refine g_xSv (As := [.int (v)]) (rest := []) hC hE hG (xt_needField l hst K A (LW K.2.1 b (x) ad κ G) (v)) (va_cwS 1 hC.2.2.2.2 (lw_S q487 q488 q21 q489) rfl rfl rfl (by decide +kernel) ⟨Nat.le_of_ble_eq_true rfl, Nat.le_of_ble_eq_true rfl⟩) rfl hl.1 rfl (Nat.le_of_ble_eq_true rfl) dX1_sourceOf_7 ⟨Nat.le_of_ble_eq_true rfl, Nat.le_of_ble_eq_true rfl⟩ (g_out hC hx0 hlocks (fun k9 hk9 => ?_) ⟨by decide, by decide⟩) (fun H locs hu7 hG => ?_)
  · obtain ⟨rfl, hn7⟩ := hk9
    simp only [cSourceOf, if_pos hu2, if_neg hn7, if_true, if_false, not_true, not_false_eq_true]
  refine lv_aload_n hC.1 hC.2.1 dX1_sourceOf_10 rfl (lv_at hl 0 rfl) ?_
  refine g_getN hC hE hG in_X5 (cput_ro hk2) (ci := 4) rfl 2 (by decide) 5 rfl (fun _ z => z) rfl dX1_sourceOf_11 ?_
  refine lv_iload_n hC.1 hC.2.1 dX1_sourceOf_14 rfl (lv_at hl 3 rfl) ?_
  refine g_iald hC hE hG (n := 4) (cput_r3 hk2) (i := v) (inR_in (n := 3) hu7 (by decide) rfl) dX1_sourceOf_15 ?_
  refine vx_ret ?_
  refine W.widen (k := 2) (n := 12) (by decide) (by decide) ?_
  exact g_iret hC hG hr (rfl) (()) rfl (by simp only [cSourceOf, if_pos hu2, if_pos hu7, if_true, if_false, not_true, not_false_eq_true, kR_at hj2 hk2]) hlocks dX1_sourceOf_16
set_option maxHeartbeats 4000000 in
theorem xl_holdings (l : Launch) (hst : l.stackTraces = false) (K : GK) (A : Nat → Prop) (b : Nat → Nat) (x : MS) (ad : Nat → Nat → Nat) (κ : KS) (G : GM) (a : Int32) : vx_Met l yX1_holdings (ws_ yX1_holdings cX1_holdings 2 (some .int)) ({ frames := 9, cells := 1, slots := 6, locals := 200 }) (va_Pc ([.ref (b 11), .int (a)]) (gW K A (LW K.2.1 b (x) ad κ G))) (va_Qi (fun (r9 : Int32) (u9 : Unit) => cHoldings κ a = .ok r9) (fun u9 t9 => gB K A (LW K.2.1 b (x) ad κ G) t9) A) (gXC K A (LW K.2.1 b (x) ad κ G) (fun k9 => cHoldings κ a = .error k9)) 1 6 A := by
  refine g_ofX (cc := cX1_holdings) (by decide) (own := RX1) rfl (Nat.le_of_ble_eq_true rfl) ?_
  intro p e s m below meth c hC hr hlocks hx0 hE hG ls hl
  have hl : lv_has ls 2 [(0, .ref (b 11)), (1, .int (a))] := hl
  refine lv_aload_n hC.1 hC.2.1 dX1_holdings_0 rfl (lv_at hl 0 rfl) ?_
  refine lv_iload_n hC.1 hC.2.1 dX1_holdings_1 rfl (lv_at hl 1 rfl) ?_
  refine g_xVq (As := [.int (a)]) (rest := []) hC hE hG (xt_record l hst K A b (x) ad κ G (a)) (cwV 1 hC.2.2.2.2 (lw_V q636 q638 qs6 q21 q639) rfl rfl rfl (by decide +kernel) ⟨Nat.le_of_ble_eq_true rfl, Nat.le_of_ble_eq_true rfl⟩) (LW_at.1) (ci := 0) rfl rfl hl.1 rfl (Nat.le_of_ble_eq_true rfl) dX1_holdings_2 ⟨Nat.le_of_ble_eq_true rfl, Nat.le_of_ble_eq_true rfl⟩ (g_out hC hx0 hlocks (fun k9 hk9 => ?_) ⟨by decide, by decide⟩) (fun r2 H locs hu2 hG => ?_)
  · obtain ⟨rfl, hn2⟩ := hk9
    simp only [cHoldings, if_neg hn2, if_true, if_false, not_true, not_false_eq_true]
  obtain ⟨hu2, hr2⟩ := hu2
  obtain ⟨j2, hj2, rfl⟩ := kHas_j hu2
  rw [tN_nI (by omega)] at hr2
  subst hr2
  obtain ⟨q2, hk2⟩ := kHas_y hj2 hu2
  refine g_getN hC hE hG in_X5 (cput_ro hk2) (ci := 4) rfl 4 (by decide) 7 rfl (fun _ z => z) rfl dX1_holdings_5 ?_
  refine vx_ret ?_
  refine W.widen (k := 1) (n := 6) (by decide) (by decide) ?_
  exact g_iret hC hG hr (rfl) (()) rfl (by simp only [cHoldings, if_pos hu2, if_true, if_false, not_true, not_false_eq_true, kR_at hj2 hk2]) hlocks dX1_holdings_8
set_option maxHeartbeats 4000000 in
theorem xl_batches (l : Launch) (K : GK) (A : Nat → Prop) (b : Nat → Nat) (x : MS) (ad : Nat → Nat → Nat) (κ : KS) (G : GM)  : Met l yX1_batches (ws_ yX1_batches cX1_batches 1 (some .int)) ({ frames := 0, cells := 0, slots := 0, locals := 0 }) (va_Pc ([.ref (b 11)]) (gW K A (LW K.2.1 b (x) ad κ G))) (vp_Si (fun r9 => r9 = x.1 6)) 0 0 (fun _ => False) := by
  refine g_ofW (cc := cX1_batches) (by decide) (own := RX1) rfl (Nat.le_of_ble_eq_true rfl) ?_
  intro p e s m below meth c hC hr hlocks hnm hE hG ls hl
  have hl : lv_has ls 1 [(0, .ref (b 11))] := hl
  refine lv_aload_n hC.1 hC.2.1 dX1_batches_0 rfl (lv_at hl 0 rfl) ?_
  refine g_get hC hE hG in_X1 (LW_at.1) (ci := 0) rfl 6 (by decide) q119 (fun _ z => z) rfl dX1_batches_1 ?_
  exact g_roret hC hr (rfl) (by rfl) hlocks dX1_batches_4
set_option maxHeartbeats 4000000 in
theorem xl_loads (l : Launch) (K : GK) (A : Nat → Prop) (b : Nat → Nat) (x : MS) (ad : Nat → Nat → Nat) (κ : KS) (G : GM)  : Met l yX1_loads (ws_ yX1_loads cX1_loads 1 (some .int)) ({ frames := 0, cells := 0, slots := 0, locals := 0 }) (va_Pc ([.ref (b 11)]) (gW K A (LW K.2.1 b (x) ad κ G))) (vp_Si (fun r9 => r9 = x.1 7)) 0 0 (fun _ => False) := by
  refine g_ofW (cc := cX1_loads) (by decide) (own := RX1) rfl (Nat.le_of_ble_eq_true rfl) ?_
  intro p e s m below meth c hC hr hlocks hnm hE hG ls hl
  have hl : lv_has ls 1 [(0, .ref (b 11))] := hl
  refine lv_aload_n hC.1 hC.2.1 dX1_loads_0 rfl (lv_at hl 0 rfl) ?_
  refine g_get hC hE hG in_X1 (LW_at.1) (ci := 0) rfl 7 (by decide) q120 (fun _ z => z) rfl dX1_loads_1 ?_
  exact g_roret hC hr (rfl) (by rfl) hlocks dX1_loads_4
set_option maxHeartbeats 4000000 in
theorem xl_records (l : Launch) (K : GK) (A : Nat → Prop) (b : Nat → Nat) (x : MS) (ad : Nat → Nat → Nat) (κ : KS) (G : GM)  : Met l yX1_records (ws_ yX1_records cX1_records 1 (some .int)) ({ frames := 2, cells := 0, slots := 0, locals := 100 }) (va_Pc ([.ref (b 11)]) (gW K A (LW K.2.1 b (x) ad κ G))) (vp_Si (fun r9 => r9 = kCnt κ 80)) 0 0 (fun _ => False) := by
  refine g_ofW (cc := cX1_records) (by decide) (own := RX1) rfl (Nat.le_of_ble_eq_true rfl) ?_
  intro p e s m below meth c hC hr hlocks hnm hE hG ls hl
  have hl : lv_has ls 1 [(0, .ref (b 11))] := hl
  refine lv_aload_n hC.1 hC.2.1 dX1_records_0 rfl (lv_at hl 0 rfl) ?_
  refine g_get hC hE hG in_X1 (LW_at.1) (ci := 0) rfl 10 (by decide) q123 (fun _ z => z) rfl dX1_records_1 ?_
  refine g_roV (As := []) (rest := []) hC hE hG (xt_count l K A (lop K.2.1 b (x) (ad 0 0) G) 3 (b 11) ad κ ) (cwV 0 hC.2.2.2.2 (lw_V q159 q160 q161 q25 q162) rfl rfl rfl (by decide +kernel) ⟨Nat.le_of_ble_eq_true rfl, Nat.le_of_ble_eq_true rfl⟩) (cput_o) (ci := 1) rfl rfl hl.1 rfl (Nat.le_of_ble_eq_true rfl) dX1_records_4 ⟨Nat.le_of_ble_eq_true rfl, Nat.le_of_ble_eq_true rfl⟩ (fun r hr9 => ?_)
  subst hr9
  exact g_roret hC hr (rfl) (by rfl) hlocks dX1_records_7
set_option maxHeartbeats 4000000 in
theorem xl_isThere (l : Launch) (K : GK) (A : Nat → Prop) (b : Nat → Nat) (x : MS) (ad : Nat → Nat → Nat) (κ : KS) (G : GM) (a : Int32) : Met l yX1_isThere (ws_ yX1_isThere cX1_isThere 2 (some .boolean)) ({ frames := 2, cells := 0, slots := 0, locals := 100 }) (va_Pc ([.ref (b 11), .int (a)]) (gW K A (LW K.2.1 b (x) ad κ G))) (vp_Si (fun r9 => r9 = bI (kHas κ a))) 0 0 (fun _ => False) := by
  refine g_ofW (cc := cX1_isThere) (by decide) (own := RX1) rfl (Nat.le_of_ble_eq_true rfl) ?_
  intro p e s m below meth c hC hr hlocks hnm hE hG ls hl
  have hl : lv_has ls 2 [(0, .ref (b 11)), (1, .int (a))] := hl
  refine lv_aload_n hC.1 hC.2.1 dX1_isThere_0 rfl (lv_at hl 0 rfl) ?_
  refine g_get hC hE hG in_X1 (LW_at.1) (ci := 0) rfl 10 (by decide) q123 (fun _ z => z) rfl dX1_isThere_1 ?_
  refine lv_iload_n hC.1 hC.2.1 dX1_isThere_4 rfl (lv_at hl 1 rfl) ?_
  refine g_roV (As := [.int (a)]) (rest := []) hC hE hG (xt_has l K A (lop K.2.1 b (x) (ad 0 0) G) 3 (b 11) ad κ (a)) (cwV 1 hC.2.2.2.2 (lw_V q167 q168 q169 q25 q170) rfl rfl rfl (by decide +kernel) ⟨Nat.le_of_ble_eq_true rfl, Nat.le_of_ble_eq_true rfl⟩) (cput_o) (ci := 1) rfl rfl hl.1 rfl (Nat.le_of_ble_eq_true rfl) dX1_isThere_5 ⟨Nat.le_of_ble_eq_true rfl, Nat.le_of_ble_eq_true rfl⟩ (fun r hr9 => ?_)
  subst hr9
  exact g_roret hC hr (nb01 (bI_01 _)) (by rfl) hlocks dX1_isThere_8
set_option maxHeartbeats 4000000 in
theorem xl_digest (l : Launch) (K : GK) (A : Nat → Prop) (b : Nat → Nat) (x : MS) (ad : Nat → Nat → Nat) (κ : KS) (G : GM)  : Met l yX1_digest (ws_ yX1_digest cX1_digest 1 (some .int)) ({ frames := 3, cells := 0, slots := 0, locals := 150 }) (va_Pc ([.ref (b 11)]) (gW K A (LW K.2.1 b (x) ad κ G))) (vp_Si (fun r9 => r9 = kSum κ 80)) 0 0 (fun _ => False) := by
  refine g_ofW (cc := cX1_digest) (by decide) (own := RX1) rfl (Nat.le_of_ble_eq_true rfl) ?_
  intro p e s m below meth c hC hr hlocks hnm hE hG ls hl
  have hl : lv_has ls 1 [(0, .ref (b 11))] := hl
  refine lv_aload_n hC.1 hC.2.1 dX1_digest_0 rfl (lv_at hl 0 rfl) ?_
  refine g_get hC hE hG in_X1 (LW_at.1) (ci := 0) rfl 10 (by decide) q123 (fun _ z => z) rfl dX1_digest_1 ?_
  refine g_roV (As := []) (rest := []) hC hE hG (xt_digest l K A (lop K.2.1 b (x) (ad 0 0) G) 3 (b 11) ad κ ) (cwV 0 hC.2.2.2.2 (lw_V q175 q176 q177 q25 q178) rfl rfl rfl (by decide +kernel) ⟨Nat.le_of_ble_eq_true rfl, Nat.le_of_ble_eq_true rfl⟩) (cput_o) (ci := 1) rfl rfl hl.1 rfl (Nat.le_of_ble_eq_true rfl) dX1_digest_4 ⟨Nat.le_of_ble_eq_true rfl, Nat.le_of_ble_eq_true rfl⟩ (fun r hr9 => ?_)
  subst hr9
  exact g_roret hC hr (rfl) (by rfl) hlocks dX1_digest_7
