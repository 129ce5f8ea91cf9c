/-! the law's wrapped calls (written by tools/mkwr.py) -/
set_option maxRecDepth 100000
set_option maxHeartbeats 4000000 in
theorem xw_setRank (l : Launch) (hst : l.stackTraces = false) (K : GK) (A : Nat → Prop) (b : Nat → Nat) (x : MS) (ad : Nat → Nat → Nat) (κ : KS) (G : GM) (es : List Ev) (hEV : EV K b es G) (oa : Nat) (f : Nat → Int64) (hout : G (0, 30, 0) = some (oC K oa f)) {σ : MS} {B Ld Ac n : Nat} (hR : RL x κ es σ B Ld Ac n) (hn : n < 64) (a v : Int32) : Met l yX0_setRank (wsW_ yX0_setRank cX0_setRank 5 (some .int) [(0, 10, 13, 13), (0, 10, 17, 15), (0, 10, 21, 17)]) ({ frames := 10, cells := 3, slots := 18, locals := 700 }) (va_Pc [.ref (b 11), .int a, .int v, .ref oa] (gW K A (LW K.2.1 b x ad κ G))) (va_Qi (fun (r9 : Int32) (u : WU) => (pX (cSetRank x a v) x κ es nI r9 (wN u)) ∧ wK K b G u) (fun u t => gB K A (wG K b oa u) t) A) 3 18 A := by
  refine g_ofWH (cc := cX0_setRank) (by decide) (own := RX0) rfl (Nat.le_of_ble_eq_true rfl) ?_
  intro p e s m below meth c hC hr hlocks htab hE hG ls hl
  have hl : lv_has ls 5 [(0, .ref (b 11)), (1, .int a), (2, .int v), (3, .ref oa)] := hl
  refine lv_aload_n hC.1 hC.2.1 dX0_setRank_0 rfl (lv_at hl 3 rfl) ?_
  refine lv_iconst (v := 0) hC.1 hC.2.1 dX0_setRank_1 (by decide) ?_
  refine lv_aload_n hC.1 hC.2.1 dX0_setRank_2 rfl (lv_at hl 0 rfl) ?_
  refine lv_iload_n hC.1 hC.2.1 dX0_setRank_3 rfl (lv_at hl 1 rfl) ?_
  refine lv_iload_n hC.1 hC.2.1 dX0_setRank_4 rfl (lv_at hl 2 rfl) ?_
  refine g_xVi (As := [.int a, .int v]) (rest := [.int 0, .ref oa]) hC hE hG (xl_setRank l hst K A b x ad κ G a v) (cwV 2 hC.2.2.2.2 (lw_V q413 q414 q415 q21 q416) rfl rfl rfl (by decide +kernel) ⟨Nat.le_of_ble_eq_true rfl, Nat.le_of_ble_eq_true rfl⟩) LW_at.1 (ci := 0) rfl rfl hl.1 rfl (Nat.le_of_ble_eq_true rfl) dX0_setRank_5 ⟨Nat.le_of_ble_eq_true rfl, Nat.le_of_ble_eq_true rfl⟩ (fun k ce q9 H locs hk hG h1 h2 h3 => ?_) (fun r u H locs hu hG => ?_)
  · rcases e_setRank hk with rfl | rfl | rfl
    · refine g_catch (k := 1) hC hE htab 0 (x := ⟨0, 10, 13, 13⟩) rfl (fun _ h => by cases h) rfl (by decide) q334 (by decide) h1 h2 h3 ?_
      refine lv_astore (lv' := [(4, .ref q9), (0, .ref (b 11)), (1, .int a), (2, .int v), (3, .ref oa)]) hC.1 hC.2.1 dX0_setRank_13 hl (by decide) rfl (fun ls hl => ?_)
      refine lv_iconst (v := 1) hC.1 hC.2.1 dX0_setRank_15 (by decide) ?_
      exact g_iret hC hG hr rfl (x, ad, κ, es, G, f) (wG_id hout) ⟨Or.inr ⟨_, _, hk, by decide, rfl⟩, hEV, g0.rf G⟩ hlocks dX0_setRank_16
    · refine g_catch (k := 2) hC hE htab 1 (x := ⟨0, 10, 17, 15⟩) rfl (pre_1 ⟨by decide, _, q334, by decide⟩) rfl (by decide) q411 (by decide) h1 h2 h3 ?_
      refine lv_astore (lv' := [(4, .ref q9), (0, .ref (b 11)), (1, .int a), (2, .int v), (3, .ref oa)]) hC.1 hC.2.1 dX0_setRank_17 hl (by decide) rfl (fun ls hl => ?_)
      refine lv_iconst (v := 2) hC.1 hC.2.1 dX0_setRank_19 (by decide) ?_
      exact g_iret hC hG hr rfl (x, ad, κ, es, G, f) (wG_id hout) ⟨Or.inr ⟨_, _, hk, by decide, rfl⟩, hEV, g0.rf G⟩ hlocks dX0_setRank_20
    · refine g_catch (k := 3) hC hE htab 2 (x := ⟨0, 10, 21, 17⟩) rfl (pre_2 ⟨by decide, _, q334, by decide⟩ ⟨by decide, _, q411, by decide⟩) rfl (by decide) q412 (by decide) h1 h2 h3 ?_
      refine lv_astore (lv' := [(4, .ref q9), (0, .ref (b 11)), (1, .int a), (2, .int v), (3, .ref oa)]) hC.1 hC.2.1 dX0_setRank_21 hl (by decide) rfl (fun ls hl => ?_)
      refine lv_iconst (v := 3) hC.1 hC.2.1 dX0_setRank_23 (by decide) ?_
      exact g_iret hC hG hr rfl (x, ad, κ, es, G, f) (wG_id hout) ⟨Or.inr ⟨_, _, hk, by decide, rfl⟩, hEV, g0.rf G⟩ hlocks dX0_setRank_24
  · skip
    refine lv_i2l hC.1 hC.2.1 dX0_setRank_8 (v := r.toInt64) rfl ?_
    refine g_last hC hE hG (LW_o (hout)) (show vp_in 0 1 from vp_in_nI (n := 0) (by decide) (by decide)) dX0_setRank_9 (fun H locs hG => ?_)
    refine lv_goto (tgt := 25) hC.1 hC.2.1 dX0_setRank_10 (by decide) ?_
    refine lv_iconst (v := 0) hC.1 hC.2.1 dX0_setRank_25 (by decide) ?_
    exact g_iret hC hG hr rfl (u, ad, κ, es, G, vp_updL f (Int32.toNatClampNeg 0) (r.toInt64)) wG_s ⟨by rw [wN_s]; exact Or.inl ⟨r, u, hu, rfl, rfl⟩, hEV, g0.rf G⟩ hlocks dX0_setRank_26
set_option maxHeartbeats 4000000 in
theorem xw_setRule (l : Launch) (hst : l.stackTraces = false) (K : GK) (A : Nat → Prop) (b : Nat → Nat) (x : MS) (ad : Nat → Nat → Nat) (κ : KS) (G : GM) (es : List Ev) (hEV : EV K b es G) (oa : Nat) (f : Nat → Int64) (hout : G (0, 30, 0) = some (oC K oa f)) {σ : MS} {B Ld Ac n : Nat} (hR : RL x κ es σ B Ld Ac n) (hn : n < 64) (a v : Int32) : Met l yX0_setRule (wsW_ yX0_setRule cX0_setRule 5 (some .int) [(0, 10, 13, 13), (0, 10, 17, 15), (0, 10, 21, 17)]) ({ frames := 10, cells := 3, slots := 18, locals := 700 }) (va_Pc [.ref (b 11), .int a, .int v, .ref oa] (gW K A (LW K.2.1 b x ad κ G))) (va_Qi (fun (r9 : Int32) (u : WU) => (pX (cSetRule x a v) x κ es nI r9 (wN u)) ∧ wK K b G u) (fun u t => gB K A (wG K b oa u) t) A) 3 18 A := by
  refine g_ofWH (cc := cX0_setRule) (by decide) (own := RX0) rfl (Nat.le_of_ble_eq_true rfl) ?_
  intro p e s m below meth c hC hr hlocks htab hE hG ls hl
  have hl : lv_has ls 5 [(0, .ref (b 11)), (1, .int a), (2, .int v), (3, .ref oa)] := hl
  refine lv_aload_n hC.1 hC.2.1 dX0_setRule_0 rfl (lv_at hl 3 rfl) ?_
  refine lv_iconst (v := 0) hC.1 hC.2.1 dX0_setRule_1 (by decide) ?_
  refine lv_aload_n hC.1 hC.2.1 dX0_setRule_2 rfl (lv_at hl 0 rfl) ?_
  refine lv_iload_n hC.1 hC.2.1 dX0_setRule_3 rfl (lv_at hl 1 rfl) ?_
  refine lv_iload_n hC.1 hC.2.1 dX0_setRule_4 rfl (lv_at hl 2 rfl) ?_
  refine g_xVi (As := [.int a, .int v]) (rest := [.int 0, .ref oa]) hC hE hG (xl_setRule l hst K A b x ad κ G a v) (cwV 2 hC.2.2.2.2 (lw_V q483 q484 q485 q21 q486) rfl rfl rfl (by decide +kernel) ⟨Nat.le_of_ble_eq_true rfl, Nat.le_of_ble_eq_true rfl⟩) LW_at.1 (ci := 0) rfl rfl hl.1 rfl (Nat.le_of_ble_eq_true rfl) dX0_setRule_5 ⟨Nat.le_of_ble_eq_true rfl, Nat.le_of_ble_eq_true rfl⟩ (fun k ce q9 H locs hk hG h1 h2 h3 => ?_) (fun r u H locs hu hG => ?_)
  · rcases e_setRule hk with rfl | rfl | rfl
    · refine g_catch (k := 1) hC hE htab 0 (x := ⟨0, 10, 13, 13⟩) rfl (fun _ h => by cases h) rfl (by decide) q334 (by decide) h1 h2 h3 ?_
      refine lv_astore (lv' := [(4, .ref q9), (0, .ref (b 11)), (1, .int a), (2, .int v), (3, .ref oa)]) hC.1 hC.2.1 dX0_setRule_13 hl (by decide) rfl (fun ls hl => ?_)
      refine lv_iconst (v := 1) hC.1 hC.2.1 dX0_setRule_15 (by decide) ?_
      exact g_iret hC hG hr rfl (x, ad, κ, es, G, f) (wG_id hout) ⟨Or.inr ⟨_, _, hk, by decide, rfl⟩, hEV, g0.rf G⟩ hlocks dX0_setRule_16
    · refine g_catch (k := 2) hC hE htab 1 (x := ⟨0, 10, 17, 15⟩) rfl (pre_1 ⟨by decide, _, q334, by decide⟩) rfl (by decide) q411 (by decide) h1 h2 h3 ?_
      refine lv_astore (lv' := [(4, .ref q9), (0, .ref (b 11)), (1, .int a), (2, .int v), (3, .ref oa)]) hC.1 hC.2.1 dX0_setRule_17 hl (by decide) rfl (fun ls hl => ?_)
      refine lv_iconst (v := 2) hC.1 hC.2.1 dX0_setRule_19 (by decide) ?_
      exact g_iret hC hG hr rfl (x, ad, κ, es, G, f) (wG_id hout) ⟨Or.inr ⟨_, _, hk, by decide, rfl⟩, hEV, g0.rf G⟩ hlocks dX0_setRule_20
    · refine g_catch (k := 3) hC hE htab 2 (x := ⟨0, 10, 21, 17⟩) rfl (pre_2 ⟨by decide, _, q334, by decide⟩ ⟨by decide, _, q411, by decide⟩) rfl (by decide) q412 (by decide) h1 h2 h3 ?_
      refine lv_astore (lv' := [(4, .ref q9), (0, .ref (b 11)), (1, .int a), (2, .int v), (3, .ref oa)]) hC.1 hC.2.1 dX0_setRule_21 hl (by decide) rfl (fun ls hl => ?_)
      refine lv_iconst (v := 3) hC.1 hC.2.1 dX0_setRule_23 (by decide) ?_
      exact g_iret hC hG hr rfl (x, ad, κ, es, G, f) (wG_id hout) ⟨Or.inr ⟨_, _, hk, by decide, rfl⟩, hEV, g0.rf G⟩ hlocks dX0_setRule_24
  · skip
    refine lv_i2l hC.1 hC.2.1 dX0_setRule_8 (v := r.toInt64) rfl ?_
    refine g_last hC hE hG (LW_o (hout)) (show vp_in 0 1 from vp_in_nI (n := 0) (by decide) (by decide)) dX0_setRule_9 (fun H locs hG => ?_)
    refine lv_goto (tgt := 25) hC.1 hC.2.1 dX0_setRule_10 (by decide) ?_
    refine lv_iconst (v := 0) hC.1 hC.2.1 dX0_setRule_25 (by decide) ?_
    exact g_iret hC hG hr rfl (u, ad, κ, es, G, vp_updL f (Int32.toNatClampNeg 0) (r.toInt64)) wG_s ⟨by rw [wN_s]; exact Or.inl ⟨r, u, hu, rfl, rfl⟩, hEV, g0.rf G⟩ hlocks dX0_setRule_26
set_option maxHeartbeats 4000000 in
theorem xw_setOrder (l : Launch) (hst : l.stackTraces = false) (K : GK) (A : Nat → Prop) (b : Nat → Nat) (x : MS) (ad : Nat → Nat → Nat) (κ : KS) (G : GM) (es : List Ev) (hEV : EV K b es G) (oa : Nat) (f : Nat → Int64) (hout : G (0, 30, 0) = some (oC K oa f)) {σ : MS} {B Ld Ac n : Nat} (hR : RL x κ es σ B Ld Ac n) (hn : n < 64) (a v d : Int32) : Met l yX0_setOrder (wsW_ yX0_setOrder cX0_setOrder 5 (some .int) [(0, 7, 10, 15), (0, 7, 14, 17)]) ({ frames := 10, cells := 2, slots := 12, locals := 700 }) (va_Pc [.ref (b 11), .int a, .int v, .int d] (gW K A (LW K.2.1 b x ad κ G))) (va_Qi (fun (r9 : Int32) (u : WU) => (pO (cSetOrder x a v d) x κ es r9 (wN u)) ∧ wK K b G u) (fun u t => gB K A (wG K b oa u) t) A) 2 12 A := by
  refine g_ofWH (cc := cX0_setOrder) (by decide) (own := RX0) rfl (Nat.le_of_ble_eq_true rfl) ?_
  intro p e s m below meth c hC hr hlocks htab hE hG ls hl
  have hl : lv_has ls 5 [(0, .ref (b 11)), (1, .int a), (2, .int v), (3, .int d)] := hl
  refine lv_aload_n hC.1 hC.2.1 dX0_setOrder_0 rfl (lv_at hl 0 rfl) ?_
  refine lv_iload_n hC.1 hC.2.1 dX0_setOrder_1 rfl (lv_at hl 1 rfl) ?_
  refine lv_iload_n hC.1 hC.2.1 dX0_setOrder_2 rfl (lv_at hl 2 rfl) ?_
  refine lv_iload_n hC.1 hC.2.1 dX0_setOrder_3 rfl (lv_at hl 3 rfl) ?_
  refine g_xVv (As := [.int a, .int v, .int d]) (rest := []) hC hE hG (xl_setOrder l hst K A b x ad κ G a v d) (cwV 3 hC.2.2.2.2 (lw_V q493 q494 q495 q21 q496) rfl rfl rfl (by decide +kernel) ⟨Nat.le_of_ble_eq_true rfl, Nat.le_of_ble_eq_true rfl⟩) LW_at.1 (ci := 0) rfl rfl hl.1 rfl (Nat.le_of_ble_eq_true rfl) dX0_setOrder_4 ⟨Nat.le_of_ble_eq_true rfl, Nat.le_of_ble_eq_true rfl⟩ (fun k ce q9 H locs hk hG h1 h2 h3 => ?_) (fun u H locs hu hG => ?_)
  · rcases e_setOrder hk with rfl | rfl
    · refine g_catch (k := 2) hC hE htab 0 (x := ⟨0, 7, 10, 15⟩) rfl (fun _ h => by cases h) rfl (by decide) q411 (by decide) h1 h2 h3 ?_
      refine lv_astore (lv' := [(4, .ref q9), (0, .ref (b 11)), (1, .int a), (2, .int v), (3, .int d)]) hC.1 hC.2.1 dX0_setOrder_10 hl (by decide) rfl (fun ls hl => ?_)
      refine lv_iconst (v := 1) hC.1 hC.2.1 dX0_setOrder_12 (by decide) ?_
      exact g_iret hC hG hr rfl (x, ad, κ, es, G, f) (wG_id hout) ⟨Or.inr ⟨_, _, hk, by decide, rfl⟩, hEV, g0.rf G⟩ hlocks dX0_setOrder_13
    · refine g_catch (k := 3) hC hE htab 1 (x := ⟨0, 7, 14, 17⟩) rfl (pre_1 ⟨by decide, _, q411, by decide⟩) rfl (by decide) q412 (by decide) h1 h2 h3 ?_
      refine lv_astore (lv' := [(4, .ref q9), (0, .ref (b 11)), (1, .int a), (2, .int v), (3, .int d)]) hC.1 hC.2.1 dX0_setOrder_14 hl (by decide) rfl (fun ls hl => ?_)
      refine lv_iconst (v := 2) hC.1 hC.2.1 dX0_setOrder_16 (by decide) ?_
      exact g_iret hC hG hr rfl (x, ad, κ, es, G, f) (wG_id hout) ⟨Or.inr ⟨_, _, hk, by decide, rfl⟩, hEV, g0.rf G⟩ hlocks dX0_setOrder_17
  · skip
    refine lv_goto (tgt := 18) hC.1 hC.2.1 dX0_setOrder_7 (by decide) ?_
    refine lv_iconst (v := 0) hC.1 hC.2.1 dX0_setOrder_18 (by decide) ?_
    exact g_iret hC hG hr rfl (u, ad, κ, es, G, f) (wG_id hout) ⟨Or.inl ⟨u, f 0, hu, rfl, rfl⟩, hEV, g0.rf G⟩ hlocks dX0_setOrder_19
set_option maxHeartbeats 4000000 in
theorem xw_beginBatch (l : Launch) (hst : l.stackTraces = false) (K : GK) (A : Nat → Prop) (b : Nat → Nat) (x : MS) (ad : Nat → Nat → Nat) (κ : KS) (G : GM) (es : List Ev) (hEV : EV K b es G) (oa : Nat) (f : Nat → Int64) (hout : G (0, 30, 0) = some (oC K oa f)) {σ : MS} {B Ld Ac n : Nat} (hR : RL x κ es σ B Ld Ac n) (hn : n < 64)  : Met l yX0_beginBatch (wsW_ yX0_beginBatch cX0_beginBatch 3 (some .int) [(0, 8, 11, 17)]) ({ frames := 10, cells := 1, slots := 6, locals := 700 }) (va_Pc [.ref (b 11), .ref oa] (gW K A (LW K.2.1 b x ad κ G))) (va_Qi (fun (r9 : Int32) (u : WU) => (pX (cBegin x ) x κ es (fun k => nI (k - 2)) r9 (wN u)) ∧ wK K b G u) (fun u t => gB K A (wG K b oa u) t) A) 1 6 A := by
  refine g_ofWH (cc := cX0_beginBatch) (by decide) (own := RX0) rfl (Nat.le_of_ble_eq_true rfl) ?_
  intro p e s m below meth c hC hr hlocks htab hE hG ls hl
  have hl : lv_has ls 3 [(0, .ref (b 11)), (1, .ref oa)] := hl
  refine lv_aload_n hC.1 hC.2.1 dX0_beginBatch_0 rfl (lv_at hl 1 rfl) ?_
  refine lv_iconst (v := 0) hC.1 hC.2.1 dX0_beginBatch_1 (by decide) ?_
  refine lv_aload_n hC.1 hC.2.1 dX0_beginBatch_2 rfl (lv_at hl 0 rfl) ?_
  refine g_xVi (As := []) (rest := [.int 0, .ref oa]) hC hE hG (xl_beginBatch l hst K A b x ad κ G ) (cwV 0 hC.2.2.2.2 (lw_V q500 q501 q502 q21 q503) rfl rfl rfl (by decide +kernel) ⟨Nat.le_of_ble_eq_true rfl, Nat.le_of_ble_eq_true rfl⟩) LW_at.1 (ci := 0) rfl rfl hl.1 rfl (Nat.le_of_ble_eq_true rfl) dX0_beginBatch_3 ⟨Nat.le_of_ble_eq_true rfl, Nat.le_of_ble_eq_true rfl⟩ (fun k ce q9 H locs hk hG h1 h2 h3 => ?_) (fun r u H locs hu hG => ?_)
  · obtain rfl := e_begin hk
    refine g_catch (k := 3) hC hE htab 0 (x := ⟨0, 8, 11, 17⟩) rfl (fun _ h => by cases h) rfl (by decide) q412 (by decide) h1 h2 h3 ?_
    refine lv_astore_n (lv' := [(2, .ref q9), (0, .ref (b 11)), (1, .ref oa)]) hC.1 hC.2.1 dX0_beginBatch_11 rfl hl (by decide) rfl (fun ls hl => ?_)
    refine lv_iconst (v := 1) hC.1 hC.2.1 dX0_beginBatch_12 (by decide) ?_
    exact g_iret hC hG hr rfl (x, ad, κ, es, G, f) (wG_id hout) ⟨Or.inr ⟨_, _, hk, by decide, rfl⟩, hEV, g0.rf G⟩ hlocks dX0_beginBatch_13
  · skip
    refine lv_i2l hC.1 hC.2.1 dX0_beginBatch_6 (v := r.toInt64) rfl ?_
    refine g_last hC hE hG (LW_o (hout)) (show vp_in 0 1 from vp_in_nI (n := 0) (by decide) (by decide)) dX0_beginBatch_7 (fun H locs hG => ?_)
    refine lv_goto (tgt := 14) hC.1 hC.2.1 dX0_beginBatch_8 (by decide) ?_
    refine lv_iconst (v := 0) hC.1 hC.2.1 dX0_beginBatch_14 (by decide) ?_
    exact g_iret hC hG hr rfl (u, ad, κ, es, G, vp_updL f (Int32.toNatClampNeg 0) (r.toInt64)) wG_s ⟨by rw [wN_s]; exact Or.inl ⟨r, u, hu, rfl, rfl⟩, hEV, g0.rf G⟩ hlocks dX0_beginBatch_15
set_option maxHeartbeats 4000000 in
theorem xw_key (l : Launch) (hst : l.stackTraces = false) (K : GK) (A : Nat → Prop) (b : Nat → Nat) (x : MS) (ad : Nat → Nat → Nat) (κ : KS) (G : GM) (es : List Ev) (hEV : EV K b es G) (oa : Nat) (f : Nat → Int64) (hout : G (0, 30, 0) = some (oC K oa f)) {σ : MS} {B Ld Ac n : Nat} (hR : RL x κ es σ B Ld Ac n) (hn : n < 64) (a v : Int32) : Met l yX0_key (wsW_ yX0_key cX0_key 5 (some .int) [(0, 10, 13, 13), (0, 10, 17, 15)]) ({ frames := 10, cells := 2, slots := 12, locals := 700 }) (va_Pc [.ref (b 11), .int a, .int v, .ref oa] (gW K A (LW K.2.1 b x ad κ G))) (va_Qi (fun (r9 : Int32) (u : WU) => (pX (cKey x a v) x κ es nI r9 (wN u)) ∧ wK K b G u) (fun u t => gB K A (wG K b oa u) t) A) 2 12 A := by
  refine g_ofWH (cc := cX0_key) (by decide) (own := RX0) rfl (Nat.le_of_ble_eq_true rfl) ?_
  intro p e s m below meth c hC hr hlocks htab hE hG ls hl
  have hl : lv_has ls 5 [(0, .ref (b 11)), (1, .int a), (2, .int v), (3, .ref oa)] := hl
  refine lv_aload_n hC.1 hC.2.1 dX0_key_0 rfl (lv_at hl 3 rfl) ?_
  refine lv_iconst (v := 0) hC.1 hC.2.1 dX0_key_1 (by decide) ?_
  refine lv_aload_n hC.1 hC.2.1 dX0_key_2 rfl (lv_at hl 0 rfl) ?_
  refine lv_iload_n hC.1 hC.2.1 dX0_key_3 rfl (lv_at hl 1 rfl) ?_
  refine lv_iload_n hC.1 hC.2.1 dX0_key_4 rfl (lv_at hl 2 rfl) ?_
  refine g_xVi (As := [.int a, .int v]) (rest := [.int 0, .ref oa]) hC hE hG (xl_key l hst K A b x ad κ G a v) (cwV 2 hC.2.2.2.2 (lw_V q507 q508 q509 q21 q510) rfl rfl rfl (by decide +kernel) ⟨Nat.le_of_ble_eq_true rfl, Nat.le_of_ble_eq_true rfl⟩) LW_at.1 (ci := 0) rfl rfl hl.1 rfl (Nat.le_of_ble_eq_true rfl) dX0_key_5 ⟨Nat.le_of_ble_eq_true rfl, Nat.le_of_ble_eq_true rfl⟩ (fun k ce q9 H locs hk hG h1 h2 h3 => ?_) (fun r u H locs hu hG => ?_)
  · rcases e_key hk with rfl | rfl
    · refine g_catch (k := 1) hC hE htab 0 (x := ⟨0, 10, 13, 13⟩) rfl (fun _ h => by cases h) rfl (by decide) q334 (by decide) h1 h2 h3 ?_
      refine lv_astore (lv' := [(4, .ref q9), (0, .ref (b 11)), (1, .int a), (2, .int v), (3, .ref oa)]) hC.1 hC.2.1 dX0_key_13 hl (by decide) rfl (fun ls hl => ?_)
      refine lv_iconst (v := 1) hC.1 hC.2.1 dX0_key_15 (by decide) ?_
      exact g_iret hC hG hr rfl (x, ad, κ, es, G, f) (wG_id hout) ⟨Or.inr ⟨_, _, hk, by decide, rfl⟩, hEV, g0.rf G⟩ hlocks dX0_key_16
    · refine g_catch (k := 2) hC hE htab 1 (x := ⟨0, 10, 17, 15⟩) rfl (pre_1 ⟨by decide, _, q334, by decide⟩) rfl (by decide) q411 (by decide) h1 h2 h3 ?_
      refine lv_astore (lv' := [(4, .ref q9), (0, .ref (b 11)), (1, .int a), (2, .int v), (3, .ref oa)]) hC.1 hC.2.1 dX0_key_17 hl (by decide) rfl (fun ls hl => ?_)
      refine lv_iconst (v := 2) hC.1 hC.2.1 dX0_key_19 (by decide) ?_
      exact g_iret hC hG hr rfl (x, ad, κ, es, G, f) (wG_id hout) ⟨Or.inr ⟨_, _, hk, by decide, rfl⟩, hEV, g0.rf G⟩ hlocks dX0_key_20
  · skip
    refine lv_i2l hC.1 hC.2.1 dX0_key_8 (v := r.toInt64) rfl ?_
    refine g_last hC hE hG (LW_o (hout)) (show vp_in 0 1 from vp_in_nI (n := 0) (by decide) (by decide)) dX0_key_9 (fun H locs hG => ?_)
    refine lv_goto (tgt := 21) hC.1 hC.2.1 dX0_key_10 (by decide) ?_
    refine lv_iconst (v := 0) hC.1 hC.2.1 dX0_key_21 (by decide) ?_
    exact g_iret hC hG hr rfl (u, ad, κ, es, G, vp_updL f (Int32.toNatClampNeg 0) (r.toInt64)) wG_s ⟨by rw [wN_s]; exact Or.inl ⟨r, u, hu, rfl, rfl⟩, hEV, g0.rf G⟩ hlocks dX0_key_22
set_option maxHeartbeats 4000000 in
theorem xw_field (l : Launch) (hst : l.stackTraces = false) (K : GK) (A : Nat → Prop) (b : Nat → Nat) (x : MS) (ad : Nat → Nat → Nat) (κ : KS) (G : GM) (es : List Ev) (hEV : EV K b es G) (oa : Nat) (f : Nat → Int64) (hout : G (0, 30, 0) = some (oC K oa f)) {σ : MS} {B Ld Ac n : Nat} (hR : RL x κ es σ B Ld Ac n) (hn : n < 64) (a v : Int32) : Met l yX0_field (wsW_ yX0_field cX0_field 5 (some .int) [(0, 10, 13, 13), (0, 10, 17, 15)]) ({ frames := 10, cells := 2, slots := 12, locals := 700 }) (va_Pc [.ref (b 11), .int a, .int v, .ref oa] (gW K A (LW K.2.1 b x ad κ G))) (va_Qi (fun (r9 : Int32) (u : WU) => (pX (cField x a v) x κ es nI r9 (wN u)) ∧ wK K b G u) (fun u t => gB K A (wG K b oa u) t) A) 2 12 A := by
  refine g_ofWH (cc := cX0_field) (by decide) (own := RX0) rfl (Nat.le_of_ble_eq_true rfl) ?_
  intro p e s m below meth c hC hr hlocks htab hE hG ls hl
  have hl : lv_has ls 5 [(0, .ref (b 11)), (1, .int a), (2, .int v), (3, .ref oa)] := hl
  refine lv_aload_n hC.1 hC.2.1 dX0_field_0 rfl (lv_at hl 3 rfl) ?_
  refine lv_iconst (v := 0) hC.1 hC.2.1 dX0_field_1 (by decide) ?_
  refine lv_aload_n hC.1 hC.2.1 dX0_field_2 rfl (lv_at hl 0 rfl) ?_
  refine lv_iload_n hC.1 hC.2.1 dX0_field_3 rfl (lv_at hl 1 rfl) ?_
  refine lv_iload_n hC.1 hC.2.1 dX0_field_4 rfl (lv_at hl 2 rfl) ?_
  refine g_xVi (As := [.int a, .int v]) (rest := [.int 0, .ref oa]) hC hE hG (xl_field l hst K A b x ad κ G a v) (cwV 2 hC.2.2.2.2 (lw_V q517 q518 q519 q21 q520) rfl rfl rfl (by decide +kernel) ⟨Nat.le_of_ble_eq_true rfl, Nat.le_of_ble_eq_true rfl⟩) LW_at.1 (ci := 0) rfl rfl hl.1 rfl (Nat.le_of_ble_eq_true rfl) dX0_field_5 ⟨Nat.le_of_ble_eq_true rfl, Nat.le_of_ble_eq_true rfl⟩ (fun k ce q9 H locs hk hG h1 h2 h3 => ?_) (fun r u H locs hu hG => ?_)
  · rcases e_field hk with rfl | rfl
    · refine g_catch (k := 1) hC hE htab 0 (x := ⟨0, 10, 13, 13⟩) rfl (fun _ h => by cases h) rfl (by decide) q334 (by decide) h1 h2 h3 ?_
      refine lv_astore (lv' := [(4, .ref q9), (0, .ref (b 11)), (1, .int a), (2, .int v), (3, .ref oa)]) hC.1 hC.2.1 dX0_field_13 hl (by decide) rfl (fun ls hl => ?_)
      refine lv_iconst (v := 1) hC.1 hC.2.1 dX0_field_15 (by decide) ?_
      exact g_iret hC hG hr rfl (x, ad, κ, es, G, f) (wG_id hout) ⟨Or.inr ⟨_, _, hk, by decide, rfl⟩, hEV, g0.rf G⟩ hlocks dX0_field_16
    · refine g_catch (k := 2) hC hE htab 1 (x := ⟨0, 10, 17, 15⟩) rfl (pre_1 ⟨by decide, _, q334, by decide⟩) rfl (by decide) q411 (by decide) h1 h2 h3 ?_
      refine lv_astore (lv' := [(4, .ref q9), (0, .ref (b 11)), (1, .int a), (2, .int v), (3, .ref oa)]) hC.1 hC.2.1 dX0_field_17 hl (by decide) rfl (fun ls hl => ?_)
      refine lv_iconst (v := 2) hC.1 hC.2.1 dX0_field_19 (by decide) ?_
      exact g_iret hC hG hr rfl (x, ad, κ, es, G, f) (wG_id hout) ⟨Or.inr ⟨_, _, hk, by decide, rfl⟩, hEV, g0.rf G⟩ hlocks dX0_field_20
  · skip
    refine lv_i2l hC.1 hC.2.1 dX0_field_8 (v := r.toInt64) rfl ?_
    refine g_last hC hE hG (LW_o (hout)) (show vp_in 0 1 from vp_in_nI (n := 0) (by decide) (by decide)) dX0_field_9 (fun H locs hG => ?_)
    refine lv_goto (tgt := 21) hC.1 hC.2.1 dX0_field_10 (by decide) ?_
    refine lv_iconst (v := 0) hC.1 hC.2.1 dX0_field_21 (by decide) ?_
    exact g_iret hC hG hr rfl (u, ad, κ, es, G, vp_updL f (Int32.toNatClampNeg 0) (r.toInt64)) wG_s ⟨by rw [wN_s]; exact Or.inl ⟨r, u, hu, rfl, rfl⟩, hEV, g0.rf G⟩ hlocks dX0_field_22
set_option maxHeartbeats 4000000 in
theorem xw_load (l : Launch) (hst : l.stackTraces = false) (K : GK) (A : Nat → Prop) (b : Nat → Nat) (x : MS) (ad : Nat → Nat → Nat) (κ : KS) (G : GM) (es : List Ev) (hEV : EV K b es G) (oa : Nat) (f : Nat → Int64) (hout : G (0, 30, 0) = some (oC K oa f)) {σ : MS} {B Ld Ac n : Nat} (hR : RL x κ es σ B Ld Ac n) (hn : n < 64) (a : Int32) : Met l yX0_load (wsW_ yX0_load cX0_load 4 (some .int) [(0, 9, 12, 13), (0, 9, 15, 17)]) ({ frames := 10, cells := 11, slots := 146, locals := 700 }) (va_Pc [.ref (b 11), .int a, .ref oa] (gW K A (LW K.2.1 b x ad κ G))) (va_Qi (fun (r9 : Int32) (u : WU) => (pL x κ es B Ld a r9 (wN u)) ∧ wK K b G u) (fun u t => gB K A (wG K b oa u) t) A) 11 146 A := by
  refine g_ofWH (cc := cX0_load) (by decide) (own := RX0) rfl (Nat.le_of_ble_eq_true rfl) ?_
  intro p e s m below meth c hC hr hlocks htab hE hG ls hl
  have hl : lv_has ls 4 [(0, .ref (b 11)), (1, .int a), (2, .ref oa)] := hl
  refine lv_aload_n hC.1 hC.2.1 dX0_load_0 rfl (lv_at hl 2 rfl) ?_
  refine lv_iconst (v := 0) hC.1 hC.2.1 dX0_load_1 (by decide) ?_
  refine lv_aload_n hC.1 hC.2.1 dX0_load_2 rfl (lv_at hl 0 rfl) ?_
  refine lv_iload_n hC.1 hC.2.1 dX0_load_3 rfl (lv_at hl 1 rfl) ?_
  refine g_xVi (As := [.int a]) (rest := [.int 0, .ref oa]) hC hE hG (xl_load l hst K A b x ad κ G es hEV (by have := hR.2.2.1.2.2.2; omega) hR.2.2.2.2.2.1.1 B Ld hR.2.1.1.1 hR.2.2.1.1 hR.2.1.1.2.1 (by have := hR.2.2.1.2.1; omega) hR.kI a) (cwV 1 hC.2.2.2.2 (lw_V q524 q525 q526 q21 q527) rfl rfl rfl (by decide +kernel) ⟨Nat.le_of_ble_eq_true rfl, Nat.le_of_ble_eq_true rfl⟩) LW_at.1 (ci := 0) rfl rfl hl.1 rfl (Nat.le_of_ble_eq_true rfl) dX0_load_4 ⟨Nat.le_of_ble_eq_true rfl, Nat.le_of_ble_eq_true rfl⟩ (fun k ce q9 H locs hk hG h1 h2 h3 => ?_) (fun r u H locs hu hG => ?_)
  · rcases e_load hk with rfl | rfl
    · refine g_catch (k := 1) hC hE htab 0 (x := ⟨0, 9, 12, 13⟩) rfl (fun _ h => by cases h) rfl (by decide) q334 (by decide) h1 h2 h3 ?_
      refine lv_astore_n (lv' := [(3, .ref q9), (0, .ref (b 11)), (1, .int a), (2, .ref oa)]) hC.1 hC.2.1 dX0_load_12 rfl hl (by decide) rfl (fun ls hl => ?_)
      refine lv_iconst (v := 1) hC.1 hC.2.1 dX0_load_13 (by decide) ?_
      exact g_iret hC hG hr rfl (x, ad, κ, es, G, f) (wG_id hout) ⟨Or.inr ⟨_, _, hk, by decide, rfl⟩, hEV, g0.rf G⟩ hlocks dX0_load_14
    · refine g_catch (k := 3) hC hE htab 1 (x := ⟨0, 9, 15, 17⟩) rfl (pre_1 ⟨by decide, _, q334, by decide⟩) rfl (by decide) q412 (by decide) h1 h2 h3 ?_
      refine lv_astore_n (lv' := [(3, .ref q9), (0, .ref (b 11)), (1, .int a), (2, .ref oa)]) hC.1 hC.2.1 dX0_load_15 rfl hl (by decide) rfl (fun ls hl => ?_)
      refine lv_iconst (v := 2) hC.1 hC.2.1 dX0_load_16 (by decide) ?_
      exact g_iret hC hG hr rfl (x, ad, κ, es, G, f) (wG_id hout) ⟨Or.inr ⟨_, _, hk, by decide, rfl⟩, hEV, g0.rf G⟩ hlocks dX0_load_17
  · skip
    refine lv_i2l hC.1 hC.2.1 dX0_load_7 (v := r.toInt64) rfl ?_
    refine g_last hC hE hG (LW_o ((hu.2.2 (0, 30, 0) rfl).trans hout)) (show vp_in 0 1 from vp_in_nI (n := 0) (by decide) (by decide)) dX0_load_8 (fun H locs hG => ?_)
    refine lv_goto (tgt := 18) hC.1 hC.2.1 dX0_load_9 (by decide) ?_
    refine lv_iconst (v := 0) hC.1 hC.2.1 dX0_load_18 (by decide) ?_
    exact g_iret hC hG hr rfl (xLoad x Ld, u.2, kDo (xLoad x Ld) (.inl (Ld, nI (B - 1), a, x.2 3, x.2 4)) κ, es ++ [.inl (Ld, nI (B - 1), a, x.2 3, x.2 4)], u.1, vp_updL f (Int32.toNatClampNeg 0) (r.toInt64)) wG_s ⟨by rw [wN_s]; exact Or.inl ⟨hu.1.1, rfl, by rw [hu.1.2]⟩, hu.2.1, hu.2.2⟩ hlocks dX0_load_19
set_option maxHeartbeats 4000000 in
theorem xw_protect (l : Launch) (hst : l.stackTraces = false) (K : GK) (A : Nat → Prop) (b : Nat → Nat) (x : MS) (ad : Nat → Nat → Nat) (κ : KS) (G : GM) (es : List Ev) (hEV : EV K b es G) (oa : Nat) (f : Nat → Int64) (hout : G (0, 30, 0) = some (oC K oa f)) {σ : MS} {B Ld Ac n : Nat} (hR : RL x κ es σ B Ld Ac n) (hn : n < 64) (a v z : Int32) (hz : z = 0 ∨ z = 1) : Met l yX0_protect (wsW_ yX0_protect cX0_protect 6 (some .int) [(0, 19, 22, 13), (0, 19, 26, 17)]) ({ frames := 10, cells := 10, slots := 141, locals := 700 }) (va_Pc [.ref (b 11), .int a, .int v, .int z, .ref oa] (gW K A (LW K.2.1 b x ad κ G))) (va_Qi (fun (r9 : Int32) (u : WU) => (pEz (cProtect κ a v) x κ es (sS x 8 (nI (Ac + 1))) (kProt (tN a) (tN v) z κ) (.inr (.inl (tN a, tN v, z))) cd2 r9 (wN u)) ∧ wK K b G u) (fun u t => gB K A (wG K b oa u) t) A) 10 141 A := by
  refine g_ofWH (cc := cX0_protect) (by decide) (own := RX0) rfl (Nat.le_of_ble_eq_true rfl) ?_
  intro p e s m below meth c hC hr hlocks htab hE hG ls hl
  have hl : lv_has ls 6 [(0, .ref (b 11)), (1, .int a), (2, .int v), (3, .int z), (4, .ref oa)] := hl
  refine lv_aload hC.1 hC.2.1 dX0_protect_0 (lv_at hl 4 rfl) ?_
  refine lv_iconst (v := 0) hC.1 hC.2.1 dX0_protect_2 (by decide) ?_
  refine lv_aload_n hC.1 hC.2.1 dX0_protect_3 rfl (lv_at hl 0 rfl) ?_
  refine lv_iload_n hC.1 hC.2.1 dX0_protect_4 rfl (lv_at hl 1 rfl) ?_
  refine lv_iload_n hC.1 hC.2.1 dX0_protect_5 rfl (lv_at hl 2 rfl) ?_
  refine lv_iload_n hC.1 hC.2.1 dX0_protect_6 rfl (lv_at hl 3 rfl) ?_
  refine g_xVi (As := [.int a, .int v, .int z]) (rest := [.int 0, .ref oa]) hC hE hG (xl_protect l hst K A b x ad κ G es Ld hEV (by have := hR.2.2.1.2.2.2; omega) hR.kI (zK.kb hR.2.2.2.2.1.2.1 (by have := hR.2.2.1.2.1; omega) hR.kI) hR.2.2.2.2.2.1.1 Ac hR.2.1.1.2.2 (by have := hR.2.2.1.2.2.1; omega) a v z hz) (cwV 3 hC.2.2.2.2 (lw_V q632 q633 q634 q21 q635) rfl rfl rfl (by decide +kernel) ⟨Nat.le_of_ble_eq_true rfl, Nat.le_of_ble_eq_true rfl⟩) LW_at.1 (ci := 0) rfl rfl hl.1 rfl (Nat.le_of_ble_eq_true rfl) dX0_protect_7 ⟨Nat.le_of_ble_eq_true rfl, Nat.le_of_ble_eq_true rfl⟩ (fun k ce q9 H locs hk hG h1 h2 h3 => ?_) (fun r u H locs hu hG => ?_)
  · obtain rfl := e_protect hk
    refine g_catch (k := 1) hC hE htab 0 (x := ⟨0, 19, 22, 13⟩) rfl (fun _ h => by cases h) rfl (by decide) q334 (by decide) h1 h2 h3 ?_
    refine lv_astore (lv' := [(5, .ref q9), (0, .ref (b 11)), (1, .int a), (2, .int v), (3, .int z), (4, .ref oa)]) hC.1 hC.2.1 dX0_protect_22 hl (by decide) rfl (fun ls hl => ?_)
    refine lv_iconst (v := 1) hC.1 hC.2.1 dX0_protect_24 (by decide) ?_
    exact g_iret hC hG hr rfl (x, ad, κ, es, G, f) (wG_id hout) ⟨Or.inr ⟨_, _, hk, by decide, rfl⟩, hEV, g0.rf G⟩ hlocks dX0_protect_25
  · skip
    refine lv_if_eq (tgt := 17) hC.1 hC.2.1 dX0_protect_10 (by decide) (fun c1 => ?_) (fun c1 => ?_)
    · refine lv_lconst (v := 0) hC.1 hC.2.1 dX0_protect_17 rfl ?_
      refine g_last hC hE hG (LW_o ((hu.2.2 (0, 30, 0) rfl).trans hout)) (show vp_in 0 1 from vp_in_nI (n := 0) (by decide) (by decide)) dX0_protect_18 (fun H locs hG => ?_)
      refine lv_goto (tgt := 30) hC.1 hC.2.1 dX0_protect_19 (by decide) ?_
      refine lv_iconst (v := 0) hC.1 hC.2.1 dX0_protect_30 (by decide) ?_
      exact g_iret hC hG hr rfl (sS x 8 (nI (Ac + 1)), u.2, kProt (tN a) (tN v) z κ, es ++ [.inr (.inl (tN a, tN v, z))], u.1, vp_updL f (Int32.toNatClampNeg 0) (0)) wG_s ⟨by rw [wN_s]; exact Or.inl ⟨r, hu.1, rfl, by rw [if_pos c1]⟩, hu.2.1, hu.2.2⟩ hlocks dX0_protect_31
    · refine lv_lconst (v := 1) hC.1 hC.2.1 dX0_protect_13 rfl ?_
      refine lv_goto (tgt := 18) hC.1 hC.2.1 dX0_protect_14 (by decide) ?_
      refine g_last hC hE hG (LW_o ((hu.2.2 (0, 30, 0) rfl).trans hout)) (show vp_in 0 1 from vp_in_nI (n := 0) (by decide) (by decide)) dX0_protect_18 (fun H locs hG => ?_)
      refine lv_goto (tgt := 30) hC.1 hC.2.1 dX0_protect_19 (by decide) ?_
      refine lv_iconst (v := 0) hC.1 hC.2.1 dX0_protect_30 (by decide) ?_
      exact g_iret hC hG hr rfl (sS x 8 (nI (Ac + 1)), u.2, kProt (tN a) (tN v) z κ, es ++ [.inr (.inl (tN a, tN v, z))], u.1, vp_updL f (Int32.toNatClampNeg 0) (1)) wG_s ⟨by rw [wN_s]; exact Or.inl ⟨r, hu.1, rfl, by rw [if_neg c1]⟩, hu.2.1, hu.2.2⟩ hlocks dX0_protect_31
set_option maxHeartbeats 4000000 in
theorem xw_hold (l : Launch) (hst : l.stackTraces = false) (K : GK) (A : Nat → Prop) (b : Nat → Nat) (x : MS) (ad : Nat → Nat → Nat) (κ : KS) (G : GM) (es : List Ev) (hEV : EV K b es G) (oa : Nat) (f : Nat → Int64) (hout : G (0, 30, 0) = some (oC K oa f)) {σ : MS} {B Ld Ac n : Nat} (hR : RL x κ es σ B Ld Ac n) (hn : n < 64) (a : Int32) : Met l yX0_hold (wsW_ yX0_hold cX0_hold 4 (some .int) [(0, 9, 12, 13), (0, 9, 15, 17)]) ({ frames := 10, cells := 9, slots := 133, locals := 700 }) (va_Pc [.ref (b 11), .int a, .ref oa] (gW K A (LW K.2.1 b x ad κ G))) (va_Qi (fun (r9 : Int32) (u : WU) => (pE (cHold κ a) x κ es (sS x 8 (nI (Ac + 1))) (kHold (tN a) κ) (.inr (.inr (.inl (tN a)))) cd2 r9 (wN u)) ∧ wK K b G u) (fun u t => gB K A (wG K b oa u) t) A) 9 133 A := by
  refine g_ofWH (cc := cX0_hold) (by decide) (own := RX0) rfl (Nat.le_of_ble_eq_true rfl) ?_
  intro p e s m below meth c hC hr hlocks htab hE hG ls hl
  have hl : lv_has ls 4 [(0, .ref (b 11)), (1, .int a), (2, .ref oa)] := hl
  refine lv_aload_n hC.1 hC.2.1 dX0_hold_0 rfl (lv_at hl 2 rfl) ?_
  refine lv_iconst (v := 0) hC.1 hC.2.1 dX0_hold_1 (by decide) ?_
  refine lv_aload_n hC.1 hC.2.1 dX0_hold_2 rfl (lv_at hl 0 rfl) ?_
  refine lv_iload_n hC.1 hC.2.1 dX0_hold_3 rfl (lv_at hl 1 rfl) ?_
  refine g_xVi (As := [.int a]) (rest := [.int 0, .ref oa]) hC hE hG (xl_hold l hst K A b x ad κ G es Ld hEV (by have := hR.2.2.1.2.2.2; omega) hR.kI hR.2.2.2.2.2.1.1 Ac hR.2.1.1.2.2 (by have := hR.2.2.1.2.2.1; omega) a) (cwV 1 hC.2.2.2.2 (lw_V q663 q664 q665 q21 q666) rfl rfl rfl (by decide +kernel) ⟨Nat.le_of_ble_eq_true rfl, Nat.le_of_ble_eq_true rfl⟩) LW_at.1 (ci := 0) rfl rfl hl.1 rfl (Nat.le_of_ble_eq_true rfl) dX0_hold_4 ⟨Nat.le_of_ble_eq_true rfl, Nat.le_of_ble_eq_true rfl⟩ (fun k ce q9 H locs hk hG h1 h2 h3 => ?_) (fun r u H locs hu hG => ?_)
  · obtain rfl := e_hold hk
    refine g_catch (k := 1) hC hE htab 0 (x := ⟨0, 9, 12, 13⟩) rfl (fun _ h => by cases h) rfl (by decide) q334 (by decide) h1 h2 h3 ?_
    refine lv_astore_n (lv' := [(3, .ref q9), (0, .ref (b 11)), (1, .int a), (2, .ref oa)]) hC.1 hC.2.1 dX0_hold_12 rfl hl (by decide) rfl (fun ls hl => ?_)
    refine lv_iconst (v := 1) hC.1 hC.2.1 dX0_hold_13 (by decide) ?_
    exact g_iret hC hG hr rfl (x, ad, κ, es, G, f) (wG_id hout) ⟨Or.inr ⟨_, _, hk, by decide, rfl⟩, hEV, g0.rf G⟩ hlocks dX0_hold_14
  · skip
    refine lv_i2l hC.1 hC.2.1 dX0_hold_7 (v := r.toInt64) rfl ?_
    refine g_last hC hE hG (LW_o ((hu.2.2 (0, 30, 0) rfl).trans hout)) (show vp_in 0 1 from vp_in_nI (n := 0) (by decide) (by decide)) dX0_hold_8 (fun H locs hG => ?_)
    refine lv_goto (tgt := 18) hC.1 hC.2.1 dX0_hold_9 (by decide) ?_
    refine lv_iconst (v := 0) hC.1 hC.2.1 dX0_hold_18 (by decide) ?_
    exact g_iret hC hG hr rfl (sS x 8 (nI (Ac + 1)), u.2, kHold (tN a) κ, es ++ [.inr (.inr (.inl (tN a)))], u.1, vp_updL f (Int32.toNatClampNeg 0) (r.toInt64)) wG_s ⟨by rw [wN_s]; exact Or.inl ⟨r, hu.1, rfl, rfl⟩, hu.2.1, hu.2.2⟩ hlocks dX0_hold_19
set_option maxHeartbeats 4000000 in
theorem xw_merge (l : Launch) (hst : l.stackTraces = false) (K : GK) (A : Nat → Prop) (b : Nat → Nat) (x : MS) (ad : Nat → Nat → Nat) (κ : KS) (G : GM) (es : List Ev) (hEV : EV K b es G) (oa : Nat) (f : Nat → Int64) (hout : G (0, 30, 0) = some (oC K oa f)) {σ : MS} {B Ld Ac n : Nat} (hR : RL x κ es σ B Ld Ac n) (hn : n < 64) (a d : Int32) : Met l yX0_merge (wsW_ yX0_merge cX0_merge 5 (some .int) [(0, 10, 13, 13), (0, 10, 17, 15), (0, 10, 21, 17)]) ({ frames := 10, cells := 11, slots := 146, locals := 700 }) (va_Pc [.ref (b 11), .int a, .int d, .ref oa] (gW K A (LW K.2.1 b x ad κ G))) (va_Qi (fun (r9 : Int32) (u : WU) => (pE (cMerge κ a d) x κ es (sS x 8 (nI (Ac + 1))) (kJoin (tN a) (tN d) κ) (.inr (.inr (.inr (tN a, tN d)))) nI r9 (wN u)) ∧ wK K b G u) (fun u t => gB K A (wG K b oa u) t) A) 11 146 A := by
  refine g_ofWH (cc := cX0_merge) (by decide) (own := RX0) rfl (Nat.le_of_ble_eq_true rfl) ?_
  intro p e s m below meth c hC hr hlocks htab hE hG ls hl
  have hl : lv_has ls 5 [(0, .ref (b 11)), (1, .int a), (2, .int d), (3, .ref oa)] := hl
  refine lv_aload_n hC.1 hC.2.1 dX0_merge_0 rfl (lv_at hl 3 rfl) ?_
  refine lv_iconst (v := 0) hC.1 hC.2.1 dX0_merge_1 (by decide) ?_
  refine lv_aload_n hC.1 hC.2.1 dX0_merge_2 rfl (lv_at hl 0 rfl) ?_
  refine lv_iload_n hC.1 hC.2.1 dX0_merge_3 rfl (lv_at hl 1 rfl) ?_
  refine lv_iload_n hC.1 hC.2.1 dX0_merge_4 rfl (lv_at hl 2 rfl) ?_
  refine g_xVi (As := [.int a, .int d]) (rest := [.int 0, .ref oa]) hC hE hG (xl_merge l hst K A b x ad κ G es Ld hEV (by have := hR.2.2.1.2.2.2; omega) hR.kI hR.2.2.2.2.2.1.1 Ac hR.2.1.1.2.2 (by have := hR.2.2.1.2.2.1; omega) a d) (cwV 2 hC.2.2.2.2 (lw_V q680 q681 q682 q21 q683) rfl rfl rfl (by decide +kernel) ⟨Nat.le_of_ble_eq_true rfl, Nat.le_of_ble_eq_true rfl⟩) LW_at.1 (ci := 0) rfl rfl hl.1 rfl (Nat.le_of_ble_eq_true rfl) dX0_merge_5 ⟨Nat.le_of_ble_eq_true rfl, Nat.le_of_ble_eq_true rfl⟩ (fun k ce q9 H locs hk hG h1 h2 h3 => ?_) (fun r u H locs hu hG => ?_)
  · rcases e_merge hk with rfl | rfl
    · refine g_catch (k := 1) hC hE htab 0 (x := ⟨0, 10, 13, 13⟩) rfl (fun _ h => by cases h) rfl (by decide) q334 (by decide) h1 h2 h3 ?_
      refine lv_astore (lv' := [(4, .ref q9), (0, .ref (b 11)), (1, .int a), (2, .int d), (3, .ref oa)]) hC.1 hC.2.1 dX0_merge_13 hl (by decide) rfl (fun ls hl => ?_)
      refine lv_iconst (v := 1) hC.1 hC.2.1 dX0_merge_15 (by decide) ?_
      exact g_iret hC hG hr rfl (x, ad, κ, es, G, f) (wG_id hout) ⟨Or.inr ⟨_, _, hk, by decide, rfl⟩, hEV, g0.rf G⟩ hlocks dX0_merge_16
    · refine g_catch (k := 2) hC hE htab 1 (x := ⟨0, 10, 17, 15⟩) rfl (pre_1 ⟨by decide, _, q334, by decide⟩) rfl (by decide) q411 (by decide) h1 h2 h3 ?_
      refine lv_astore (lv' := [(4, .ref q9), (0, .ref (b 11)), (1, .int a), (2, .int d), (3, .ref oa)]) hC.1 hC.2.1 dX0_merge_17 hl (by decide) rfl (fun ls hl => ?_)
      refine lv_iconst (v := 2) hC.1 hC.2.1 dX0_merge_19 (by decide) ?_
      exact g_iret hC hG hr rfl (x, ad, κ, es, G, f) (wG_id hout) ⟨Or.inr ⟨_, _, hk, by decide, rfl⟩, hEV, g0.rf G⟩ hlocks dX0_merge_20
  · skip
    refine lv_i2l hC.1 hC.2.1 dX0_merge_8 (v := r.toInt64) rfl ?_
    refine g_last hC hE hG (LW_o ((hu.2.2 (0, 30, 0) rfl).trans hout)) (show vp_in 0 1 from vp_in_nI (n := 0) (by decide) (by decide)) dX0_merge_9 (fun H locs hG => ?_)
    refine lv_goto (tgt := 25) hC.1 hC.2.1 dX0_merge_10 (by decide) ?_
    refine lv_iconst (v := 0) hC.1 hC.2.1 dX0_merge_25 (by decide) ?_
    exact g_iret hC hG hr rfl (sS x 8 (nI (Ac + 1)), u.2, kJoin (tN a) (tN d) κ, es ++ [.inr (.inr (.inr (tN a, tN d)))], u.1, vp_updL f (Int32.toNatClampNeg 0) (r.toInt64)) wG_s ⟨by rw [wN_s]; exact Or.inl ⟨r, hu.1, rfl, rfl⟩, hu.2.1, hu.2.2⟩ hlocks dX0_merge_26
set_option maxHeartbeats 4000000 in
theorem xw_undo (l : Launch) (hst : l.stackTraces = false) (K : GK) (A : Nat → Prop) (b : Nat → Nat) (x : MS) (ad : Nat → Nat → Nat) (κ : KS) (G : GM) (es : List Ev) (hEV : EV K b es G) (oa : Nat) (f : Nat → Int64) (hout : G (0, 30, 0) = some (oC K oa f)) {σ : MS} {B Ld Ac n : Nat} (hR : RL x κ es σ B Ld Ac n) (hn : n < 64) (a z : Int32) (hz : z = 0 ∨ z = 1) : Met l yX0_undo (wsW_ yX0_undo cX0_undo 5 (some .int) [(0, 10, 13, 13), (0, 10, 17, 17)]) ({ frames := 10, cells := 326, slots := 1459, locals := 700 }) (va_Pc [.ref (b 11), .int a, .int z, .ref oa] (gW K A (LW K.2.1 b x ad κ G))) (va_Qi (fun (r9 : Int32) (u : WU) => (pU x κ es a z r9 (wN u)) ∧ wK K b G u) (fun u t => gB K A (wG K b oa u) t) A) 326 1459 A := by
  refine g_ofWH (cc := cX0_undo) (by decide) (own := RX0) rfl (Nat.le_of_ble_eq_true rfl) ?_
  intro p e s m below meth c hC hr hlocks htab hE hG ls hl
  have hl : lv_has ls 5 [(0, .ref (b 11)), (1, .int a), (2, .int z), (3, .ref oa)] := hl
  refine lv_aload_n hC.1 hC.2.1 dX0_undo_0 rfl (lv_at hl 3 rfl) ?_
  refine lv_iconst (v := 0) hC.1 hC.2.1 dX0_undo_1 (by decide) ?_
  refine lv_aload_n hC.1 hC.2.1 dX0_undo_2 rfl (lv_at hl 0 rfl) ?_
  refine lv_iload_n hC.1 hC.2.1 dX0_undo_3 rfl (lv_at hl 1 rfl) ?_
  refine lv_iload_n hC.1 hC.2.1 dX0_undo_4 rfl (lv_at hl 2 rfl) ?_
  refine g_xVi (As := [.int a, .int z]) (rest := [.int 0, .ref oa]) hC hE hG (xl_undo l hst K A b x ad κ G es hEV (by have := hR.2.2.1.2.2.2; omega) hR.2.2.2.2.2.1.1 hR.2.2.2.1.2.2.1 B hR.2.1.1.1 hR.2.2.1.1 a z hz) (cwV 2 hC.2.2.2.2 (lw_V q700 q701 q702 q21 q703) rfl rfl rfl (by decide +kernel) ⟨Nat.le_of_ble_eq_true rfl, Nat.le_of_ble_eq_true rfl⟩) LW_at.1 (ci := 0) rfl rfl hl.1 rfl (Nat.le_of_ble_eq_true rfl) dX0_undo_5 ⟨Nat.le_of_ble_eq_true rfl, Nat.le_of_ble_eq_true rfl⟩ (fun k ce q9 H locs hk hG h1 h2 h3 => ?_) (fun r u H locs hu hG => ?_)
  · rcases e_undo hk with rfl | rfl
    · refine g_catch (k := 1) hC hE htab 0 (x := ⟨0, 10, 13, 13⟩) rfl (fun _ h => by cases h) rfl (by decide) q334 (by decide) h1 h2 h3 ?_
      refine lv_astore (lv' := [(4, .ref q9), (0, .ref (b 11)), (1, .int a), (2, .int z), (3, .ref oa)]) hC.1 hC.2.1 dX0_undo_13 hl (by decide) rfl (fun ls hl => ?_)
      refine lv_iconst (v := 1) hC.1 hC.2.1 dX0_undo_15 (by decide) ?_
      exact g_iret hC hG hr rfl (x, ad, κ, es, G, f) (wG_id hout) ⟨Or.inr ⟨_, _, hk, by decide, rfl⟩, hEV, g0.rf G⟩ hlocks dX0_undo_16
    · refine g_catch (k := 3) hC hE htab 1 (x := ⟨0, 10, 17, 17⟩) rfl (pre_1 ⟨by decide, _, q334, by decide⟩) rfl (by decide) q412 (by decide) h1 h2 h3 ?_
      refine lv_astore (lv' := [(4, .ref q9), (0, .ref (b 11)), (1, .int a), (2, .int z), (3, .ref oa)]) hC.1 hC.2.1 dX0_undo_17 hl (by decide) rfl (fun ls hl => ?_)
      refine lv_iconst (v := 2) hC.1 hC.2.1 dX0_undo_19 (by decide) ?_
      exact g_iret hC hG hr rfl (x, ad, κ, es, G, f) (wG_id hout) ⟨Or.inr ⟨_, _, hk, by decide, rfl⟩, hEV, g0.rf G⟩ hlocks dX0_undo_20
  · skip
    refine lv_i2l hC.1 hC.2.1 dX0_undo_8 (v := r.toInt64) rfl ?_
    refine g_last hC hE hG (LW_o (hout)) (show vp_in 0 1 from vp_in_nI (n := 0) (by decide) (by decide)) dX0_undo_9 (fun H locs hG => ?_)
    refine lv_goto (tgt := 21) hC.1 hC.2.1 dX0_undo_10 (by decide) ?_
    refine lv_iconst (v := 0) hC.1 hC.2.1 dX0_undo_21 (by decide) ?_
    exact g_iret hC hG hr rfl (sU x 5 (tN a) z, u, kAll (sU x 5 (tN a) z) es kZero, es, G, vp_updL f (Int32.toNatClampNeg 0) (r.toInt64)) wG_s ⟨by rw [wN_s]; exact Or.inl ⟨r, hu, rfl, rfl⟩, hEV, g0.rf G⟩ hlocks dX0_undo_22
set_option maxHeartbeats 4000000 in
theorem xw_isUndone (l : Launch) (hst : l.stackTraces = false) (K : GK) (A : Nat → Prop) (b : Nat → Nat) (x : MS) (ad : Nat → Nat → Nat) (κ : KS) (G : GM) (es : List Ev) (hEV : EV K b es G) (oa : Nat) (f : Nat → Int64) (hout : G (0, 30, 0) = some (oC K oa f)) {σ : MS} {B Ld Ac n : Nat} (hR : RL x κ es σ B Ld Ac n) (hn : n < 64) (a : Int32) : Met l yX0_isUndone (wsW_ yX0_isUndone cX0_isUndone 4 (some .int) [(0, 16, 19, 13)]) ({ frames := 10, cells := 1, slots := 6, locals := 700 }) (va_Pc [.ref (b 11), .int a, .ref oa] (gW K A (LW K.2.1 b x ad κ G))) (va_Qi (fun (r9 : Int32) (u : WU) => (pRz (cIsUndone x a) x κ es r9 (wN u)) ∧ wK K b G u) (fun u t => gB K A (wG K b oa u) t) A) 1 6 A := by
  refine g_ofWH (cc := cX0_isUndone) (by decide) (own := RX0) rfl (Nat.le_of_ble_eq_true rfl) ?_
  intro p e s m below meth c hC hr hlocks htab hE hG ls hl
  have hl : lv_has ls 4 [(0, .ref (b 11)), (1, .int a), (2, .ref oa)] := hl
  refine lv_aload_n hC.1 hC.2.1 dX0_isUndone_0 rfl (lv_at hl 2 rfl) ?_
  refine lv_iconst (v := 0) hC.1 hC.2.1 dX0_isUndone_1 (by decide) ?_
  refine lv_aload_n hC.1 hC.2.1 dX0_isUndone_2 rfl (lv_at hl 0 rfl) ?_
  refine lv_iload_n hC.1 hC.2.1 dX0_isUndone_3 rfl (lv_at hl 1 rfl) ?_
  refine g_xVi (As := [.int a]) (rest := [.int 0, .ref oa]) hC hE hG (xl_isUndone l hst K A b x ad κ G B hR.2.1.1.1 hR.2.2.1.1 hR.2.2.2.2.2.1.2.1 a) (cwV 1 hC.2.2.2.2 (lw_V q707 q708 q709 q21 q710) rfl rfl rfl (by decide +kernel) ⟨Nat.le_of_ble_eq_true rfl, Nat.le_of_ble_eq_true rfl⟩) LW_at.1 (ci := 0) rfl rfl hl.1 rfl (Nat.le_of_ble_eq_true rfl) dX0_isUndone_4 ⟨Nat.le_of_ble_eq_true rfl, Nat.le_of_ble_eq_true rfl⟩ (fun k ce q9 H locs hk hG h1 h2 h3 => ?_) (fun r u H locs hu hG => ?_)
  · obtain rfl := e_isUndone hk
    refine g_catch (k := 1) hC hE htab 0 (x := ⟨0, 16, 19, 13⟩) rfl (fun _ h => by cases h) rfl (by decide) q334 (by decide) h1 h2 h3 ?_
    refine lv_astore_n (lv' := [(3, .ref q9), (0, .ref (b 11)), (1, .int a), (2, .ref oa)]) hC.1 hC.2.1 dX0_isUndone_19 rfl hl (by decide) rfl (fun ls hl => ?_)
    refine lv_iconst (v := 1) hC.1 hC.2.1 dX0_isUndone_20 (by decide) ?_
    exact g_iret hC hG hr rfl (x, ad, κ, es, G, f) (wG_id hout) ⟨Or.inr ⟨_, _, hk, by decide, rfl⟩, hEV, g0.rf G⟩ hlocks dX0_isUndone_21
  · skip
    refine lv_if_eq (tgt := 14) hC.1 hC.2.1 dX0_isUndone_7 (by decide) (fun c1 => ?_) (fun c1 => ?_)
    · refine lv_lconst (v := 0) hC.1 hC.2.1 dX0_isUndone_14 rfl ?_
      refine g_last hC hE hG (LW_o (hout)) (show vp_in 0 1 from vp_in_nI (n := 0) (by decide) (by decide)) dX0_isUndone_15 (fun H locs hG => ?_)
      refine lv_goto (tgt := 22) hC.1 hC.2.1 dX0_isUndone_16 (by decide) ?_
      refine lv_iconst (v := 0) hC.1 hC.2.1 dX0_isUndone_22 (by decide) ?_
      exact g_iret hC hG hr rfl (x, ad, κ, es, G, vp_updL f (Int32.toNatClampNeg 0) (0)) wG_s ⟨by rw [wN_s]; exact Or.inl ⟨r, hu, rfl, by rw [if_pos c1]⟩, hEV, g0.rf G⟩ hlocks dX0_isUndone_23
    · refine lv_lconst (v := 1) hC.1 hC.2.1 dX0_isUndone_10 rfl ?_
      refine lv_goto (tgt := 15) hC.1 hC.2.1 dX0_isUndone_11 (by decide) ?_
      refine g_last hC hE hG (LW_o (hout)) (show vp_in 0 1 from vp_in_nI (n := 0) (by decide) (by decide)) dX0_isUndone_15 (fun H locs hG => ?_)
      refine lv_goto (tgt := 22) hC.1 hC.2.1 dX0_isUndone_16 (by decide) ?_
      refine lv_iconst (v := 0) hC.1 hC.2.1 dX0_isUndone_22 (by decide) ?_
      exact g_iret hC hG hr rfl (x, ad, κ, es, G, vp_updL f (Int32.toNatClampNeg 0) (1)) wG_s ⟨by rw [wN_s]; exact Or.inl ⟨r, hu, rfl, by rw [if_neg c1]⟩, hEV, g0.rf G⟩ hlocks dX0_isUndone_23
set_option maxHeartbeats 4000000 in
theorem xw_hit (l : Launch) (hst : l.stackTraces = false) (K : GK) (A : Nat → Prop) (b : Nat → Nat) (x : MS) (ad : Nat → Nat → Nat) (κ : KS) (G : GM) (es : List Ev) (hEV : EV K b es G) (oa : Nat) (f : Nat → Int64) (hout : G (0, 30, 0) = some (oC K oa f)) {σ : MS} {B Ld Ac n : Nat} (hR : RL x κ es σ B Ld Ac n) (hn : n < 64) (a : Int32) : Met l yX0_hit (wsW_ yX0_hit cX0_hit 4 (some .int) [(0, 9, 12, 13)]) ({ frames := 10, cells := 1, slots := 6, locals := 700 }) (va_Pc [.ref (b 11), .int a, .ref oa] (gW K A (LW K.2.1 b x ad κ G))) (va_Qi (fun (r9 : Int32) (u : WU) => (pR (cHit x κ a) x κ es r9 (wN u)) ∧ wK K b G u) (fun u t => gB K A (wG K b oa u) t) A) 1 6 A := by
  refine g_ofWH (cc := cX0_hit) (by decide) (own := RX0) rfl (Nat.le_of_ble_eq_true rfl) ?_
  intro p e s m below meth c hC hr hlocks htab hE hG ls hl
  have hl : lv_has ls 4 [(0, .ref (b 11)), (1, .int a), (2, .ref oa)] := hl
  refine lv_aload_n hC.1 hC.2.1 dX0_hit_0 rfl (lv_at hl 2 rfl) ?_
  refine lv_iconst (v := 0) hC.1 hC.2.1 dX0_hit_1 (by decide) ?_
  refine lv_aload_n hC.1 hC.2.1 dX0_hit_2 rfl (lv_at hl 0 rfl) ?_
  refine lv_iload_n hC.1 hC.2.1 dX0_hit_3 rfl (lv_at hl 1 rfl) ?_
  refine g_xVi (As := [.int a]) (rest := [.int 0, .ref oa]) hC hE hG (xl_hit l hst K A b x ad κ G Ld hR.2.1.1.2.1 (by have := hR.2.2.1.2.1; omega) a) (cwV 1 hC.2.2.2.2 (lw_V q714 q715 q716 q21 q717) rfl rfl rfl (by decide +kernel) ⟨Nat.le_of_ble_eq_true rfl, Nat.le_of_ble_eq_true rfl⟩) LW_at.1 (ci := 0) rfl rfl hl.1 rfl (Nat.le_of_ble_eq_true rfl) dX0_hit_4 ⟨Nat.le_of_ble_eq_true rfl, Nat.le_of_ble_eq_true rfl⟩ (fun k ce q9 H locs hk hG h1 h2 h3 => ?_) (fun r u H locs hu hG => ?_)
  · obtain rfl := e_hit hk
    refine g_catch (k := 1) hC hE htab 0 (x := ⟨0, 9, 12, 13⟩) rfl (fun _ h => by cases h) rfl (by decide) q334 (by decide) h1 h2 h3 ?_
    refine lv_astore_n (lv' := [(3, .ref q9), (0, .ref (b 11)), (1, .int a), (2, .ref oa)]) hC.1 hC.2.1 dX0_hit_12 rfl hl (by decide) rfl (fun ls hl => ?_)
    refine lv_iconst (v := 1) hC.1 hC.2.1 dX0_hit_13 (by decide) ?_
    exact g_iret hC hG hr rfl (x, ad, κ, es, G, f) (wG_id hout) ⟨Or.inr ⟨_, _, hk, by decide, rfl⟩, hEV, g0.rf G⟩ hlocks dX0_hit_14
  · skip
    refine lv_i2l hC.1 hC.2.1 dX0_hit_7 (v := r.toInt64) rfl ?_
    refine g_last hC hE hG (LW_o (hout)) (show vp_in 0 1 from vp_in_nI (n := 0) (by decide) (by decide)) dX0_hit_8 (fun H locs hG => ?_)
    refine lv_goto (tgt := 15) hC.1 hC.2.1 dX0_hit_9 (by decide) ?_
    refine lv_iconst (v := 0) hC.1 hC.2.1 dX0_hit_15 (by decide) ?_
    exact g_iret hC hG hr rfl (x, ad, κ, es, G, vp_updL f (Int32.toNatClampNeg 0) (r.toInt64)) wG_s ⟨by rw [wN_s]; exact Or.inl ⟨r, hu, rfl, rfl⟩, hEV, g0.rf G⟩ hlocks dX0_hit_16
set_option maxHeartbeats 4000000 in
theorem xw_keyOf (l : Launch) (hst : l.stackTraces = false) (K : GK) (A : Nat → Prop) (b : Nat → Nat) (x : MS) (ad : Nat → Nat → Nat) (κ : KS) (G : GM) (es : List Ev) (hEV : EV K b es G) (oa : Nat) (f : Nat → Int64) (hout : G (0, 30, 0) = some (oC K oa f)) {σ : MS} {B Ld Ac n : Nat} (hR : RL x κ es σ B Ld Ac n) (hn : n < 64) (a v : Int32) : Met l yX0_keyOf (wsW_ yX0_keyOf cX0_keyOf 5 (some .int) [(0, 10, 13, 13)]) ({ frames := 10, cells := 2, slots := 12, locals := 700 }) (va_Pc [.ref (b 11), .int a, .int v, .ref oa] (gW K A (LW K.2.1 b x ad κ G))) (va_Qi (fun (r9 : Int32) (u : WU) => (pR (cKeyOf κ a v) x κ es r9 (wN u)) ∧ wK K b G u) (fun u t => gB K A (wG K b oa u) t) A) 2 12 A := by
  refine g_ofWH (cc := cX0_keyOf) (by decide) (own := RX0) rfl (Nat.le_of_ble_eq_true rfl) ?_
  intro p e s m below meth c hC hr hlocks htab hE hG ls hl
  have hl : lv_has ls 5 [(0, .ref (b 11)), (1, .int a), (2, .int v), (3, .ref oa)] := hl
  refine lv_aload_n hC.1 hC.2.1 dX0_keyOf_0 rfl (lv_at hl 3 rfl) ?_
  refine lv_iconst (v := 0) hC.1 hC.2.1 dX0_keyOf_1 (by decide) ?_
  refine lv_aload_n hC.1 hC.2.1 dX0_keyOf_2 rfl (lv_at hl 0 rfl) ?_
  refine lv_iload_n hC.1 hC.2.1 dX0_keyOf_3 rfl (lv_at hl 1 rfl) ?_
  refine lv_iload_n hC.1 hC.2.1 dX0_keyOf_4 rfl (lv_at hl 2 rfl) ?_
  refine g_xVi (As := [.int a, .int v]) (rest := [.int 0, .ref oa]) hC hE hG (xl_keyOf l hst K A b x ad κ G a v) (cwV 2 hC.2.2.2.2 (lw_V q721 q722 q723 q21 q724) rfl rfl rfl (by decide +kernel) ⟨Nat.le_of_ble_eq_true rfl, Nat.le_of_ble_eq_true rfl⟩) LW_at.1 (ci := 0) rfl rfl hl.1 rfl (Nat.le_of_ble_eq_true rfl) dX0_keyOf_5 ⟨Nat.le_of_ble_eq_true rfl, Nat.le_of_ble_eq_true rfl⟩ (fun k ce q9 H locs hk hG h1 h2 h3 => ?_) (fun r u H locs hu hG => ?_)
  · obtain rfl := e_keyOf hk
    refine g_catch (k := 1) hC hE htab 0 (x := ⟨0, 10, 13, 13⟩) rfl (fun _ h => by cases h) rfl (by decide) q334 (by decide) h1 h2 h3 ?_
    refine lv_astore (lv' := [(4, .ref q9), (0, .ref (b 11)), (1, .int a), (2, .int v), (3, .ref oa)]) hC.1 hC.2.1 dX0_keyOf_13 hl (by decide) rfl (fun ls hl => ?_)
    refine lv_iconst (v := 1) hC.1 hC.2.1 dX0_keyOf_15 (by decide) ?_
    exact g_iret hC hG hr rfl (x, ad, κ, es, G, f) (wG_id hout) ⟨Or.inr ⟨_, _, hk, by decide, rfl⟩, hEV, g0.rf G⟩ hlocks dX0_keyOf_16
  · skip
    refine lv_i2l hC.1 hC.2.1 dX0_keyOf_8 (v := r.toInt64) rfl ?_
    refine g_last hC hE hG (LW_o (hout)) (show vp_in 0 1 from vp_in_nI (n := 0) (by decide) (by decide)) dX0_keyOf_9 (fun H locs hG => ?_)
    refine lv_goto (tgt := 17) hC.1 hC.2.1 dX0_keyOf_10 (by decide) ?_
    refine lv_iconst (v := 0) hC.1 hC.2.1 dX0_keyOf_17 (by decide) ?_
    exact g_iret hC hG hr rfl (x, ad, κ, es, G, vp_updL f (Int32.toNatClampNeg 0) (r.toInt64)) wG_s ⟨by rw [wN_s]; exact Or.inl ⟨r, hu, rfl, rfl⟩, hEV, g0.rf G⟩ hlocks dX0_keyOf_18
set_option maxHeartbeats 4000000 in
theorem xw_fieldOf (l : Launch) (hst : l.stackTraces = false) (K : GK) (A : Nat → Prop) (b : Nat → Nat) (x : MS) (ad : Nat → Nat → Nat) (κ : KS) (G : GM) (es : List Ev) (hEV : EV K b es G) (oa : Nat) (f : Nat → Int64) (hout : G (0, 30, 0) = some (oC K oa f)) {σ : MS} {B Ld Ac n : Nat} (hR : RL x κ es σ B Ld Ac n) (hn : n < 64) (a v : Int32) : Met l yX0_fieldOf (wsW_ yX0_fieldOf cX0_fieldOf 5 (some .int) [(0, 10, 13, 13)]) ({ frames := 10, cells := 2, slots := 12, locals := 700 }) (va_Pc [.ref (b 11), .int a, .int v, .ref oa] (gW K A (LW K.2.1 b x ad κ G))) (va_Qi (fun (r9 : Int32) (u : WU) => (pR (cFieldOf κ a v) x κ es r9 (wN u)) ∧ wK K b G u) (fun u t => gB K A (wG K b oa u) t) A) 2 12 A := by
  refine g_ofWH (cc := cX0_fieldOf) (by decide) (own := RX0) rfl (Nat.le_of_ble_eq_true rfl) ?_
  intro p e s m below meth c hC hr hlocks htab hE hG ls hl
  have hl : lv_has ls 5 [(0, .ref (b 11)), (1, .int a), (2, .int v), (3, .ref oa)] := hl
  refine lv_aload_n hC.1 hC.2.1 dX0_fieldOf_0 rfl (lv_at hl 3 rfl) ?_
  refine lv_iconst (v := 0) hC.1 hC.2.1 dX0_fieldOf_1 (by decide) ?_
  refine lv_aload_n hC.1 hC.2.1 dX0_fieldOf_2 rfl (lv_at hl 0 rfl) ?_
  refine lv_iload_n hC.1 hC.2.1 dX0_fieldOf_3 rfl (lv_at hl 1 rfl) ?_
  refine lv_iload_n hC.1 hC.2.1 dX0_fieldOf_4 rfl (lv_at hl 2 rfl) ?_
  refine g_xVi (As := [.int a, .int v]) (rest := [.int 0, .ref oa]) hC hE hG (xl_fieldOf l hst K A b x ad κ G a v) (cwV 2 hC.2.2.2.2 (lw_V q728 q729 q730 q21 q731) rfl rfl rfl (by decide +kernel) ⟨Nat.le_of_ble_eq_true rfl, Nat.le_of_ble_eq_true rfl⟩) LW_at.1 (ci := 0) rfl rfl hl.1 rfl (Nat.le_of_ble_eq_true rfl) dX0_fieldOf_5 ⟨Nat.le_of_ble_eq_true rfl, Nat.le_of_ble_eq_true rfl⟩ (fun k ce q9 H locs hk hG h1 h2 h3 => ?_) (fun r u H locs hu hG => ?_)
  · obtain rfl := e_fieldOf hk
    refine g_catch (k := 1) hC hE htab 0 (x := ⟨0, 10, 13, 13⟩) rfl (fun _ h => by cases h) rfl (by decide) q334 (by decide) h1 h2 h3 ?_
    refine lv_astore (lv' := [(4, .ref q9), (0, .ref (b 11)), (1, .int a), (2, .int v), (3, .ref oa)]) hC.1 hC.2.1 dX0_fieldOf_13 hl (by decide) rfl (fun ls hl => ?_)
    refine lv_iconst (v := 1) hC.1 hC.2.1 dX0_fieldOf_15 (by decide) ?_
    exact g_iret hC hG hr rfl (x, ad, κ, es, G, f) (wG_id hout) ⟨Or.inr ⟨_, _, hk, by decide, rfl⟩, hEV, g0.rf G⟩ hlocks dX0_fieldOf_16
  · skip
    refine lv_i2l hC.1 hC.2.1 dX0_fieldOf_8 (v := r.toInt64) rfl ?_
    refine g_last hC hE hG (LW_o (hout)) (show vp_in 0 1 from vp_in_nI (n := 0) (by decide) (by decide)) dX0_fieldOf_9 (fun H locs hG => ?_)
    refine lv_goto (tgt := 17) hC.1 hC.2.1 dX0_fieldOf_10 (by decide) ?_
    refine lv_iconst (v := 0) hC.1 hC.2.1 dX0_fieldOf_17 (by decide) ?_
    exact g_iret hC hG hr rfl (x, ad, κ, es, G, vp_updL f (Int32.toNatClampNeg 0) (r.toInt64)) wG_s ⟨by rw [wN_s]; exact Or.inl ⟨r, hu, rfl, rfl⟩, hEV, g0.rf G⟩ hlocks dX0_fieldOf_18
set_option maxHeartbeats 4000000 in
theorem xw_sourceOf (l : Launch) (hst : l.stackTraces = false) (K : GK) (A : Nat → Prop) (b : Nat → Nat) (x : MS) (ad : Nat → Nat → Nat) (κ : KS) (G : GM) (es : List Ev) (hEV : EV K b es G) (oa : Nat) (f : Nat → Int64) (hout : G (0, 30, 0) = some (oC K oa f)) {σ : MS} {B Ld Ac n : Nat} (hR : RL x κ es σ B Ld Ac n) (hn : n < 64) (a v : Int32) : Met l yX0_sourceOf (wsW_ yX0_sourceOf cX0_sourceOf 5 (some .int) [(0, 10, 13, 13)]) ({ frames := 10, cells := 2, slots := 12, locals := 700 }) (va_Pc [.ref (b 11), .int a, .int v, .ref oa] (gW K A (LW K.2.1 b x ad κ G))) (va_Qi (fun (r9 : Int32) (u : WU) => (pR (cSourceOf κ a v) x κ es r9 (wN u)) ∧ wK K b G u) (fun u t => gB K A (wG K b oa u) t) A) 2 12 A := by
  refine g_ofWH (cc := cX0_sourceOf) (by decide) (own := RX0) rfl (Nat.le_of_ble_eq_true rfl) ?_
  intro p e s m below meth c hC hr hlocks htab hE hG ls hl
  have hl : lv_has ls 5 [(0, .ref (b 11)), (1, .int a), (2, .int v), (3, .ref oa)] := hl
  refine lv_aload_n hC.1 hC.2.1 dX0_sourceOf_0 rfl (lv_at hl 3 rfl) ?_
  refine lv_iconst (v := 0) hC.1 hC.2.1 dX0_sourceOf_1 (by decide) ?_
  refine lv_aload_n hC.1 hC.2.1 dX0_sourceOf_2 rfl (lv_at hl 0 rfl) ?_
  refine lv_iload_n hC.1 hC.2.1 dX0_sourceOf_3 rfl (lv_at hl 1 rfl) ?_
  refine lv_iload_n hC.1 hC.2.1 dX0_sourceOf_4 rfl (lv_at hl 2 rfl) ?_
  refine g_xVi (As := [.int a, .int v]) (rest := [.int 0, .ref oa]) hC hE hG (xl_sourceOf l hst K A b x ad κ G a v) (cwV 2 hC.2.2.2.2 (lw_V q735 q736 q737 q21 q738) rfl rfl rfl (by decide +kernel) ⟨Nat.le_of_ble_eq_true rfl, Nat.le_of_ble_eq_true rfl⟩) LW_at.1 (ci := 0) rfl rfl hl.1 rfl (Nat.le_of_ble_eq_true rfl) dX0_sourceOf_5 ⟨Nat.le_of_ble_eq_true rfl, Nat.le_of_ble_eq_true rfl⟩ (fun k ce q9 H locs hk hG h1 h2 h3 => ?_) (fun r u H locs hu hG => ?_)
  · obtain rfl := e_sourceOf hk
    refine g_catch (k := 1) hC hE htab 0 (x := ⟨0, 10, 13, 13⟩) rfl (fun _ h => by cases h) rfl (by decide) q334 (by decide) h1 h2 h3 ?_
    refine lv_astore (lv' := [(4, .ref q9), (0, .ref (b 11)), (1, .int a), (2, .int v), (3, .ref oa)]) hC.1 hC.2.1 dX0_sourceOf_13 hl (by decide) rfl (fun ls hl => ?_)
    refine lv_iconst (v := 1) hC.1 hC.2.1 dX0_sourceOf_15 (by decide) ?_
    exact g_iret hC hG hr rfl (x, ad, κ, es, G, f) (wG_id hout) ⟨Or.inr ⟨_, _, hk, by decide, rfl⟩, hEV, g0.rf G⟩ hlocks dX0_sourceOf_16
  · skip
    refine lv_i2l hC.1 hC.2.1 dX0_sourceOf_8 (v := r.toInt64) rfl ?_
    refine g_last hC hE hG (LW_o (hout)) (show vp_in 0 1 from vp_in_nI (n := 0) (by decide) (by decide)) dX0_sourceOf_9 (fun H locs hG => ?_)
    refine lv_goto (tgt := 17) hC.1 hC.2.1 dX0_sourceOf_10 (by decide) ?_
    refine lv_iconst (v := 0) hC.1 hC.2.1 dX0_sourceOf_17 (by decide) ?_
    exact g_iret hC hG hr rfl (x, ad, κ, es, G, vp_updL f (Int32.toNatClampNeg 0) (r.toInt64)) wG_s ⟨by rw [wN_s]; exact Or.inl ⟨r, hu, rfl, rfl⟩, hEV, g0.rf G⟩ hlocks dX0_sourceOf_18
set_option maxHeartbeats 4000000 in
theorem xw_holdings (l : Launch) (hst : l.stackTraces = false) (K : GK) (A : Nat → Prop) (b : Nat → Nat) (x : MS) (ad : Nat → Nat → Nat) (κ : KS) (G : GM) (es : List Ev) (hEV : EV K b es G) (oa : Nat) (f : Nat → Int64) (hout : G (0, 30, 0) = some (oC K oa f)) {σ : MS} {B Ld Ac n : Nat} (hR : RL x κ es σ B Ld Ac n) (hn : n < 64) (a : Int32) : Met l yX0_holdings (wsW_ yX0_holdings cX0_holdings 4 (some .int) [(0, 9, 12, 13)]) ({ frames := 10, cells := 1, slots := 6, locals := 700 }) (va_Pc [.ref (b 11), .int a, .ref oa] (gW K A (LW K.2.1 b x ad κ G))) (va_Qi (fun (r9 : Int32) (u : WU) => (pR (cHoldings κ a) x κ es r9 (wN u)) ∧ wK K b G u) (fun u t => gB K A (wG K b oa u) t) A) 1 6 A := by
  refine g_ofWH (cc := cX0_holdings) (by decide) (own := RX0) rfl (Nat.le_of_ble_eq_true rfl) ?_
  intro p e s m below meth c hC hr hlocks htab hE hG ls hl
  have hl : lv_has ls 4 [(0, .ref (b 11)), (1, .int a), (2, .ref oa)] := hl
  refine lv_aload_n hC.1 hC.2.1 dX0_holdings_0 rfl (lv_at hl 2 rfl) ?_
  refine lv_iconst (v := 0) hC.1 hC.2.1 dX0_holdings_1 (by decide) ?_
  refine lv_aload_n hC.1 hC.2.1 dX0_holdings_2 rfl (lv_at hl 0 rfl) ?_
  refine lv_iload_n hC.1 hC.2.1 dX0_holdings_3 rfl (lv_at hl 1 rfl) ?_
  refine g_xVi (As := [.int a]) (rest := [.int 0, .ref oa]) hC hE hG (xl_holdings l hst K A b x ad κ G a) (cwV 1 hC.2.2.2.2 (lw_V q742 q743 q744 q21 q745) rfl rfl rfl (by decide +kernel) ⟨Nat.le_of_ble_eq_true rfl, Nat.le_of_ble_eq_true rfl⟩) LW_at.1 (ci := 0) rfl rfl hl.1 rfl (Nat.le_of_ble_eq_true rfl) dX0_holdings_4 ⟨Nat.le_of_ble_eq_true rfl, Nat.le_of_ble_eq_true rfl⟩ (fun k ce q9 H locs hk hG h1 h2 h3 => ?_) (fun r u H locs hu hG => ?_)
  · obtain rfl := e_holdings hk
    refine g_catch (k := 1) hC hE htab 0 (x := ⟨0, 9, 12, 13⟩) rfl (fun _ h => by cases h) rfl (by decide) q334 (by decide) h1 h2 h3 ?_
    refine lv_astore_n (lv' := [(3, .ref q9), (0, .ref (b 11)), (1, .int a), (2, .ref oa)]) hC.1 hC.2.1 dX0_holdings_12 rfl hl (by decide) rfl (fun ls hl => ?_)
    refine lv_iconst (v := 1) hC.1 hC.2.1 dX0_holdings_13 (by decide) ?_
    exact g_iret hC hG hr rfl (x, ad, κ, es, G, f) (wG_id hout) ⟨Or.inr ⟨_, _, hk, by decide, rfl⟩, hEV, g0.rf G⟩ hlocks dX0_holdings_14
  · skip
    refine lv_i2l hC.1 hC.2.1 dX0_holdings_7 (v := r.toInt64) rfl ?_
    refine g_last hC hE hG (LW_o (hout)) (show vp_in 0 1 from vp_in_nI (n := 0) (by decide) (by decide)) dX0_holdings_8 (fun H locs hG => ?_)
    refine lv_goto (tgt := 15) hC.1 hC.2.1 dX0_holdings_9 (by decide) ?_
    refine lv_iconst (v := 0) hC.1 hC.2.1 dX0_holdings_15 (by decide) ?_
    exact g_iret hC hG hr rfl (x, ad, κ, es, G, vp_updL f (Int32.toNatClampNeg 0) (r.toInt64)) wG_s ⟨by rw [wN_s]; exact Or.inl ⟨r, hu, rfl, rfl⟩, hEV, g0.rf G⟩ hlocks dX0_holdings_16
