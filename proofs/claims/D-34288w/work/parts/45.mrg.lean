/-! the loader's merge -/
set_option maxRecDepth 100000
def cMerge (κ : KS) (a d : Int32) : Ex Int32 := if kHas κ a then (if kHas κ d then (if a = d then .error 2 else .ok ((kR κ d).2 + (kR κ a).2)) else .error 1) else .error 1
theorem gFn_2 (ra : RS) (r : RS) : ∀ i, (gFn ra i r).2 = r.2
  | 0 => rfl
  | i + 1 => by
    show (gFs ra i (gFn ra i r)).2 = r.2
    unfold gFs
    split
    · split
      · exact gFn_2 ra r i
      · exact gFn_2 ra r i
    · exact gFn_2 ra r i
set_option maxHeartbeats 4000000 in
theorem xl_merge (l : Launch) (hst : l.stackTraces = false) (K : GK) (A : Nat → Prop) (b : Nat → Nat) (x : MS) (ad : Nat → Nat → Nat) (κ : KS) (G : GM) (es : List Ev) (N : Nat) (hEV : EV K b es G) (hc : es.length ≤ 63) (hki : kIv κ N) (hO : wO x) (Ac : Nat) (hA : x.1 8 = nI Ac) (hA1 : Ac < 100) (a d : Int32)
    : vx_Met l yX1_merge (ws_ yX1_merge cX1_merge 4 (some .int)) ({ frames := 9, cells := 11, slots := 146, locals := 500 }) (va_Pc [.ref (b 11), .int a, .int d] (gW K A (LW K.2.1 b x ad κ G))) (va_Qi (fun (r : Int32) (u : GM × (Nat → Nat → Nat)) => cMerge κ a d = .ok r ∧ EV K b (es ++ [.inr (.inr (.inr (tN a, tN d)))]) u.1 ∧ g0 u.1 G) (fun u t => gB K A (LW K.2.1 b (sS x 8 (nI (Ac + 1))) u.2 (kJoin (tN a) (tN d) κ) u.1) t) A) (gXC K A (LW K.2.1 b x ad κ G) (fun k => cMerge κ a d = .error k)) 11 146 A := by
  refine g_ofX (cc := cX1_merge) (by decide) (own := RX1) rfl (Nat.le_of_ble_eq_true rfl) ?_
  intro p e s mm below meth cd hC hr hlocks hx0 hE hG ls hl
  have hl : lv_has ls 4 [(0, .ref (b 11)), (1, .int a), (2, .int d)] := hl
  obtain ⟨m, da, n, f, qs, hL, h2, h3⟩ := hEV
  refine lv_aload_n hC.1 hC.2.1 dX1_merge_0 rfl (lv_at hl 0 rfl) ?_
  refine lv_iload_n hC.1 hC.2.1 dX1_merge_1 rfl (lv_at hl 1 rfl) ?_
  refine g_xVq (As := [.int a]) (rest := []) hC hE hG (xt_record l hst K A b x ad κ G a) (cwV 1 hC.2.2.2.2 (lw_V q636 q638 qs6 q21 q639) rfl rfl rfl (by decide +kernel) ⟨Nat.le_of_ble_eq_true rfl, Nat.le_of_ble_eq_true rfl⟩) LW_at.1 (ci := 0) rfl rfl hl.1 rfl (Nat.le_of_ble_eq_true rfl) dX1_merge_2 ⟨Nat.le_of_ble_eq_true rfl, Nat.le_of_ble_eq_true rfl⟩ (g_out hC hx0 hlocks (fun k9 hk9 => ?_) ⟨by decide, by decide⟩) (fun r1 H locs hu1 hG => ?_)
  · obtain ⟨rfl, hn⟩ := hk9
    exact if_neg hn
  obtain ⟨hu1, hr1⟩ := hu1
  obtain ⟨j, hj, rfl⟩ := kHas_j hu1
  rw [tN_nI (by omega)] at hr1
  subst hr1
  obtain ⟨ra, hka⟩ := kHas_y hj hu1
  refine lv_pop hC.1 hC.2.1 dX1_merge_5 rfl ?_
  refine lv_aload_n hC.1 hC.2.1 dX1_merge_6 rfl (lv_at hl 0 rfl) ?_
  refine lv_iload_n hC.1 hC.2.1 dX1_merge_7 rfl (lv_at hl 2 rfl) ?_
  refine g_xVq (As := [.int d]) (rest := []) hC hE hG (xt_record l hst K A b x ad κ G d) (cwV 1 hC.2.2.2.2 (lw_V q636 q638 qs6 q21 q639) rfl rfl rfl (by decide +kernel) ⟨Nat.le_of_ble_eq_true rfl, Nat.le_of_ble_eq_true rfl⟩) LW_at.1 (ci := 0) rfl rfl hl.1 rfl (Nat.le_of_ble_eq_true rfl) dX1_merge_8 ⟨Nat.le_of_ble_eq_true rfl, Nat.le_of_ble_eq_true rfl⟩ (g_out hC hx0 hlocks (fun k9 hk9 => ?_) ⟨by decide, by decide⟩) (fun r2 H locs hu2 hG => ?_)
  · obtain ⟨rfl, hn⟩ := hk9
    exact (if_pos hu1).trans (if_neg hn)
  obtain ⟨hu2, hr2⟩ := hu2
  obtain ⟨i, hi, rfl⟩ := kHas_j hu2
  rw [tN_nI (by omega)] at hr2
  subst hr2
  obtain ⟨rb, hkb⟩ := kHas_y hi hu2
  refine lv_astore_n (lv' := [(3, .ref (ad (i + 1) 0)), (0, .ref (b 11)), (1, .int (nI j)), (2, .int (nI i))]) hC.1 hC.2.1 dX1_merge_11 rfl hl (by decide) rfl (fun ls hl => ?_)
  refine lv_iload_n hC.1 hC.2.1 dX1_merge_12 rfl (lv_at hl 2 rfl) ?_
  refine lv_iload_n hC.1 hC.2.1 dX1_merge_13 rfl (lv_at hl 3 rfl) ?_
  refine lv_icmp_eq (tgt := 21) hC.1 hC.2.1 dX1_merge_14 (by decide) (fun c1 => ?_) (fun c1 => ?_)
  · refine lv_iconst (v := 0) hC.1 hC.2.1 dX1_merge_21 (by decide) ?_
    refine g_xSv (As := [.int (bI False)]) (rest := []) hC hE hG (xt_need l hst K A _ False) (va_cwS 1 hC.2.2.2.2 (lw_S q444 q445 q21 q446) rfl rfl rfl (by decide +kernel) ⟨Nat.le_of_ble_eq_true rfl, Nat.le_of_ble_eq_true rfl⟩) rfl hl.1 rfl (Nat.le_of_ble_eq_true rfl) dX1_merge_22 ⟨Nat.le_of_ble_eq_true rfl, Nat.le_of_ble_eq_true rfl⟩ (g_out hC hx0 hlocks (fun k9 hk9 => ?_) ⟨by decide, by decide⟩) (fun H locs hu3 hG => hu3.elim)
    obtain ⟨rfl, hn⟩ := hk9
    exact (if_pos hu1).trans ((if_pos hu2).trans (if_pos c1))
  have hji : j ≠ i := fun e => c1 (by rw [e])
  refine lv_iconst (v := 1) hC.1 hC.2.1 dX1_merge_17 (by decide) ?_
  refine lv_goto (tgt := 22) hC.1 hC.2.1 dX1_merge_18 (by decide) ?_
  refine g_xSv (As := [.int (bI True)]) (rest := []) hC hE hG (xt_need l hst K A _ True) (va_cwS 1 hC.2.2.2.2 (lw_S q444 q445 q21 q446) rfl rfl rfl (by decide +kernel) ⟨Nat.le_of_ble_eq_true rfl, Nat.le_of_ble_eq_true rfl⟩) rfl hl.1 rfl (Nat.le_of_ble_eq_true rfl) dX1_merge_22 ⟨Nat.le_of_ble_eq_true rfl, Nat.le_of_ble_eq_true rfl⟩ (g_out hC hx0 hlocks (fun k9 hk9 => absurd trivial hk9.2) ⟨by decide, by decide⟩) (fun H locs _ hG => ?_)
  refine lv_aload_n hC.1 hC.2.1 dX1_merge_25 rfl (lv_at hl 1 rfl) ?_
  refine g_new hC hE hG (2, es.length, 0) in_X8 tyX8 tyX8_ok q684 q685 q43 (ci := 7) rfl (fs := [.int 0, .int 0]) (by decide) (Nat.le_of_ble_eq_true rfl) (Nat.le_of_ble_eq_true rfl) dX1_merge_26 (fun q H hq hG => ?_)
  refine lv_dup hC.1 hC.2.1 dX1_merge_29 rfl ?_
  refine lv_iload_n hC.1 hC.2.1 dX1_merge_30 rfl (lv_at hl 2 rfl) ?_
  refine lv_iload_n hC.1 hC.2.1 dX1_merge_31 rfl (lv_at hl 3 rfl) ?_
  refine g_cI (As := [.int (nI j), .int (nI i)]) (rest := [.ref q, .ref (b 11)]) hC hE hG (xt_init8 l K A _ (2, es.length, 0) q j i (gup_s _ _ _)) (cwI 2 hC.2.2.2.2 (lw_meth q688) rfl rfl rfl (hC.2.2.2.2 _ q43) (hC.2.2.2.2 _ q686) (hC.2.2.2.2 _ q687) rfl (by decide +kernel) ⟨Nat.le_of_ble_eq_true rfl, Nat.le_of_ble_eq_true rfl⟩) rfl hl.1 rfl (Nat.le_of_ble_eq_true rfl) dX1_merge_32 ⟨Nat.le_of_ble_eq_true rfl, Nat.le_of_ble_eq_true rfl⟩ (fun _ H locs _ hG => ?_)
  have hG : gG K A s.heap (LW K.2.1 b x ad κ (gup G (2, es.length, 0) (q, .inr (7, [.int (nI j), .int (nI i)])))) H locs := hG.eq ((gup_gup _ _ _ _).trans (LW_gup (by show (2 : Nat) ≠ 3; decide) (by show ¬ ((2 : Nat) = 1 ∧ _); omega)))
  have hev : evAt K.2.1 (b 11) es.length (fun _ => q) (.inr (.inr (.inr (j, i)))) (gup G (2, es.length, 0) (q, .inr (7, [.int (nI j), .int (nI i)]))) := gup_s _ _ _
  refine g_cVv (As := [.ref q]) (rest := []) hC hE hG (xl_act l hst K A b x ad κ _ m da es.length n N f (hL.new (h3 _ (Or.inr ⟨rfl, Nat.le_refl _⟩)) rfl) (by omega) (fun _ => q) _ hev ⟨hj, hi, hji⟩ hki hO Ac hA hA1) (cwV 1 hC.2.2.2.2 (lw_V q656 q658 qs7 q21 q659) rfl rfl rfl (by decide +kernel) ⟨Nat.le_of_ble_eq_true rfl, Nat.le_of_ble_eq_true rfl⟩) LW_at.1 (ci := 0) rfl rfl hl.1 rfl (Nat.le_of_ble_eq_true rfl) dX1_merge_35 ⟨Nat.le_of_ble_eq_true rfl, Nat.le_of_ble_eq_true rfl⟩ (fun u H locs hu hG => ?_)
  have hk' : (kJoin j i κ).1 i = some (gFn ra 4 (fill (ra.1 1) (rV rb (rb.2 + ra.2)))) := by
    unfold kJoin
    rw [hka]
    dsimp only
    rw [hkb]
    show va_up (kSet κ i _).1 j none i = _
    unfold va_up
    rw [if_neg (fun e => hji e.symm)]
    exact kSet_at
  refine lv_aload_n hC.1 hC.2.1 dX1_merge_38 rfl (lv_at hl 0 rfl) ?_
  rw [show ad (i + 1) 0 = u.2 (i + 1) 0 by rw [hu.2 (i + 1) trivial]]
  refine g_getN hC hE hG in_X5 (cput_ro hk') (ci := 4) rfl 4 (by decide) 7 rfl (fun _ z => z) rfl dX1_merge_39 ?_
  refine vx_ret ?_
  refine W.widen (k := 11) (n := 146) (by decide) (by decide) ?_
  refine g_iret hC hG hr rfl (_, u.2) (by rw [tN_nI (by omega), tN_nI (by omega)]; rfl) ⟨?_, ?_, ?_⟩ hlocks dX1_merge_42
  · unfold cMerge
    rw [if_pos hu1, if_pos hu2, if_neg c1, kR_at hj hka, kR_at hi hkb, gFn_2, show (fill (ra.1 1) (rV rb (rb.2 + ra.2))).2 = rb.2 + ra.2 from (fKr_2 _ _ 3).2.2.2]
  · rw [tN_nI (by omega), tN_nI (by omega)]
    exact EV.step h2 h3 (fun x hx => gup_n _ _ (fun e => by rw [e] at hx; rcases hx with g | g; exact g rfl; exact g rfl)) hev hu.1 hu.1.2.1
  · exact (g0.gup (by show (2 : Nat) ≠ 0; decide)).lput
