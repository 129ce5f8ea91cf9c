/-! the loader's undo and digestAnew -/
set_option maxRecDepth 100000
theorem LW_4 {ac : Nat → ClassId} {b : Nat → Nat} {x : MS} {ad u : Nat → Nat → Nat} {κ κ' : KS} {G : GM} {lo : Nat} (h4 : ∀ z : Lb, 4 ≤ z.1 → G z = none) : gle (LW ac b x ad κ G) (cput ac 4 lo u κ' (LW ac b x ad κ G)) := by
  intro y q hy
  by_cases e : y.1 = 4
  · rw [LW_g (by omega) (by omega), h4 y (by omega)] at hy
    cases hy
  · rw [cput_n e]
    exact hy
/-- the new catalogue is the catalogue of now -/
theorem now_ren {K : GK} {A : Nat → Prop} {H0 H : Heap} {locs : List Loc} {b : Nat → Nat} {x : MS} {ad u : Nat → Nat → Nat} {κ κ' : KS} {G : GM} {cn : Nat} (h4 : ∀ z : Lb, 4 ≤ z.1 → G z = none) (hG : gG K A H0 (cput K.2.1 4 (b 11) u κ' (cput K.2.1 3 (b 11) ad κ (lop K.2.1 b x cn G))) H locs) : gG K A H0 (cput K.2.1 3 (b 11) u κ' (lop K.2.1 b x cn G)) H locs := by
  have no4 : ∀ (y : Lb) (q : Nat × va_E), cput K.2.1 3 (b 11) u κ' (lop K.2.1 b x cn G) y = some q → y.1 ≠ 4 := fun y q hy e => by
    rw [cput_n (by omega), lop_n (by omega), h4 y (by omega)] at hy
    cases hy
  refine hG.ren (fun y => if y.1 = 3 then (4, y.2) else y) (fun y q hy => ?_) (fun y z p q hy hz e => ?_)
  · by_cases e3 : y.1 = 3
    · have ey : y = (3, y.2.1, y.2.2) := Prod.ext e3 rfl
      rw [ey, cput_at] at hy
      show cput K.2.1 4 (b 11) u κ' _ (if y.1 = 3 then (4, y.2) else y) = some q
      rw [if_pos e3]
      exact (cput_at y.2.1 y.2.2).trans hy
    · show cput K.2.1 4 (b 11) u κ' _ (if y.1 = 3 then (4, y.2) else y) = some q
      rw [if_neg e3, cput_n (no4 y q hy), cput_n e3]
      rw [cput_n e3] at hy
      exact hy
  · have e : (if y.1 = 3 then (4, y.2) else y) = (if z.1 = 3 then (4, z.2) else z) := e
    by_cases e1 : y.1 = 3 <;> by_cases e2 : z.1 = 3
    · rw [if_pos e1, if_pos e2] at e
      exact Prod.ext (e1.trans e2.symm) (Prod.mk.inj e).2
    · rw [if_pos e1, if_neg e2] at e
      exact absurd (congrArg (fun w : Lb => w.1) e).symm (no4 z q hz)
    · rw [if_neg e1, if_pos e2] at e
      exact absurd (congrArg (fun w : Lb => w.1) e) (no4 y p hy)
    · rwa [if_neg e1, if_neg e2] at e
theorem EV.n4 {K : GK} {b : Nat → Nat} {es : List Ev} {G : GM} (h : EV K b es G) : ∀ z : Lb, 4 ≤ z.1 → G z = none := by
  obtain ⟨m, da, n, f, qs, hL, h2, h3⟩ := h
  exact fun z hz => h3 z (Or.inl hz)
set_option maxHeartbeats 4000000 in
theorem xl_digestAnew (l : Launch) (K : GK) (A : Nat → Prop) (b : Nat → Nat) (x : MS) (ad : Nat → Nat → Nat) (κ : KS) (G : GM) (es : List Ev) (hEV : EV K b es G) (hc : es.length ≤ 64) (hO : wO x) (hes : okL 0 es)
    : Met l yX1_digestAnew (ws_ yX1_digestAnew cX1_digestAnew 1 (some .int)) ({ frames := 5, cells := 324, slots := 1447, locals := 200 }) (va_Pc [.ref (b 11)] (gW K A (LW K.2.1 b x ad κ G))) (va_Qi (fun (r : Int32) (_ : Unit) => r = kSum (kAll x es kZero) 80) (fun _ t => gB K A (LW K.2.1 b x ad κ G) t) A) 324 1447 A := by
  refine g_ofW (cc := cX1_digestAnew) (by decide) (own := RX1) rfl (Nat.le_of_ble_eq_true rfl) ?_
  intro p e s mm below meth cd hC hr hlocks hnm hE hG ls hl
  have hl : lv_has ls 1 [(0, .ref (b 11))] := hl
  refine lv_aload_n hC.1 hC.2.1 dX1_digestAnew_0 rfl (lv_at hl 0 rfl) ?_
  refine g_cVq (S := Nat → Nat → Nat) (As := []) (rest := []) hC hE hG (xl_made l K A b x ad κ G es hEV hc hO hes) (cwV 0 hC.2.2.2.2 (lw_V q186 q188 qs0 q21 q189) rfl rfl rfl (by decide +kernel) ⟨Nat.le_of_ble_eq_true rfl, Nat.le_of_ble_eq_true rfl⟩) LW_at.1 (ci := 0) rfl rfl hl.1 rfl (Nat.le_of_ble_eq_true rfl) dX1_digestAnew_1 ⟨Nat.le_of_ble_eq_true rfl, Nat.le_of_ble_eq_true rfl⟩ (fun r u H locs hr9 hG => ?_)
  subst hr9
  refine g_roV (As := []) (rest := []) hC hE hG (xt_digest l K A (LW K.2.1 b x ad κ G) 4 (b 11) u (kAll x es kZero)) (cwV 0 hC.2.2.2.2 (lw_V q175 q176 q177 q25 q178) rfl rfl rfl (by decide +kernel) ⟨Nat.le_of_ble_eq_true rfl, Nat.le_of_ble_eq_true rfl⟩) cput_o (ci := 1) rfl rfl hl.1 rfl (Nat.le_of_ble_eq_true rfl) dX1_digestAnew_4 ⟨Nat.le_of_ble_eq_true rfl, Nat.le_of_ble_eq_true rfl⟩ (fun r hr9 => ?_)
  exact g_iret hC (hG.le (LW_4 hEV.n4)) hr rfl () rfl hr9 hlocks dX1_digestAnew_7
set_option maxHeartbeats 4000000 in
theorem xl_undo (l : Launch) (hst : l.stackTraces = false) (K : GK) (A : Nat → Prop) (b : Nat → Nat) (x : MS) (ad : Nat → Nat → Nat) (κ : KS) (G : GM) (es : List Ev) (hEV : EV K b es G) (hc : es.length ≤ 64) (hO : wO x) (hes : okL 0 es) (B : Nat) (hB : x.1 6 = nI B) (hB1 : B ≤ 10) (a z : Int32) (hz : z = 0 ∨ z = 1)
    : vx_Met l yX1_undo (ws_ yX1_undo cX1_undo 3 (some .int)) ({ frames := 9, cells := 326, slots := 1459, locals := 400 }) (va_Pc [.ref (b 11), .int a, .int z] (gW K A (LW K.2.1 b x ad κ G))) (va_Qi (fun (r : Int32) (u : Nat → Nat → Nat) => cUndo x es a z = .ok r) (fun u t => gB K A (LW K.2.1 b (sU x 5 (tN a) z) u (kAll (sU x 5 (tN a) z) es kZero) G) t) A) (gXC K A (LW K.2.1 b x ad κ G) (fun k => cUndo x es a z = .error k)) 326 1459 A := by
  refine g_ofX (cc := cX1_undo) (by decide) (own := RX1) rfl (Nat.le_of_ble_eq_true rfl) ?_
  intro p e s mm below meth cd hC hr hlocks hx0 hE hG ls hl
  have hl : lv_has ls 3 [(0, .ref (b 11)), (1, .int a), (2, .int z)] := hl
  refine lv_iload_n hC.1 hC.2.1 dX1_undo_0 rfl (lv_at hl 1 rfl) ?_
  refine lv_iconst (v := 0) hC.1 hC.2.1 dX1_undo_1 (by decide) ?_
  refine lv_aload_n hC.1 hC.2.1 dX1_undo_2 rfl (lv_at hl 0 rfl) ?_
  refine g_get hC hE hG in_X1 LW_at.1 (ci := 0) rfl 6 (by decide) q119 (fun _ z => z) (v := .int (x.1 6)) rfl dX1_undo_3 ?_
  refine lv_iconst (v := 1) hC.1 hC.2.1 dX1_undo_6 (by decide) ?_
  refine lv_isub hC.1 hC.2.1 dX1_undo_7 ?_
  refine g_sP (As := [.int a, .int 0, .int (x.1 6 - 1)]) (rest := []) hC (xt_in l a 0 (x.1 6 - 1)) (va_cwS 3 hC.2.2.2.2 (lw_S q417 q418 q21 q419) rfl rfl rfl (by decide +kernel) ⟨Nat.le_of_ble_eq_true rfl, Nat.le_of_ble_eq_true rfl⟩) rfl hl.1 rfl (Nat.le_of_ble_eq_true rfl) dX1_undo_8 ⟨Nat.le_of_ble_eq_true rfl, Nat.le_of_ble_eq_true rfl⟩ (fun r hr9 => ?_)
  subst hr9
  refine g_xSv (As := [.int (bI (inR a 0 (x.1 6 - 1)))]) (rest := []) hC hE hG (xt_needIndex l hst K A _ (inR a 0 (x.1 6 - 1))) (va_cwS 1 hC.2.2.2.2 (lw_S q420 q421 q21 q422) rfl rfl rfl (by decide +kernel) ⟨Nat.le_of_ble_eq_true rfl, Nat.le_of_ble_eq_true rfl⟩) rfl hl.1 rfl (Nat.le_of_ble_eq_true rfl) dX1_undo_11 ⟨Nat.le_of_ble_eq_true rfl, Nat.le_of_ble_eq_true rfl⟩ (g_out hC hx0 hlocks (fun k9 hk9 => ?_) ⟨by decide, by decide⟩) (fun H locs hu1 hG => ?_)
  · obtain ⟨rfl, hn⟩ := hk9
    exact if_neg hn
  have hb := inR_b (b := B) (n := 10) (by rw [← hB]; exact hu1) hB1 (by decide)
  refine lv_aload_n hC.1 hC.2.1 dX1_undo_14 rfl (lv_at hl 0 rfl) ?_
  refine g_get hC hE hG in_X1 LW_at.1 (ci := 0) rfl 5 (by decide) q117 (fun _ z => z) rfl dX1_undo_15 ?_
  refine lv_iload_n hC.1 hC.2.1 dX1_undo_18 rfl (lv_at hl 1 rfl) ?_
  refine g_zald hC hE hG (n := 10) LW_at.2.2 (i := a) hb.1 dX1_undo_19 ?_
  refine lv_iload_n hC.1 hC.2.1 dX1_undo_20 rfl (lv_at hl 2 rfl) ?_
  refine lv_icmp_eq (tgt := 28) hC.1 hC.2.1 dX1_undo_21 (by decide) (fun c1 => ?_) (fun c1 => ?_)
  · refine lv_iconst (v := 0) hC.1 hC.2.1 dX1_undo_28 (by decide) ?_
    refine g_xSv (As := [.int (bI False)]) (rest := []) hC hE hG (xt_needState l hst K A _ False) (va_cwS 1 hC.2.2.2.2 (lw_S q462 q463 q21 q464) rfl rfl rfl (by decide +kernel) ⟨Nat.le_of_ble_eq_true rfl, Nat.le_of_ble_eq_true rfl⟩) rfl hl.1 rfl (Nat.le_of_ble_eq_true rfl) dX1_undo_29 ⟨Nat.le_of_ble_eq_true rfl, Nat.le_of_ble_eq_true rfl⟩ (g_out hC hx0 hlocks (fun k9 hk9 => ?_) ⟨by decide, by decide⟩) (fun H locs hu3 hG => hu3.elim)
    obtain ⟨rfl, hn⟩ := hk9
    exact (if_pos hu1).trans (if_pos c1)
  refine lv_iconst (v := 1) hC.1 hC.2.1 dX1_undo_24 (by decide) ?_
  refine lv_goto (tgt := 29) hC.1 hC.2.1 dX1_undo_25 (by decide) ?_
  refine g_xSv (As := [.int (bI True)]) (rest := []) hC hE hG (xt_needState l hst K A _ True) (va_cwS 1 hC.2.2.2.2 (lw_S q462 q463 q21 q464) rfl rfl rfl (by decide +kernel) ⟨Nat.le_of_ble_eq_true rfl, Nat.le_of_ble_eq_true rfl⟩) rfl hl.1 rfl (Nat.le_of_ble_eq_true rfl) dX1_undo_29 ⟨Nat.le_of_ble_eq_true rfl, Nat.le_of_ble_eq_true rfl⟩ (g_out hC hx0 hlocks (fun k9 hk9 => absurd trivial hk9.2) ⟨by decide, by decide⟩) (fun H locs _ hG => ?_)
  refine lv_aload_n hC.1 hC.2.1 dX1_undo_32 rfl (lv_at hl 0 rfl) ?_
  refine g_get hC hE hG in_X1 LW_at.1 (ci := 0) rfl 5 (by decide) q117 (fun _ z => z) rfl dX1_undo_33 ?_
  refine lv_iload_n hC.1 hC.2.1 dX1_undo_36 rfl (lv_at hl 1 rfl) ?_
  refine lv_iload_n hC.1 hC.2.1 dX1_undo_37 rfl (lv_at hl 2 rfl) ?_
  refine g_zast hC hE hG (n := 10) LW_at.2.2 (i := a) hb.1 dX1_undo_38 (fun H locs hG => ?_)
  have hG : gG K A s.heap (LW K.2.1 b (sU x 5 (tN a) z) ad κ G) H locs := hG.eq (by rw [nz01 hz]; exact LW_Z)
  refine lv_aload_n hC.1 hC.2.1 dX1_undo_39 rfl (lv_at hl 0 rfl) ?_
  refine lv_aload_n hC.1 hC.2.1 dX1_undo_40 rfl (lv_at hl 0 rfl) ?_
  refine g_cVq (S := Nat → Nat → Nat) (As := []) (rest := [.ref (b 11)]) hC hE hG (xl_made l K A b (sU x 5 (tN a) z) ad κ G es hEV hc (hO.mv (sU_o (by decide))) hes) (cwV 0 hC.2.2.2.2 (lw_V q186 q188 qs0 q21 q189) rfl rfl rfl (by decide +kernel) ⟨Nat.le_of_ble_eq_true rfl, Nat.le_of_ble_eq_true rfl⟩) LW_at.1 (ci := 0) rfl rfl hl.1 rfl (Nat.le_of_ble_eq_true rfl) dX1_undo_41 ⟨Nat.le_of_ble_eq_true rfl, Nat.le_of_ble_eq_true rfl⟩ (fun r u H locs hr9 hG => ?_)
  subst hr9
  refine g_put hC hE hG in_X1 tyX1 tyX1_ok nmX1 ((cput_n (by show (1 : Nat) ≠ 4; decide)).trans LW_at.1) (ci := 0) rfl 10 (by decide) q123 (fun _ z => z) rfl (tyX1_ok 10 (by decide)) rfl rfl (Nat.le_of_ble_eq_true rfl) dX1_undo_44 (fun H locs hG => ?_)
  have hG : gG K A s.heap (LW K.2.1 b (sU x 5 (tN a) z) u (kAll (sU x 5 (tN a) z) es kZero) G) H locs := now_ren (ad := ad) (κ := κ) hEV.n4 (hG.eq (by
    rw [cput_gup (show (1 : Nat) ≠ 4 by decide)]
    unfold LW
    rw [cput_gup (show (1 : Nat) ≠ 3 by decide)]
    exact congrArg (fun w => cput K.2.1 4 (b 11) u (kAll (sU x 5 (tN a) z) es kZero) (cput K.2.1 3 (b 11) ad κ w)) lop_now))
  refine lv_aload_n hC.1 hC.2.1 dX1_undo_47 rfl (lv_at hl 0 rfl) ?_
  refine g_get hC hE hG in_X1 LW_at.1 (ci := 0) rfl 10 (by decide) q123 (fun _ z => z) rfl dX1_undo_48 ?_
  refine g_roV (As := []) (rest := []) hC hE hG (xt_count l K A (lop K.2.1 b (sU x 5 (tN a) z) (u 0 0) G) 3 (b 11) u (kAll (sU x 5 (tN a) z) es kZero)) (cwV 0 hC.2.2.2.2 (lw_V q159 q160 q161 q25 q162) rfl rfl rfl (by decide +kernel) ⟨Nat.le_of_ble_eq_true rfl, Nat.le_of_ble_eq_true rfl⟩) cput_o (ci := 1) rfl rfl hl.1 rfl (Nat.le_of_ble_eq_true rfl) dX1_undo_51 ⟨Nat.le_of_ble_eq_true rfl, Nat.le_of_ble_eq_true rfl⟩ (fun r hr9 => ?_)
  subst hr9
  refine vx_ret ?_
  refine W.widen (k := 326) (n := 1459) (by decide) (by decide) ?_
  exact g_iret hC hG hr rfl u rfl ((if_pos hu1).trans (if_neg c1)) hlocks dX1_undo_54
