/-! the loader's hold, protect, merge -/
set_option maxRecDepth 100000
def cHold (κ : KS) (a : Int32) : Ex Int32 := if kHas κ a then .ok ((kR κ a).2 + 1) else .error 1
set_option maxHeartbeats 4000000 in
theorem xl_hold (l : Launch) (hst : l.stackTraces = false) (K : GK) (A : Nat → Prop) (b : Nat → Nat) (x : MS) (ad : Nat → Nat → Nat) (κ : KS) (G : GM) (es : List Ev) (N : Nat) (hEV : EV K b es G) (hc : es.length ≤ 63) (hki : kIv κ N) (hO : wO x) (Ac : Nat) (hA : x.1 8 = nI Ac) (hA1 : Ac < 100) (a : Int32)
    : vx_Met l yX1_hold (ws_ yX1_hold cX1_hold 3 (some .int)) ({ frames := 9, cells := 9, slots := 133, locals := 500 }) (va_Pc [.ref (b 11), .int a] (gW K A (LW K.2.1 b x ad κ G))) (va_Qi (fun (r : Int32) (u : GM × (Nat → Nat → Nat)) => cHold κ a = .ok r ∧ EV K b (es ++ [.inr (.inr (.inl (tN a)))]) u.1 ∧ g0 u.1 G) (fun u t => gB K A (LW K.2.1 b (sS x 8 (nI (Ac + 1))) u.2 (kHold (tN a) κ) u.1) t) A) (gXC K A (LW K.2.1 b x ad κ G) (fun k => cHold κ a = .error k)) 9 133 A := by
  refine g_ofX (cc := cX1_hold) (by decide) (own := RX1) rfl (Nat.le_of_ble_eq_true rfl) ?_
  intro p e s mm below meth cd hC hr hlocks hx0 hE hG ls hl
  have hl : lv_has ls 3 [(0, .ref (b 11)), (1, .int a)] := hl
  obtain ⟨m, da, n, f, qs, hL, h2, h3⟩ := hEV
  refine lv_aload_n hC.1 hC.2.1 dX1_hold_0 rfl (lv_at hl 0 rfl) ?_
  refine lv_iload_n hC.1 hC.2.1 dX1_hold_1 rfl (lv_at hl 1 rfl) ?_
  refine g_xVq (As := [.int a]) (rest := []) hC hE hG (xt_record l hst K A b x ad κ G a) (cwV 1 hC.2.2.2.2 (lw_V q636 q638 qs6 q21 q639) rfl rfl rfl (by decide +kernel) ⟨Nat.le_of_ble_eq_true rfl, Nat.le_of_ble_eq_true rfl⟩) LW_at.1 (ci := 0) rfl rfl hl.1 rfl (Nat.le_of_ble_eq_true rfl) dX1_hold_2 ⟨Nat.le_of_ble_eq_true rfl, Nat.le_of_ble_eq_true rfl⟩ (g_out hC hx0 hlocks (fun k9 hk9 => ?_) ⟨by decide, by decide⟩) (fun r2 H locs hu2 hG => ?_)
  · obtain ⟨rfl, hn⟩ := hk9
    exact if_neg hn
  obtain ⟨hu2, hr2⟩ := hu2
  obtain ⟨j, hj, rfl⟩ := kHas_j hu2
  rw [tN_nI (by omega)] at hr2
  subst hr2
  obtain ⟨rr, hk⟩ := kHas_y hj hu2
  refine lv_astore_n (lv' := [(2, .ref (ad (j + 1) 0)), (0, .ref (b 11)), (1, .int (nI j))]) hC.1 hC.2.1 dX1_hold_5 rfl hl (by decide) rfl (fun ls hl => ?_)
  refine lv_aload_n hC.1 hC.2.1 dX1_hold_6 rfl (lv_at hl 1 rfl) ?_
  refine g_new hC hE hG (2, es.length, 0) in_X7 tyX7 tyX7_ok q667 q668 q42 (ci := 6) rfl (fs := [.int 0]) (by decide) (Nat.le_of_ble_eq_true rfl) (Nat.le_of_ble_eq_true rfl) dX1_hold_7 (fun q H hq hG => ?_)
  refine lv_dup hC.1 hC.2.1 dX1_hold_10 rfl ?_
  refine lv_iload_n hC.1 hC.2.1 dX1_hold_11 rfl (lv_at hl 2 rfl) ?_
  refine g_cI (As := [.int (nI j)]) (rest := [.ref q, .ref (b 11)]) hC hE hG (xt_init7 l K A _ (2, es.length, 0) q j (gup_s _ _ _)) (cwI 1 hC.2.2.2.2 (lw_meth q671) rfl rfl rfl (hC.2.2.2.2 _ q42) (hC.2.2.2.2 _ q669) (hC.2.2.2.2 _ q670) rfl (by decide +kernel) ⟨Nat.le_of_ble_eq_true rfl, Nat.le_of_ble_eq_true rfl⟩) rfl hl.1 rfl (Nat.le_of_ble_eq_true rfl) dX1_hold_12 ⟨Nat.le_of_ble_eq_true rfl, Nat.le_of_ble_eq_true rfl⟩ (fun _ H locs _ hG => ?_)
  have hG : gG K A s.heap (LW K.2.1 b x ad κ (gup G (2, es.length, 0) (q, .inr (6, [.int (nI j)])))) H locs := hG.eq ((gup_gup _ _ _ _).trans (LW_gup (by show (2 : Nat) ≠ 3; decide) (by show ¬ ((2 : Nat) = 1 ∧ _); omega)))
  have hev : evAt K.2.1 (b 11) es.length (fun _ => q) (.inr (.inr (.inl j))) (gup G (2, es.length, 0) (q, .inr (6, [.int (nI j)]))) := gup_s _ _ _
  refine g_cVv (As := [.ref q]) (rest := []) hC hE hG (xl_act l hst K A b x ad κ _ m da es.length n N f (hL.new (h3 _ (Or.inr ⟨rfl, Nat.le_refl _⟩)) rfl) (by omega) (fun _ => q) _ hev hj hki hO Ac hA hA1) (cwV 1 hC.2.2.2.2 (lw_V q656 q658 qs7 q21 q659) rfl rfl rfl (by decide +kernel) ⟨Nat.le_of_ble_eq_true rfl, Nat.le_of_ble_eq_true rfl⟩) LW_at.1 (ci := 0) rfl rfl hl.1 rfl (Nat.le_of_ble_eq_true rfl) dX1_hold_15 ⟨Nat.le_of_ble_eq_true rfl, Nat.le_of_ble_eq_true rfl⟩ (fun u H locs hu hG => ?_)
  have hk' : (kHold j κ).1 j = some (rV rr (rr.2 + 1)) := by
    unfold kHold
    rw [hk]
    exact kSet_at
  refine lv_aload_n hC.1 hC.2.1 dX1_hold_18 rfl (lv_at hl 0 rfl) ?_
  rw [show ad (j + 1) 0 = u.2 (j + 1) 0 by rw [hu.2 (j + 1) trivial]]
  refine g_getN hC hE hG in_X5 (cput_ro hk') (ci := 4) rfl 4 (by decide) 7 rfl (fun _ z => z) rfl dX1_hold_19 ?_
  refine vx_ret ?_
  refine g_iret hC hG hr rfl (_, u.2) (by rw [tN_nI (by omega)]; rfl) ⟨?_, ?_, ?_⟩ hlocks dX1_hold_22
  · unfold cHold
    rw [if_pos hu2, kR_at hj hk]
    rfl
  · rw [tN_nI (by omega)]
    exact EV.step h2 h3 (fun x hx => gup_n _ _ (fun e => by rw [e] at hx; rcases hx with g | g; exact g rfl; exact g rfl)) hev hu.1 hu.1.2.1
  · exact (g0.gup (by show (2 : Nat) ≠ 0; decide)).lput
def cProtect (κ : KS) (a v : Int32) : Ex Int32 := if kHas κ a then (if inR v 0 3 then .ok ((kR κ a).1 4 (tN v)) else .error 1) else .error 1
/-- protection is yes or no -/
def kB (κ : KS) : Prop := ∀ j r, κ.1 j = some r → ∀ i, r.1 4 i = 0 ∨ r.1 4 i = 1
theorem inR_nI {v : Int32} {n : Nat} (h : inR v 0 (nI n)) (hn : n < 1000) : ∃ i, i ≤ n ∧ v = nI i := by
  have h1 := inR_in h hn rfl
  rcases pk_ix v (n := n + 1) (by omega) with q | q | ⟨i, hi, q⟩
  · exact absurd (Or.inl q) h1
  · exfalso
    obtain ⟨i, hi, e⟩ := nI_of2 (M := nI n) (n := n) (nI_toInt (by omega)) (fun q => h1 (Or.inl q)) h.2
    rw [e] at q
    exact absurd ((nI_leI (by omega) (by omega)).mp q) (by omega)
  · exact ⟨i, by omega, q⟩
set_option maxHeartbeats 4000000 in
theorem xl_protect (l : Launch) (hst : l.stackTraces = false) (K : GK) (A : Nat → Prop) (b : Nat → Nat) (x : MS) (ad : Nat → Nat → Nat) (κ : KS) (G : GM) (es : List Ev) (N : Nat) (hEV : EV K b es G) (hc : es.length ≤ 63) (hki : kIv κ N) (hkb : kB κ) (hO : wO x) (Ac : Nat) (hA : x.1 8 = nI Ac) (hA1 : Ac < 100) (a v z : Int32) (hz : z = 0 ∨ z = 1)
    : vx_Met l yX1_protect (ws_ yX1_protect cX1_protect 6 (some .boolean)) ({ frames := 9, cells := 10, slots := 141, locals := 500 }) (va_Pc [.ref (b 11), .int a, .int v, .int z] (gW K A (LW K.2.1 b x ad κ G))) (va_Qi (fun (r : Int32) (u : GM × (Nat → Nat → Nat)) => cProtect κ a v = .ok r ∧ EV K b (es ++ [.inr (.inl (tN a, tN v, z))]) u.1 ∧ g0 u.1 G) (fun u t => gB K A (LW K.2.1 b (sS x 8 (nI (Ac + 1))) u.2 (kProt (tN a) (tN v) z κ) u.1) t) A) (gXC K A (LW K.2.1 b x ad κ G) (fun k => cProtect κ a v = .error k)) 10 141 A := by
  refine g_ofX (cc := cX1_protect) (by decide) (own := RX1) rfl (Nat.le_of_ble_eq_true rfl) ?_
  intro p e s mm below meth cd hC hr hlocks hx0 hE hG ls hl
  have hl : lv_has ls 6 [(0, .ref (b 11)), (1, .int a), (2, .int v), (3, .int z)] := hl
  obtain ⟨m, da, n, f, qs, hL, h2, h3⟩ := hEV
  refine lv_aload_n hC.1 hC.2.1 dX1_protect_0 rfl (lv_at hl 0 rfl) ?_
  refine lv_iload_n hC.1 hC.2.1 dX1_protect_1 rfl (lv_at hl 1 rfl) ?_
  refine g_xVq (As := [.int a]) (rest := []) hC hE hG (xt_record l hst K A b x ad κ G a) (cwV 1 hC.2.2.2.2 (lw_V q636 q638 qs6 q21 q639) rfl rfl rfl (by decide +kernel) ⟨Nat.le_of_ble_eq_true rfl, Nat.le_of_ble_eq_true rfl⟩) LW_at.1 (ci := 0) rfl rfl hl.1 rfl (Nat.le_of_ble_eq_true rfl) dX1_protect_2 ⟨Nat.le_of_ble_eq_true rfl, Nat.le_of_ble_eq_true rfl⟩ (g_out hC hx0 hlocks (fun k9 hk9 => ?_) ⟨by decide, by decide⟩) (fun r2 H locs hu2 hG => ?_)
  · obtain ⟨rfl, hn⟩ := hk9
    exact if_neg hn
  obtain ⟨hu2, hr2⟩ := hu2
  obtain ⟨j, hj, rfl⟩ := kHas_j hu2
  rw [tN_nI (by omega)] at hr2
  subst hr2
  obtain ⟨rr, hk⟩ := kHas_y hj hu2
  refine lv_astore (lv' := [(4, .ref (ad (j + 1) 0)), (0, .ref (b 11)), (1, .int (nI j)), (2, .int v), (3, .int z)]) hC.1 hC.2.1 dX1_protect_5 hl (by decide) rfl (fun ls hl => ?_)
  refine lv_iload_n hC.1 hC.2.1 dX1_protect_7 rfl (lv_at hl 3 rfl) ?_
  refine g_xSv (As := [.int v]) (rest := []) hC hE hG (xt_needField l hst K A _ v) (va_cwS 1 hC.2.2.2.2 (lw_S q487 q488 q21 q489) rfl rfl rfl (by decide +kernel) ⟨Nat.le_of_ble_eq_true rfl, Nat.le_of_ble_eq_true rfl⟩) rfl hl.1 rfl (Nat.le_of_ble_eq_true rfl) dX1_protect_8 ⟨Nat.le_of_ble_eq_true rfl, Nat.le_of_ble_eq_true rfl⟩ (g_out hC hx0 hlocks (fun k9 hk9 => ?_) ⟨by decide, by decide⟩) (fun H locs hu3 hG => ?_)
  · obtain ⟨rfl, hn⟩ := hk9
    exact (if_pos hu2).trans (if_neg hn)
  obtain ⟨i, hi, rfl⟩ := inR_nI (n := 3) hu3 (by decide)
  refine lv_aload hC.1 hC.2.1 dX1_protect_11 (lv_at hl 0 rfl) ?_
  refine g_getN hC hE hG in_X5 (cput_ro hk) (ci := 4) rfl 3 (by decide) 6 rfl (fun _ z => z) rfl dX1_protect_13 ?_
  refine lv_iload_n hC.1 hC.2.1 dX1_protect_16 rfl (lv_at hl 3 rfl) ?_
  refine g_zld hC hE hG (n := 4) (cput_r4 hk) (by decide) (j := i) (v := rr.1 4 i) (by omega) rfl dX1_protect_17 ?_
  refine lv_istore (lv' := [(5, .int (rr.1 4 i)), (4, .ref (ad (j + 1) 0)), (0, .ref (b 11)), (1, .int (nI j)), (2, .int (nI i)), (3, .int z)]) hC.1 hC.2.1 dX1_protect_18 hl (by decide) rfl (fun ls hl => ?_)
  refine lv_aload_n hC.1 hC.2.1 dX1_protect_20 rfl (lv_at hl 2 rfl) ?_
  refine g_new hC hE hG (2, es.length, 0) in_X6 tyX6 tyX6_ok q640 q641 q41 (ci := 5) rfl (fs := [.int 0, .int 0, .int 0]) (by decide) (Nat.le_of_ble_eq_true rfl) (Nat.le_of_ble_eq_true rfl) dX1_protect_21 (fun q H hq hG => ?_)
  refine lv_dup hC.1 hC.2.1 dX1_protect_24 rfl ?_
  refine lv_iload_n hC.1 hC.2.1 dX1_protect_25 rfl (lv_at hl 3 rfl) ?_
  refine lv_iload_n hC.1 hC.2.1 dX1_protect_26 rfl (lv_at hl 4 rfl) ?_
  refine lv_iload_n hC.1 hC.2.1 dX1_protect_27 rfl (lv_at hl 5 rfl) ?_
  refine g_cI (As := [.int (nI j), .int (nI i), .int z]) (rest := [.ref q, .ref (b 11)]) hC hE hG (xt_init6 l K A _ (2, es.length, 0) q j i z hz (gup_s _ _ _)) (cwI 3 hC.2.2.2.2 (lw_meth q644) rfl rfl rfl (hC.2.2.2.2 _ q41) (hC.2.2.2.2 _ q642) (hC.2.2.2.2 _ q643) rfl (by decide +kernel) ⟨Nat.le_of_ble_eq_true rfl, Nat.le_of_ble_eq_true rfl⟩) rfl hl.1 rfl (Nat.le_of_ble_eq_true rfl) dX1_protect_28 ⟨Nat.le_of_ble_eq_true rfl, Nat.le_of_ble_eq_true rfl⟩ (fun _ H locs _ hG => ?_)
  have hG : gG K A s.heap (LW K.2.1 b x ad κ (gup G (2, es.length, 0) (q, .inr (5, [.int (nI j), .int (nI i), .int z])))) H locs := hG.eq ((gup_gup _ _ _ _).trans (LW_gup (by show (2 : Nat) ≠ 3; decide) (by show ¬ ((2 : Nat) = 1 ∧ _); omega)))
  have hev : evAt K.2.1 (b 11) es.length (fun _ => q) (.inr (.inl (j, i, z))) (gup G (2, es.length, 0) (q, .inr (5, [.int (nI j), .int (nI i), .int z]))) := gup_s _ _ _
  refine g_cVv (As := [.ref q]) (rest := []) hC hE hG (xl_act l hst K A b x ad κ _ m da es.length n N f (hL.new (h3 _ (Or.inr ⟨rfl, Nat.le_refl _⟩)) rfl) (by omega) (fun _ => q) _ hev ⟨hj, by omega, hz⟩ hki hO Ac hA hA1) (cwV 1 hC.2.2.2.2 (lw_V q656 q658 qs7 q21 q659) rfl rfl rfl (by decide +kernel) ⟨Nat.le_of_ble_eq_true rfl, Nat.le_of_ble_eq_true rfl⟩) LW_at.1 (ci := 0) rfl rfl hl.1 rfl (Nat.le_of_ble_eq_true rfl) dX1_protect_31 ⟨Nat.le_of_ble_eq_true rfl, Nat.le_of_ble_eq_true rfl⟩ (fun u H locs hu hG => ?_)
  refine lv_iload hC.1 hC.2.1 dX1_protect_34 (lv_at hl 0 rfl) ?_
  refine vx_ret ?_
  refine W.widen (k := 10) (n := 141) (by decide) (by decide) ?_
  refine g_iret hC hG hr (nb01 (hkb j rr hk i)) (_, u.2) (by rw [tN_nI (by omega), tN_nI (by omega)]; rfl) ⟨?_, ?_, ?_⟩ hlocks dX1_protect_36
  · unfold cProtect
    rw [if_pos hu2, if_pos hu3, kR_at hj hk, tN_nI (by omega)]
  · rw [tN_nI (by omega), tN_nI (by omega)]
    exact EV.step h2 h3 (fun x hx => gup_n _ _ (fun e => by rw [e] at hx; rcases hx with g | g; exact g rfl; exact g rfl)) hev hu.1 hu.1.2.1
  · exact (g0.gup (by show (2 : Nat) ≠ 0; decide)).lput
