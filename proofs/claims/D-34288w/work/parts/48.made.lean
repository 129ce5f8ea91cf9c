/-! the loader's made: a new catalogue at 4, every event done to it -/
set_option maxRecDepth 100000
set_option maxHeartbeats 4000000 in
theorem xl_made (l : Launch) (K : GK) (A : Nat → Prop) (b : Nat → Nat) (x : MS) (ad : Nat → Nat → Nat) (κ : KS) (G : GM) (es : List Ev) (hEV : EV K b es G) (hc : es.length ≤ 64) (hO : wO x) (hes : okL 0 es)
    : Met l yX1_made (ws_ yX1_made cX1_made 4 (some (.object "CatalogueLoader$Catalogue"))) ({ frames := 4, cells := 324, slots := 1447, locals := 140 }) (va_Pc [.ref (b 11)] (gW K A (LW K.2.1 b x ad κ G))) (va_Qq (fun r (u : Nat → Nat → Nat) => r = some (u 0 0)) (fun u t => gB K A (cput K.2.1 4 (b 11) u (kAll x es kZero) (LW K.2.1 b x ad κ G)) t) A) 324 1447 A := by
  refine g_ofW (cc := cX1_made) (by decide) (own := RX1) rfl (Nat.le_of_ble_eq_true rfl) ?_
  intro p e s mm below meth cd hC hr hlocks hnm hE hG ls hl
  have hl : lv_has ls 4 [(0, .ref (b 11))] := hl
  obtain ⟨m, da, n, f, qs, hL, h2, h3⟩ := hEV
  have hV4 : ∀ z : Lb, 4 ≤ z.1 → LW K.2.1 b x ad κ G z = none := fun z hz => (LW_g (by omega) (by omega)).trans (h3 z (Or.inl hz))
  have hLw := hL.lw (ac := K.2.1) (b := b) (x := x) (ad := ad) (κ := κ)
  refine g_new hC hE hG (4, 0, 0) in_X2 tyX2 tyX2_ok q84 q85 q25 (ci := 1) rfl (fs := [.null, .null, .null]) (by decide) (Nat.le_of_ble_eq_true rfl) (Nat.le_of_ble_eq_true rfl) dX1_made_0 (fun q H hq hG => ?_)
  refine lv_dup hC.1 hC.2.1 dX1_made_3 rfl ?_
  refine lv_aload_n hC.1 hC.2.1 dX1_made_4 rfl (lv_at hl 0 rfl) ?_
  refine g_cIN (n := 1) (S := Nat → Nat) (As := [.ref (b 11)]) (rest := [.ref q]) hC hE hG (xt_init2 l K A _ 4 q (b 11) (gup_s _ _ _)) 0 rfl q88 q25 q87 rfl rfl (by decide +kernel) rfl ⟨Nat.le_of_ble_eq_true rfl, Nat.le_of_ble_eq_true rfl⟩ rfl hl.1 rfl (Nat.le_of_ble_eq_true rfl) dX1_made_5 ⟨Nat.le_of_ble_eq_true rfl, Nat.le_of_ble_eq_true rfl⟩ (fun a9 H locs _ hG => ?_)
  have hG : gG K A s.heap (cput K.2.1 4 (b 11) (catAd q a9) kZero (LW K.2.1 b x ad κ G)) H locs := hG.eq (catput (fun y j => hV4 (4, y, j) (by show 4 ≤ 4; omega)))
  refine lv_astore_n (lv' := [(1, .ref q), (0, .ref (b 11))]) hC.1 hC.2.1 dX1_made_8 rfl hl (by decide) rfl (fun ls hl => ?_)
  refine lv_aload_n hC.1 hC.2.1 dX1_made_9 rfl (lv_at hl 1 rfl) ?_
  refine g_get hC hE hG in_X1 ((cput_n (by show (1 : Nat) ≠ 4; decide)).trans LW_at.1) (ci := 0) rfl 9 (by decide) q122 (fun _ z => z) rfl dX1_made_10 ?_
  refine g_cVr (S := Unit) (As := []) (rest := []) hC hE hG (xt_iterator l K A _ (b 9) m es.length (.ref da) ((cput_n (by show (1 : Nat) ≠ 4; decide)).trans hLw.1)) (cwV 0 hC.2.2.2.2 (lw_V q190 q191 q192 q24 q193) rfl rfl rfl (by decide +kernel) ⟨Nat.le_of_ble_eq_true rfl, Nat.le_of_ble_eq_true rfl⟩) ((cput_n (by show (1 : Nat) ≠ 4; decide)).trans hLw.1) (ci := 8) rfl rfl hl.1 rfl (Nat.le_of_ble_eq_true rfl) dX1_made_13 ⟨Nat.le_of_ble_eq_true rfl, Nat.le_of_ble_eq_true rfl⟩ (fun _ aI H locs _ hG => ?_)
  have hG := hG.eq (cput_gup (by show (5 : Nat) ≠ 4; decide))
  refine lv_astore_n (lv' := [(2, .ref aI), (1, .ref q), (0, .ref (b 11))]) hC.1 hC.2.1 dX1_made_16 rfl hl (by decide) rfl (fun ls hl => ?_)
  have lp : ∀ (nn i : Nat), i + nn = es.length → ∀ (ad' : Nat → Nat → Nat) (w : Int32) (H : Heap) (locs : List Loc), gG K A s.heap (cput K.2.1 4 (b 11) ad' (kAll x (es.take i) kZero) (gup (LW K.2.1 b x ad κ G) (5, 1, 0) (aI, .inr (9, [.int (nI i), .int w, .int (nI m), .ref (b 9)])))) H locs → ∀ (cells slots : Nat), cells ≤ 4 + 5 * i → slots ≤ 167 + 20 * i → ∀ ls : Array Slot, lv_has ls 4 [(2, .ref aI), (1, .ref (ad' 0 0)), (0, .ref (b 11))] →
      W p l e ({ frames := 4, cells := 324, slots := 1447, locals := 140 }) s mm #[.ref (b 11)] below meth cd H locs cells slots (MQ below (va_Qq (fun r (u : Nat → Nat → Nat) => r = some (u 0 0)) (fun u t => gB K A (cput K.2.1 4 (b 11) u (kAll x es kZero) (LW K.2.1 b x ad κ G)) t) A) #[.ref (b 11)] s 324 1447 A) (F0 mm 17 ls []) := by
    intro nn
    induction nn with
    | zero =>
      intro i hi ad' w H locs hG cells slots hcl hsl ls hl
      have hI : cput K.2.1 4 (b 11) ad' (kAll x (es.take i) kZero) (gup (LW K.2.1 b x ad κ G) (5, 1, 0) (aI, .inr (9, [.int (nI i), .int w, .int (nI m), .ref (b 9)]))) (5, 1, 0) = some (aI, .inr (9, [.int (nI i), .int w, .int (nI m), .ref (b 9)])) := (cput_n (by show (5 : Nat) ≠ 4; decide)).trans (gup_s _ _ _)
      refine lv_aload_n hC.1 hC.2.1 dX1_made_17 rfl (lv_at hl 0 rfl) ?_
      refine g_roF (As := []) (rest := []) hC hE hG (xt_hasNext l K A _ aI (b 9) m es.length i (.ref da) w hI ((cput_n (by show (1 : Nat) ≠ 4; decide)).trans ((gup_n _ _ (by decide)).trans hLw.1)) (by omega) (by omega)) (g_Fcw (n := 0) hC hE 4 rfl q214 q218 q220 q44 q222 rfl rfl (by decide +kernel) ⟨Nat.le_of_ble_eq_true rfl, Nat.le_of_ble_eq_true rfl⟩) hI (ci := 9) rfl rfl hl.1 rfl (Nat.le_of_ble_eq_true rfl) dX1_made_18 ⟨by show cells ≤ 324; omega, by show slots ≤ 1447; omega⟩ (fun r hr9 => ?_)
      subst hr9
      refine b_eq (tgt := 46) hC dX1_made_23 (by decide) (fun c1 => ?_) (fun c1 => absurd (by omega) c1)
      refine lv_aload_n hC.1 hC.2.1 dX1_made_46 rfl (lv_at hl 1 rfl) ?_
      have hG : gG K A s.heap (cput K.2.1 4 (b 11) ad' (kAll x es kZero) (LW K.2.1 b x ad κ G)) H locs := by
        rw [show es.take i = es from List.take_of_length_le (by omega)] at hG
        refine hG.le (fun z p hz => ?_)
        by_cases e4 : z.1 = 4
        · unfold cput at hz ⊢
          rw [if_pos e4] at hz ⊢
          exact hz
        · rw [cput_n e4] at hz ⊢
          rw [gup_n _ _ (fun e => by rw [e, hV4 _ (by decide)] at hz; cases hz)]
          exact hz
      refine W.widen (k := 324) (n := 1447) (by omega) (by omega) ?_
      exact W.aret hC.1 hC.2.1 hr (Or.inl ⟨_, rfl⟩) (Or.inr ⟨_, rfl⟩) (fun t ht hW => ⟨⟨some (ad' 0 0), ad', rfl, rfl, by rw [ht]; exact hG.1, hG.2.1⟩, hG.2.2.1.F ht⟩) hG.2.2.1.2.2 dX1_made_47 hlocks
    | succ nn ih =>
      intro i hi ad' w H locs hG cells slots hcl hsl ls hl
      have hlt : i < es.length := by omega
      obtain ⟨ev, hev⟩ : ∃ ev, es[i]? = some ev := ⟨_, List.getElem?_eq_getElem hlt⟩
      obtain ⟨hat, hfi⟩ := h2 i ev hev
      have hI : cput K.2.1 4 (b 11) ad' (kAll x (es.take i) kZero) (gup (LW K.2.1 b x ad κ G) (5, 1, 0) (aI, .inr (9, [.int (nI i), .int w, .int (nI m), .ref (b 9)]))) (5, 1, 0) = some (aI, .inr (9, [.int (nI i), .int w, .int (nI m), .ref (b 9)])) := (cput_n (by show (5 : Nat) ≠ 4; decide)).trans (gup_s _ _ _)
      have hL1 := (cput_n (ac := K.2.1) (t := 4) (lo := b 11) (ad := ad') (κ := kAll x (es.take i) kZero) (by show (1 : Nat) ≠ 4; decide)).trans ((gup_n (LW K.2.1 b x ad κ G) (aI, .inr (9, [.int (nI i), .int w, .int (nI m), .ref (b 9)])) (show ((1, 12, 0) : Lb) ≠ (5, 1, 0) by decide)).trans hLw.1)
      have hR0 : LW K.2.1 b x ad κ G (1, 13, 0) = some (da, .inl (K.2.1 3, n, .inr (.inr (.inr (.inr f))))) := by
        rcases hLw.2.1 with k | k
        · omega
        · exact k.2
      have hR1 := (cput_n (ac := K.2.1) (t := 4) (lo := b 11) (ad := ad') (κ := kAll x (es.take i) kZero) (by show (1 : Nat) ≠ 4; decide)).trans ((gup_n (LW K.2.1 b x ad κ G) (aI, .inr (9, [.int (nI i), .int w, .int (nI m), .ref (b 9)])) (show ((1, 13, 0) : Lb) ≠ (5, 1, 0) by decide)).trans hR0)
      refine lv_aload_n hC.1 hC.2.1 dX1_made_17 rfl (lv_at hl 0 rfl) ?_
      refine g_roF (As := []) (rest := []) hC hE hG (xt_hasNext l K A _ aI (b 9) m es.length i (.ref da) w hI hL1 (by omega) (by omega)) (g_Fcw (n := 0) hC hE 4 rfl q214 q218 q220 q44 q222 rfl rfl (by decide +kernel) ⟨Nat.le_of_ble_eq_true rfl, Nat.le_of_ble_eq_true rfl⟩) hI (ci := 9) rfl rfl hl.1 rfl (Nat.le_of_ble_eq_true rfl) dX1_made_18 ⟨by show cells ≤ 324; omega, by show slots ≤ 1447; omega⟩ (fun r hr9 => ?_)
      subst hr9
      refine b_eq (tgt := 46) hC dX1_made_23 (by decide) (fun c1 => absurd (by omega) c1) (fun c1 => ?_)
      refine lv_aload_n hC.1 hC.2.1 dX1_made_26 rfl (lv_at hl 0 rfl) ?_
      refine g_cFq (S := Unit) (As := []) (rest := []) hC hE hG (xt_next l K A _ aI (b 9) m da es.length n i (qs i 0) f w hI hL1 hR1 hlt hLw.2.2.1 hLw.2.2.2.1 hfi) (g_Fcw (n := 0) hC hE 5 rfl q224 q227 q229 q44 q231 rfl rfl (by decide +kernel) ⟨Nat.le_of_ble_eq_true rfl, Nat.le_of_ble_eq_true rfl⟩) hI (ci := 9) rfl rfl hl.1 rfl (Nat.le_of_ble_eq_true rfl) dX1_made_27 ⟨by show cells + 0 ≤ 324; omega, by show slots + 0 ≤ 1447; omega⟩ (fun r _ H locs hr9 hG => ?_)
      subst hr9
      have hG := hG.eq ((cput_gup (by show (5 : Nat) ≠ 4; decide)).trans (by rw [gup_gup]))
      obtain ⟨y9, ci9, fs9, ⟨C9, T9, N9⟩, k1, k2, k3, k4⟩ := hat.ev
      have hat1 : evAt K.2.1 (b 11) i (qs i) ev (gup (LW K.2.1 b x ad κ G) (5, 1, 0) (aI, .inr (9, [.int (nI (i + 1)), .int (nI i), .int (nI m), .ref (b 9)]))) := (hat.to (fun j => LW_g (by show (2 : Nat) ≠ 3; decide) (by show ¬ ((2 : Nat) = 1 ∧ _); omega))).to (fun j => gup_n _ _ (fun e => by cases e))
      refine va_castY hC.1 hC.2.1 hC.2.2.2.1 (hC.2.2.2.2 _ q236) (hE.2.1.2.2.2.1 _ k3) (g_recv hE hG ((cput_n (by omega)).trans ((gup_n _ _ (fun e => by rw [e] at k4; exact absurd k4 (by decide))).trans ((LW_g (by omega) (by omega)).trans k1))) k2) dX1_made_32 ?_
      refine lv_astore_n (lv' := [(3, .ref (qs i 0)), (2, .ref aI), (1, .ref (ad' 0 0)), (0, .ref (b 11))]) hC.1 hC.2.1 dX1_made_35 rfl hl (by decide) rfl (fun ls hl => ?_)
      refine lv_aload_n hC.1 hC.2.1 dX1_made_36 rfl (lv_at hl 0 rfl) ?_
      refine lv_aload_n hC.1 hC.2.1 dX1_made_37 rfl (lv_at hl 2 rfl) ?_
      refine g_ev (rest := []) (cn := ad 0 0) (N := nAll (es.take i) 0) hC hE hG (by decide) ⟨(gup_n _ _ (by decide)).trans LW_at.1, fun k hk => (gup_n _ _ (fun e => by cases e)).trans (LW_at.2.1 k hk), (gup_n _ _ (by decide)).trans LW_at.2.2⟩ hat1 (hes.at hev) ((hes.take i |> fun h => kIv.all h kIv.zero)) hO ⟨Nat.le_of_ble_eq_true rfl, Nat.le_of_ble_eq_true rfl⟩ hl.1 rfl (Nat.le_of_ble_eq_true rfl) dX1_made_38 ⟨by show cells + 0 + 5 ≤ 324; omega, by show slots + 0 + 20 ≤ 1447; omega⟩ (fun ad2 H locs had hG => ?_)
      refine lv_goto (tgt := 17) hC.1 hC.2.1 dX1_made_43 (by decide) ?_
      rw [← kAll_take hev] at hG
      refine ih (i + 1) (by omega) ad2 (nI i) H locs hG _ _ (by omega) (by omega) ls ?_
      rw [had 0 (eAd0 ev)]
      exact lv_sub hl [1, 2, 3] rfl
  exact lp es.length 0 (by omega) (catAd q a9) (-1) H locs hG _ _ (by decide) (by decide) ls hl
